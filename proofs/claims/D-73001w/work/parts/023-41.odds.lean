set_option maxRecDepth 100000
/-! op 18: odds -/
def oddV (liv : Int32) (a : AI) (n : Nat) (has : Nat → Int32) (p : Nat) (q : Int32) (s : Int32) : Nat := if thenH liv a n has s p < q then 0 else 1
theorem oddV_le {liv : Int32} {a : AI} {n : Nat} {has : Nat → Int32} {p : Nat} {q s : Int32} : oddV liv a n has p q s ≤ 594 := by unfold oddV; split <;> omega
theorem M_atLeast5 {n p L : Nat} (hn : n ≤ 6) (hp : p < n) (hL : L < 64) (q fh fc fn fs tl th tc tn ts : Int32) (thas thours ph pr pd : AI) (hd : deadO n (nI L) ph) {dN : Nat → Nat} (hdN : ∀ j, j < n → pd j = nI (dN j) ∧ dN j ≤ 100) :
    ∃ r, MX5_atLeast (nI p) q (nI L) fh fc fn fs (nI n) tl th tc tn ts thas thours ph pr n pd = some r ∧ r.1 = lN (sumN (nI L) (fun set => weightN (nI L) set dN n) (oddV (nI L) pr n ph p q) (L + 1)) ∧ r.2.1 = wholeF (nI L) n := by
  obtain ⟨r, e, h⟩ := loop_FU (f := fun s_ : Int64 × Int32 × Int32 × Int32 × Int32 × Int32 × Int32 × AI × AI => BX5_atLeast_11 (nI p) q (nI L) fh fc fn fs (nI n) ph pr n pd (wholeF (nI L) n) s_.1 s_.2.1 s_.2.2.1 s_.2.2.2.1 s_.2.2.2.2.1 s_.2.2.2.2.2.1 s_.2.2.2.2.2.2.1 s_.2.2.2.2.2.2.2.1 s_.2.2.2.2.2.2.2.2)
    (fun i s => s.1 = lN (sumN (nI L) (fun set => weightN (nI L) set dN n) (oddV (nI L) pr n ph p q) i) ∧ s.2.1 = nI i) (fun r => r.1 = lN (sumN (nI L) (fun set => weightN (nI L) set dN n) (oddV (nI L) pr n ph p q) (L + 1))) (L + 1) (by omega) ((0 : Int64), (0 : Int32), tl, th, tc, tn, ts, thas, thours) ⟨rfl, rfl⟩
    (by
      intro i s hi hs
      obtain ⟨a, b, c1, c2, c3, c4, c5, f, g⟩ := s
      obtain ⟨z1, z2⟩ := hs
      dsimp only at z1 z2
      subst z1; subst z2
      refine Or.inl ?_
      show ∃ s', BX5_atLeast_11 (nI p) q (nI L) fh fc fn fs (nI n) ph pr n pd (wholeF (nI L) n) _ (nI i) c1 c2 c3 c4 c5 f g = some (.inl s') ∧ _
      unfold BX5_atLeast_11
      rw [if_neg (nI_nlt (by omega) (by omega)), nI_1]
      by_cases q1 : (nI i &&& (nI L ^^^ (-1 : Int32))) = 0
      · rw [if_pos q1]
        obtain ⟨has', hours', e1, e2, -⟩ := M_dies4 hn (nI i) (nI L) fh fc fn fs f g ph pr hd
        rw [e1, Option.bind_some, gi_nI (by omega) (by decide), nIc (by omega)]
        dsimp only
        have e2' : has' p = thenH (nI L) pr n ph (nI i) p := e2 p hp
        rw [M_weight5 hn, Option.bind_some, weight_lN n hdN]
        by_cases q2 : thenH (nI L) pr n ph (nI i) p < q
        · rw [if_pos (show has' p < q by rw [e2']; exact q2)]
          exact ⟨_, rfl, by show _ = lN (if _ then _ else _); rw [if_pos q1, show oddV (nI L) pr n ph p q (nI i) = 0 by unfold oddV; rw [if_pos q2], Nat.mul_zero]; rfl, rfl⟩
        · rw [if_neg (show ¬ has' p < q by rw [e2']; exact q2)]
          exact ⟨_, rfl, by show _ = lN (if _ then _ else _); rw [if_pos q1, ← lN_add, show oddV (nI L) pr n ph p q (nI i) = 1 by unfold oddV; rw [if_neg q2], Nat.mul_one], rfl⟩
      · rw [if_neg q1]
        exact ⟨_, rfl, by show _ = lN (if _ then _ else _); rw [if_neg q1], rfl⟩)
    (by
      intro s hs
      obtain ⟨a, b, c1, c2, c3, c4, c5, f, g⟩ := s
      obtain ⟨z1, z2⟩ := hs
      dsimp only at z1 z2
      subst z1; subst z2
      exact ⟨_, by show BX5_atLeast_11 (nI p) q (nI L) fh fc fn fs (nI n) ph pr n pd (wholeF (nI L) n) _ (nI (L + 1)) c1 c2 c3 c4 c5 f g = _; unfold BX5_atLeast_11; rw [if_pos (nI_lt (by omega) (by omega))], rfl⟩)
  refine ⟨_, by unfold MX5_atLeast; rw [M_lay5 hn, Option.bind_some, e, Option.bind_some], h, rfl⟩
theorem L_odds7 {n p L : Nat} (hn : n ≤ 6) (hp : p < n) (hL : L < 64) (q cg : Int32) (wh : Int64) (x heir d th a : AI) (has : Nat → Int32) (hxl : x 42 = nI L) (hx : ∀ j, j < n → x j = has j) (hh : ∀ j, j < n → heir j = heirF (x 42) (hX a) j n) {dN : Nat → Nat} (hdN : ∀ j, j < n → d j = nI (dN j) ∧ dN j ≤ 100) :
    ∃ r, loopN FU (fun s_ : Int64 × Int32 × Int32 × AI => BX7_odds_52 (nI p) q (nI n) d wh x heir s_.1 s_.2.1 s_.2.2.1 s_.2.2.2) ((0 : Int64), (0 : Int32), cg, th) = some r ∧ r.1 = lN (sumN (nI L) (fun set => weightN (nI L) set dN n) (oddV (nI L) a n has p q) (L + 1)) := by
  apply loop_FU (f := fun s_ : Int64 × Int32 × Int32 × AI => BX7_odds_52 (nI p) q (nI n) d wh x heir s_.1 s_.2.1 s_.2.2.1 s_.2.2.2)
    (fun i s => s.1 = lN (sumN (nI L) (fun set => weightN (nI L) set dN n) (oddV (nI L) a n has p q) i) ∧ s.2.1 = nI i) (fun r => r.1 = lN (sumN (nI L) (fun set => weightN (nI L) set dN n) (oddV (nI L) a n has p q) (L + 1))) (L + 1) (by omega) ((0 : Int64), (0 : Int32), cg, th) ⟨rfl, rfl⟩
  · intro i s hi hs
    obtain ⟨s0, b, c1, f⟩ := s
    obtain ⟨z1, z2⟩ := hs
    dsimp only at z1 z2
    subst z1; subst z2
    refine Or.inl ?_
    show ∃ s', BX7_odds_52 (nI p) q (nI n) d wh x heir _ (nI i) c1 f = some (.inl s') ∧ _
    unfold BX7_odds_52
    obtain ⟨th', e1, e2⟩ := M_dying7 hn (nI i) f x heir a has hx hh
    have e2' : th' p = thenH (nI L) a n has (nI i) p := by rw [e2 p hp, hxl]; rfl
    rw [e1, Option.bind_some, M_part7 hn, Option.bind_some, hxl, if_neg (nI_nlt (by omega) (by omega)), nI_1, gi_nI (by omega) (by decide), nIc (by omega)]
    dsimp only
    rw [weight_lN n hdN]
    by_cases q1 : (nI i &&& (nI L ^^^ (-1 : Int32))) = 0
    · rw [if_pos q1]
      by_cases q2 : thenH (nI L) a n has (nI i) p < q
      · rw [if_pos (show th' p < q by rw [e2']; exact q2), show (0 : Int64) = lN 0 from rfl, lN_add, Nat.add_zero]
        exact ⟨_, rfl, by show _ = lN (if _ then _ else _); rw [if_pos q1, show oddV (nI L) a n has p q (nI i) = 0 by unfold oddV; rw [if_pos q2], Nat.mul_zero]; rfl, rfl⟩
      · rw [if_neg (show ¬ th' p < q by rw [e2']; exact q2)]
        exact ⟨_, rfl, by show _ = lN (if _ then _ else _); rw [if_pos q1, ← lN_add, show oddV (nI L) a n has p q (nI i) = 1 by unfold oddV; rw [if_neg q2], Nat.mul_one], rfl⟩
    · rw [if_neg q1]
      exact ⟨_, rfl, by show _ = lN (if _ then _ else _); rw [if_neg q1], rfl⟩
  · intro s hs
    obtain ⟨s0, b, c1, f⟩ := s
    obtain ⟨z1, z2⟩ := hs
    dsimp only at z1 z2
    subst z1; subst z2
    exact ⟨_, by show BX7_odds_52 (nI p) q (nI n) d wh x heir _ (nI (L + 1)) c1 f = _; unfold BX7_odds_52; rw [hxl, if_pos (nI_lt (by omega) (by omega))], rfl⟩
theorem sum_small {liv : Int32} {dN : Nat → Nat} {n L : Nat} {V : Int32 → Nat} (hn : n ≤ 6) (hL : L < 64) (hd : ∀ j, j < n → dN j ≤ 100) (hV : ∀ s, V s ≤ 594) : sumN liv (fun s => weightN liv s dN n) V (L + 1) < 2 ^ 63 := by
  have h := sumN_le (liv := liv) (w := fun s => weightN liv s dN n) (v := V) (B := 594000000000000) (fun s => wv_le (Nat.le_trans (weightN_le n hd) (pow100 hn)) (hV s)) (L + 1)
  exact Nat.lt_of_le_of_lt h (by omega)
theorem op_odds {n : Nat} (h0 : 0 < n) (hn : n ≤ 6) {liv hour cat nights seed : Int32} {has hours v : AI} (hR : townR n liv hour cat nights seed has hours v) (hI : townI n liv hour cat nights seed has) {pd dies : AI} {dN : Nat → Nat} (hd : ∀ j, j < n → pd j = nI (dN j) ∧ dN j ≤ 100) (hds : ∀ j, j < n → dies j = pd j) (p q : Int32) (lower : Bool) (al wh : Int64) (tl th tc tn ts cg : Int32) (thas thours x heir then_ : AI) :
    ∃ a tr rX rM, MX1_odds p q lower (nI n) al liv hour cat nights seed tl th tc tn ts has hours thas thours n pd = some (a, tr, -1, rX) ∧ MX7_odds p q lower cg wh (nI n) v x heir then_ dies = some (a, 0, tr, -1, rM) ∧ ¬ tr = 4 := by
  have hdead := hI.dead
  obtain ⟨L, hN, cN, hr, nN, sN, hL, hL2, hh, hc, hs, hz, -⟩ := hI
  have hp2 := pow_le hn
  subst hL
  unfold MX1_odds MX7_odds MX1_anew MX1_no MX7_refused MX1_numberWhy
  rw [M_isP1 h0 hn, M_isP7, M_in, M_in7]
  simp only [Option.bind_some]
  cases c : isP n p
  · simp only [iff_, if10, Option.bind_some]
    exact ⟨_, _, _, _, rfl, rfl, by decide⟩
  · cases c2 : inB q 0 594
    · simp only [ift, iff_, if20, Option.bind_some]
      exact ⟨_, _, _, _, rfl, rfl, by decide⟩
    · simp only [ift, if00, Option.bind_some]
      obtain ⟨k, hk, rfl⟩ := isP_of hn c
      obtain ⟨x', heir', ew, hR', hh'⟩ := M_wwh7 hn hR x heir
      obtain ⟨r, e1, e2, e3⟩ := M_atLeast5 hn hk (by omega) q hour cat nights seed tl th tc tn ts thas thours has hours pd hdead hd
      obtain ⟨w1, w2, w3⟩ := whole_lN (nI L) n
      have w4 := pow100 hn
      have hb := sum_small (liv := nI L) (L := L) (V := oddV (nI L) hours n has k q) hn (by omega) (fun j hj => (hd j hj).2) (fun s => oddV_le)
      obtain ⟨r7, f1, f2⟩ := L_odds7 hn hk (by omega) q cg (wholeF (x' 42) n) x' heir' dies then_ hours has hR'.1 hR'.2.2.2.2.2.1 hh' (dN := dN) (fun j hj => by rw [hds j hj]; exact hd j hj)
      rw [e1, Option.bind_some, e2, e3, w1, M_lowest1 hb (by omega) w2, Option.bind_some, ew, Option.bind_some]
      dsimp only
      rw [M_whole7 hn, Option.bind_some, f1, Option.bind_some, f2, hR'.1, w1, M_fraction7 hb (by omega) w2, Option.bind_some]
      exact ⟨_, _, _, _, rfl, rfl, by decide⟩
/-! op 19: passes -/
def passV (liv : Int32) (a : AI) (n p : Nat) (q : Int32) (s : Int32) : Nat := if hasB s (nI p) = false then 0 else if goesS liv a n s p = q then 1 else 0
theorem passV_le {liv : Int32} {a : AI} {n p : Nat} {q s : Int32} : passV liv a n p q s ≤ 594 := by unfold passV; split <;> (try split) <;> omega
theorem M_passing5 {n p L : Nat} (hn : n ≤ 6) (hp : p < n) (hL : L < 64) (q : Int32) (pr pd : AI) {dN : Nat → Nat} (hdN : ∀ j, j < n → pd j = nI (dN j) ∧ dN j ≤ 100) :
    MX5_passing (nI p) q (nI L) (nI n) pr n pd = some (lN (sumN (nI L) (fun set => weightN (nI L) set dN n) (passV (nI L) pr n p q) (L + 1)), wholeF (nI L) n) := by
  obtain ⟨r, e, h⟩ := loop_FU (f := fun s_ : Int64 × Int32 => BX5_passing_11 (nI p) q (nI L) (nI n) pr n pd (wholeF (nI L) n) s_.1 s_.2)
    (fun i s => s.1 = lN (sumN (nI L) (fun set => weightN (nI L) set dN n) (passV (nI L) pr n p q) i) ∧ s.2 = nI i) (fun r => r = lN (sumN (nI L) (fun set => weightN (nI L) set dN n) (passV (nI L) pr n p q) (L + 1))) (L + 1) (by omega) ((0 : Int64), (0 : Int32)) ⟨rfl, rfl⟩
    (by
      intro i s hi hs
      obtain ⟨a, b⟩ := s
      obtain ⟨z1, z2⟩ := hs
      dsimp only at z1 z2
      subst z1; subst z2
      refine Or.inl ?_
      show ∃ s', BX5_passing_11 (nI p) q (nI L) (nI n) pr n pd (wholeF (nI L) n) _ (nI i) = some (.inl s') ∧ _
      unfold BX5_passing_11
      rw [if_neg (nI_nlt (by omega) (by omega)), nI_1]
      by_cases q1 : (nI i &&& (nI L ^^^ (-1 : Int32))) = 0
      · rw [if_pos q1, M_has, Option.bind_some, M_goes4 hn hp, Option.bind_some, M_weight5 hn, Option.bind_some, weight_lN n hdN]
        cases q2 : hasB (nI i) (nI p)
        · rw [iff_]
          exact ⟨_, rfl, by show _ = lN (if _ then _ else _); rw [if_pos q1, show passV (nI L) pr n p q (nI i) = 0 by unfold passV; rw [if_pos q2], Nat.mul_zero]; rfl, rfl⟩
        · rw [ift]
          by_cases q3 : goesS (nI L) pr n (nI i) p = q
          · rw [if_pos q3]
            exact ⟨_, rfl, by show _ = lN (if _ then _ else _); rw [if_pos q1, ← lN_add, show passV (nI L) pr n p q (nI i) = 1 by unfold passV; rw [q2, if_neg (by decide), if_pos q3], Nat.mul_one], rfl⟩
          · rw [if_neg q3]
            exact ⟨_, rfl, by show _ = lN (if _ then _ else _); rw [if_pos q1, show passV (nI L) pr n p q (nI i) = 0 by unfold passV; rw [q2, if_neg (by decide), if_neg q3], Nat.mul_zero]; rfl, rfl⟩
      · rw [if_neg q1]
        exact ⟨_, rfl, by show _ = lN (if _ then _ else _); rw [if_neg q1], rfl⟩)
    (by
      intro s hs
      obtain ⟨a, b⟩ := s
      obtain ⟨z1, z2⟩ := hs
      dsimp only at z1 z2
      subst z1; subst z2
      exact ⟨_, by show BX5_passing_11 (nI p) q (nI L) (nI n) pr n pd (wholeF (nI L) n) _ (nI (L + 1)) = _; unfold BX5_passing_11; rw [if_pos (nI_lt (by omega) (by omega))], rfl⟩)
  unfold MX5_passing
  rw [M_lay5 hn, Option.bind_some, e, Option.bind_some, h]
theorem L_passes7 {n p L : Nat} (hn : n ≤ 6) (hp : p < n) (hL : L < 64) (q : Int32) (wh : Int64) (x heir d a : AI) (hxl : x 42 = nI L) (hh : ∀ j, j < n → heir j = heirF (nI L) (hX a) j n) {dN : Nat → Nat} (hdN : ∀ j, j < n → d j = nI (dN j) ∧ dN j ≤ 100) :
    loopN FU (fun s_ : Int64 × Int32 => BX7_passes_35 (nI p) q (nI n) d wh x heir s_.1 s_.2) ((0 : Int64), (0 : Int32)) = some (lN (sumN (nI L) (fun set => weightN (nI L) set dN n) (passV (nI L) a n p q) (L + 1))) := by
  obtain ⟨r, e, h⟩ := loop_FU (f := fun s_ : Int64 × Int32 => BX7_passes_35 (nI p) q (nI n) d wh x heir s_.1 s_.2)
    (fun i s => s.1 = lN (sumN (nI L) (fun set => weightN (nI L) set dN n) (passV (nI L) a n p q) i) ∧ s.2 = nI i) (fun r => r = lN (sumN (nI L) (fun set => weightN (nI L) set dN n) (passV (nI L) a n p q) (L + 1))) (L + 1) (by omega) ((0 : Int64), (0 : Int32)) ⟨rfl, rfl⟩
    (by
      intro i s hi hs
      obtain ⟨s0, b⟩ := s
      obtain ⟨z1, z2⟩ := hs
      dsimp only at z1 z2
      subst z1; subst z2
      refine Or.inl ?_
      show ∃ s', BX7_passes_35 (nI p) q (nI n) d wh x heir _ (nI i) = some (.inl s') ∧ _
      unfold BX7_passes_35
      rw [M_part7 hn, Option.bind_some, hxl, if_neg (nI_nlt (by omega) (by omega)), nI_1, weight_lN n hdN, M_bit, Option.bind_some]
      by_cases q1 : (nI i &&& (nI L ^^^ (-1 : Int32))) = 0
      · rw [if_pos q1]
        cases q2 : hasB (nI i) (nI p)
        · rw [iff_]
          exact ⟨_, rfl, by show _ = lN (if _ then _ else _); rw [if_pos q1, show passV (nI L) a n p q (nI i) = 0 by unfold passV; rw [if_pos q2], Nat.mul_zero]; rfl, rfl⟩
        · rw [ift, M_goes7 hn hp (nI i) q2 heir hh, Option.bind_some]
          by_cases q3 : goesS (nI L) a n (nI i) p = q
          · rw [if_pos q3]
            exact ⟨_, rfl, by show _ = lN (if _ then _ else _); rw [if_pos q1, ← lN_add, show passV (nI L) a n p q (nI i) = 1 by unfold passV; rw [q2, if_neg (by decide), if_pos q3], Nat.mul_one], rfl⟩
          · rw [if_neg q3]
            exact ⟨_, rfl, by show _ = lN (if _ then _ else _); rw [if_pos q1, show passV (nI L) a n p q (nI i) = 0 by unfold passV; rw [q2, if_neg (by decide), if_neg q3], Nat.mul_zero]; rfl, rfl⟩
      · rw [if_neg q1]
        exact ⟨_, rfl, by show _ = lN (if _ then _ else _); rw [if_neg q1], rfl⟩)
    (by
      intro s hs
      obtain ⟨s0, b⟩ := s
      obtain ⟨z1, z2⟩ := hs
      dsimp only at z1 z2
      subst z1; subst z2
      exact ⟨_, by show BX7_passes_35 (nI p) q (nI n) d wh x heir _ (nI (L + 1)) = _; unfold BX7_passes_35; rw [hxl, if_pos (nI_lt (by omega) (by omega))], rfl⟩)
  rw [e, h]
theorem op_passes {n : Nat} (h0 : 0 < n) (hn : n ≤ 6) {liv hour cat nights seed : Int32} {has hours v : AI} (hR : townR n liv hour cat nights seed has hours v) (hI : townI n liv hour cat nights seed has) {pd dies : AI} {dN : Nat → Nat} (hd : ∀ j, j < n → pd j = nI (dN j) ∧ dN j ≤ 100) (hds : ∀ j, j < n → dies j = pd j) (p q : Int32) (lower : Bool) (al wh : Int64) (x heir : AI) :
    ∃ a tr rX rM, MX1_passes p q lower (nI n) al liv hours n pd = some (a, tr, -1, rX) ∧ MX7_passes p q lower wh (nI n) v x heir dies = some (a, 0, tr, -1, rM) ∧ ¬ tr = 4 := by
  obtain ⟨L, hN, cN, hr, nN, sN, hL, hL2, -⟩ := hI
  have hp2 := pow_le hn
  subst hL
  unfold MX1_passes MX7_passes MX1_anew MX1_no MX7_refused
  rw [M_areTwo1 h0 hn, M_areTwo7]
  simp only [Option.bind_some]
  cases c : (isP n p && (isP n q && decide (p ≠ q)))
  · rw [iff_, iff_]
    exact ⟨_, _, _, _, rfl, rfl, by decide⟩
  · rw [ift, ift]
    have c' : isP n p = true := by
      cases h1 : isP n p <;> simp [h1] at c ⊢
    obtain ⟨k, hk, rfl⟩ := isP_of hn c'
    obtain ⟨x', heir', ew, hR', hh⟩ := M_wwh7 hn hR x heir
    have hh' : ∀ j, j < n → heir' j = heirF (nI L) (hX hours) j n := by intro j hj; rw [hh j hj, hR'.1]
    obtain ⟨w1, w2, w3⟩ := whole_lN (nI L) n
    have w4 := pow100 hn
    have hb := sum_small (liv := nI L) (L := L) (V := passV (nI L) hours n k q) hn (by omega) (fun j hj => (hd j hj).2) (fun s => passV_le)
    rw [M_passing5 hn hk (by omega) q hours pd hd, Option.bind_some, w1, M_lowest1 hb (by omega) w2, Option.bind_some, ew, Option.bind_some]
    dsimp only
    rw [M_whole7 hn, Option.bind_some, L_passes7 hn hk (by omega) q (wholeF (x' 42) n) x' heir' dies hours hR'.1 hh' (dN := dN) (fun j hj => by rw [hds j hj]; exact hd j hj), Option.bind_some, hR'.1, w1, M_fraction7 hb (by omega) w2, Option.bind_some]
    exact ⟨_, _, _, _, rfl, rfl, by decide⟩
/-! op 20: catMean -/
theorem L_catMean7 {n L : Nat} (hn : n ≤ 6) (hL : L < 64) (cg : Int32) (wh : Int64) (x heir d th a : AI) (has : Nat → Int32) {hN : Nat → Nat} (hhN : ∀ k, k < n → has k = nI (hN k)) (hxl : x 42 = nI L) (hx : ∀ j, j < n → x j = has j) (hh : ∀ j, j < n → heir j = heirF (x 42) (hX a) j n) {dN : Nat → Nat} (hdN : ∀ j, j < n → d j = nI (dN j) ∧ dN j ≤ 100) (hle : ∀ s, thenCN (nI L) a n hN s ≤ 594) :
    ∃ r, loopN FU (fun s_ : Int64 × Int32 × Int32 × AI => BX7_catMean_32 (nI n) d wh x heir s_.1 s_.2.1 s_.2.2.1 s_.2.2.2) ((0 : Int64), (0 : Int32), cg, th) = some r ∧ r.1 = lN (sumN (nI L) (fun set => weightN (nI L) set dN n) (thenCN (nI L) a n hN) (L + 1)) := by
  apply loop_FU (f := fun s_ : Int64 × Int32 × Int32 × AI => BX7_catMean_32 (nI n) d wh x heir s_.1 s_.2.1 s_.2.2.1 s_.2.2.2)
    (fun i s => s.1 = lN (sumN (nI L) (fun set => weightN (nI L) set dN n) (thenCN (nI L) a n hN) i) ∧ s.2.1 = nI i) (fun r => r.1 = lN (sumN (nI L) (fun set => weightN (nI L) set dN n) (thenCN (nI L) a n hN) (L + 1))) (L + 1) (by omega) ((0 : Int64), (0 : Int32), cg, th) ⟨rfl, rfl⟩
  · intro i s hi hs
    obtain ⟨s0, b, c1, f⟩ := s
    obtain ⟨z1, z2⟩ := hs
    dsimp only at z1 z2
    subst z1; subst z2
    refine Or.inl ?_
    show ∃ s', BX7_catMean_32 (nI n) d wh x heir _ (nI i) c1 f = some (.inl s') ∧ _
    unfold BX7_catMean_32
    obtain ⟨th', e1, -⟩ := M_dying7 hn (nI i) f x heir a has hx hh
    rw [e1, Option.bind_some, M_part7 hn, Option.bind_some, hxl, if_neg (nI_nlt (by omega) (by omega)), nI_1]
    dsimp only
    have eC : dieC (nI i) (goesS (nI L) a n (nI i)) has n = nI (thenCN (nI L) a n hN (nI i)) := thenC_nI hhN (nI i)
    rw [weight_lN n hdN, eC, i2l (by have := hle (nI i); omega), lN_mul, lN_add]
    by_cases q1 : (nI i &&& (nI L ^^^ (-1 : Int32))) = 0
    · rw [if_pos q1]
      exact ⟨_, rfl, by show _ = lN (if _ then _ else _); rw [if_pos q1], rfl⟩
    · rw [if_neg q1]
      exact ⟨_, rfl, by show _ = lN (if _ then _ else _); rw [if_neg q1], rfl⟩
  · intro s hs
    obtain ⟨s0, b, c1, f⟩ := s
    obtain ⟨z1, z2⟩ := hs
    dsimp only at z1 z2
    subst z1; subst z2
    exact ⟨_, by show BX7_catMean_32 (nI n) d wh x heir _ (nI (L + 1)) c1 f = _; unfold BX7_catMean_32; rw [hxl, if_pos (nI_lt (by omega) (by omega))], rfl⟩
theorem op_catMean {n : Nat} (hn : n ≤ 6) {liv hour cat nights seed : Int32} {has hours v : AI} (hR : townR n liv hour cat nights seed has hours v) (hI : townI n liv hour cat nights seed has) {pd dies : AI} {dN : Nat → Nat} (hd : ∀ j, j < n → pd j = nI (dN j) ∧ dN j ≤ 100) (hds : ∀ j, j < n → dies j = pd j) (lower : Bool) (tl th tc tn ts cg : Int32) (thas thours x heir then_ : AI) :
    ∃ a rX rM, MX1_catMean lower (nI n) liv hour cat nights seed tl th tc tn ts has hours thas thours n pd = some (a, 0, -1, rX) ∧ MX7_catMean lower cg (nI n) v x heir then_ dies = some (a, 0, 0, -1, rM) := by
  have hdead := hI.dead
  obtain ⟨L, hN, cN, hr, nN, sN, hL, hL2, hh, hc, hs, hz, -⟩ := hI
  have hp2 := pow_le hn
  subst hL
  unfold MX1_catMean MX7_catMean MX1_anew
  simp only [Option.bind_some]
  obtain ⟨x', heir', ew, hR', hh'⟩ := M_wwh7 hn hR x heir
  obtain ⟨r, e1, e2, e3⟩ := M_sum5c hn (by omega) hour cat nights seed tl th tc tn ts thas thours has hours pd hdead
  have hw : ∀ s, weightF (nI L) s pd n = lN (weightN (nI L) s dN n) ∧ weightN (nI L) s dN n < 2 ^ 63 := fun s => ⟨weight_lN n hd, Nat.lt_of_le_of_lt (Nat.le_trans (weightN_le n (fun j hj => (hd j hj).2)) (pow100 hn)) (by decide)⟩
  have hle : ∀ s, thenCN (nI L) hours n hN s ≤ 594 := fun s => by have h1 := thenN_le (a := hours) hn hz s; omega
  have hv : ∀ s, Int32.toInt64 (thenC (nI L) hours n has s) = lN (thenCN (nI L) hours n hN s) := fun s => by rw [thenC_nI hh s, i2l (by have := hle s; omega)]
  have hS := sum_lN (liv := nI L) hw hv (L + 1)
  obtain ⟨w1, w2, w3⟩ := whole_lN (nI L) n
  have w4 := pow100 hn
  have hb := sum_small (liv := nI L) (L := L) (V := thenCN (nI L) hours n hN) hn (by omega) (fun j hj => (hd j hj).2) hle
  obtain ⟨r7, f1, f2⟩ := L_catMean7 hn (by omega) cg (wholeF (x' 42) n) x' heir' dies then_ hours has hh hR'.1 hR'.2.2.2.2.2.1 hh' (dN := dN) (fun j hj => by rw [hds j hj]; exact hd j hj) hle
  rw [e1, Option.bind_some, e2, e3, hS, w1, M_lowest1 hb (by omega) w2, Option.bind_some, ew, Option.bind_some]
  dsimp only
  rw [M_whole7 hn, Option.bind_some, f1, Option.bind_some, f2, hR'.1, w1, M_fraction7 hb (by omega) w2, Option.bind_some]
  exact ⟨_, _, _, rfl, rfl⟩
