set_option maxRecDepth 100000
/-! op: toAsk -/
def toAskStep (S : Nat → Bool) (has : Nat → Int32) (best : Int32) (i : Nat) : Int32 := if S i = false then best else if best = -2 then nI i else if has i ≤ has best.toNatClampNeg then best else nI i
theorem toAskStep_in {S : Nat → Bool} {has : Nat → Int32} {i : Nat} {a : Int32} (ha : pers i a) : pers (i + 1) (toAskStep S has a i) := by
  unfold toAskStep
  repeat' split
  all_goals first | exact pers_up ha | exact pers_new i
theorem hasB_andn {s t : Int32} {i : Nat} (hi : i < 32) : hasB (s &&& (t ^^^ (-1 : Int32))) (nI i) = (hasB s (nI i) && !hasB t (nI i)) := by
  rw [hasB_bt hi, hasB_bt hi, hasB_bt hi, b_and, b_xor, b_m1 i hi, Bool.xor_true]
theorem op_toAsk {n : Nat} (h0 : 0 < n) (hn : n ≤ 6) {liv hour cat nights seed : Int32} {has hours v : AI} (hR : townR n liv hour cat nights seed has hours v) {pk : Nat → Nat} {pr kind near : AI} (hk : kindR n pk pr kind near) (p : Int32) (x : AI) :
    ∃ a tr rM, MX1_toAsk p (nI n) liv hours has n pk pr = some (a, tr, -1) ∧ MX7_toAsk p (nI n) v x kind near = some (a, 0, tr, -1, rM) ∧ ¬ tr = 4 := by
  unfold MX1_toAsk MX7_toAsk MX1_anew MX1_no MX7_refused MX7_good
  rw [M_isP1 h0 hn, M_isP7]
  simp only [Option.bind_some]
  cases c : isP n p
  · rw [iff_, iff_]
    exact ⟨_, _, _, rfl, rfl, by decide⟩
  · rw [ift, ift]
    obtain ⟨k, hk6, rfl⟩ := isP_of hn c
    obtain ⟨x', ex, hx⟩ := M_works7 v x
    have hR' := hR.copy hn hx
    rw [M_askable1 hn hk6, Option.bind_some, M_heirTos1 hn, Option.bind_some, ex, Option.bind_some, M_canAsk7 hn hk6 v hk, Option.bind_some, hR.1]
    have hS : ∀ i, i < n → hasB (setF (fun j => canA liv pk pr k j) n) (nI i) = canA liv pk pr k i := fun i hi => by rw [setF_has n i (by omega) (by omega), decide_eq_true hi, Bool.true_and]
    have hT : ∀ i, i < n → hasB (setF (heirP liv hours n (nI k)) n) (nI i) = heirP liv hours n (nI k) i := fun i hi => by rw [setF_has n i (by omega) (by omega), decide_eq_true hi, Bool.true_and]
    have hl : ∀ i, canA liv pk pr k i = true → hasB liv (nI i) = true := by
      intro i h
      unfold canA at h
      cases q : hasB liv (nI i)
      · rw [q] at h; simp at h
      · rfl
    refine ⟨foldF (toAskStep (fun i => canA liv pk pr k i && !heirP liv hours n (nI k) i) has) (-2) n, 0, x', ?_, ?_, by decide⟩
    · rw [(loop_acc (f := fun s_ : Int32 × Int32 => BX1_toAsk_38 (nI n) has (setF (fun j => canA liv pk pr k j) n &&& (setF (heirP liv hours n (nI k)) n ^^^ (-1 : Int32))) 0 (-1) s_.1 s_.2) (toAskStep (fun i => canA liv pk pr k i && !heirP liv hours n (nI k) i) has) pers n (by omega) (-2) (Or.inl rfl) (by
        intro i a hi ha
        refine ⟨?_, toAskStep_in ha⟩
        show BX1_toAsk_38 (nI n) has _ 0 (-1) a (nI i) = _
        unfold BX1_toAsk_38 toAskStep
        dsimp only
        rw [if_neg (nI_ge hi (by omega)), nI_1, M_has, Option.bind_some, hasB_andn (by omega), hS i hi, hT i hi]
        by_cases c1 : (canA liv pk pr k i && !heirP liv hours n (nI k) i) = false
        · rw [if_pos (b2i_f c1), if_pos c1]
        · rw [if_neg (b2i_t (eq_true_of_ne_false c1)), if_neg c1]
          rcases ha with c2 | ⟨j, hj, rfl⟩
          · rw [if_pos c2, if_pos c2]
          · rw [if_neg (nI_ne_m2 (by omega)), if_neg (nI_ne_m2 (by omega)), gi_nI (by omega) (by decide), gi_nI (by omega) (by decide), nIc (by omega), nIc (by omega)]
            by_cases c3 : has i ≤ has j
            · rw [if_pos c3, if_pos c3]
            · rw [if_neg c3, if_neg c3]) (by
        intro a _
        show BX1_toAsk_38 (nI n) has _ 0 (-1) a (nI n) = _
        unfold BX1_toAsk_38
        rw [if_pos (nI_le (Nat.le_refl n) (by omega))])).1]
      rfl
    · rw [(loop_acc (f := fun s_ : Int32 × Int32 => BX7_toAsk_35 (nI k) (nI n) v (setF (fun j => canA liv pk pr k j) n) x' s_.1 s_.2) (toAskStep (fun i => canA liv pk pr k i && !heirP liv hours n (nI k) i) has) pers n (by omega) (-2) (Or.inl rfl) (by
        intro i a hi ha
        refine ⟨?_, toAskStep_in ha⟩
        show BX7_toAsk_35 (nI k) (nI n) v _ x' a (nI i) = _
        unfold BX7_toAsk_35 toAskStep
        dsimp only
        rw [if_neg (nI_ge hi (by omega)), nI_1, M_bit, Option.bind_some, hS i hi]
        by_cases c1 : canA liv pk pr k i = false
        · rw [if_pos (b2i_f c1), if_pos (by rw [c1]; rfl)]
        · have c1' := eq_true_of_ne_false c1
          have hh : heirP liv hours n (nI k) i = decide (heirF liv (hX hours) i n = nI k) := by unfold heirP; rw [hl i c1', Bool.true_and]
          rw [if_neg (b2i_t c1'), M_heir7 hn (by omega) hours x' hR'.2.2.2.2.2.2, Option.bind_some, hR'.1]
          by_cases c4 : heirF liv (hX hours) i n = nI k
          · rw [if_pos c4, if_pos (by rw [c1', hh, decide_eq_true c4]; rfl)]
          · rw [if_neg c4, if_neg (show ¬ (canA liv pk pr k i && !heirP liv hours n (nI k) i) = false by rw [c1', hh, decide_eq_false c4]; decide)]
            rcases ha with c2 | ⟨j, hj, rfl⟩
            · rw [if_pos c2, if_pos c2]
            · rw [if_neg (nI_ne_m2 (by omega)), if_neg (nI_ne_m2 (by omega)), gi_nI (by omega) (by decide), gi_nI (by omega) (by decide), nIc (by omega), nIc (by omega), hR.2.2.2.2.2.1 i hi, hR.2.2.2.2.2.1 j (by omega)]
              by_cases c3 : has i ≤ has j
              · rw [if_pos c3, if_pos c3]
              · rw [if_neg c3, if_neg c3]) (by
        intro a _
        show BX7_toAsk_35 (nI k) (nI n) v _ x' a (nI n) = _
        unfold BX7_toAsk_35
        rw [if_pos (nI_le (Nat.le_refl n) (by omega))])).1]
      rfl
/-! op: rivals -/
def aheadB (h : Nat → Nat → Int32) (i p q : Nat) : Bool := decide (h p q < h i q) || (decide (h i q = h p q) && decide (i < p))
def rivP (liv : Int32) (h : Nat → Nat → Int32) (p q i : Nat) : Bool := decide (i ≠ p) && (decide (i ≠ q) && (hasB liv (nI i) && aheadB h i p q))
/-- never asked comes as -2 here and as -1 there -/
def hM (x : AI) : Nat → Nat → Int32 := fun p q => x (6 + 6 * p + q)
theorem ahead_eq {a x : AI} (hr : hrel a x) {i p q : Nat} (hi : i < 6) (hp : p < 6) (hq : q < 6) (hn : ¬ hX a p q < 0) : aheadB (hM x) i p q = aheadB (hX a) i p q := by
  unfold aheadB
  have e1 : hM x p q = hX a p q := hrel_hour hr hp hq hn
  rw [e1]
  by_cases c : hX a i q < 0
  · have e2 : hM x i q = -1 := (hrel_never hr hi hq).mpr c
    rw [e2]
    have h1 : ¬ hX a p q < -1 := fun z => hn (Int32.lt_trans z (by decide))
    have h2 : ¬ hX a p q < hX a i q := fun z => hn (Int32.lt_trans z c)
    have h3 : ¬ (-1 : Int32) = hX a p q := fun z => hn (by rw [← z]; decide)
    have h4 : ¬ hX a i q = hX a p q := fun z => hn (by rw [← z]; exact c)
    rw [decide_eq_false h1, decide_eq_false h2, decide_eq_false h3, decide_eq_false h4]
  · rw [show hM x i q = hX a i q from hrel_hour hr hi hq c]
theorem op_rivals {n : Nat} (h0 : 0 < n) (hn : n ≤ 6) {liv hour cat nights seed : Int32} {has hours v : AI} (hR : townR n liv hour cat nights seed has hours v) (p q : Int32) (x : AI) :
    ∃ a tr rM, MX1_rivals p q (nI n) liv hours = some (a, tr, -1) ∧ MX7_rivals p q (nI n) v x = some (a, 0, tr, -1, rM) ∧ ¬ tr = 4 := by
  unfold MX1_rivals MX7_rivals MX1_anew MX1_no MX7_refused MX7_good
  rw [M_areTwo1 h0 hn, M_areTwo7, M_isLiving4, M_isLiving4, M_bit, hR.1]
  simp only [Option.bind_some]
  cases c : (isP n p && (isP n q && decide (p ≠ q)))
  · rw [iff_, iff_]
    exact ⟨_, _, _, rfl, rfl, by decide⟩
  · rw [ift, ift]
    have c' : isP n p = true ∧ isP n q = true := by
      cases h1 : isP n p <;> cases h2 : isP n q <;> simp [h1, h2] at c ⊢
    obtain ⟨k, hk, rfl⟩ := isP_of hn c'.1
    obtain ⟨m, hm, rfl⟩ := isP_of hn c'.2
    cases c1 : hasB liv (nI m)
    · rw [iff_, iff_]
      exact ⟨_, _, _, rfl, rfl, by decide⟩
    · obtain ⟨x', ex, hx⟩ := M_works7 v x
      have hR' := hR.copy hn hx
      rw [ift, ift, ex, Option.bind_some, M_isLiving7, Option.bind_some, hR'.1]
      cases c2 : hasB liv (nI k)
      · rw [iff_, iff_]
        exact ⟨_, _, _, rfl, rfl, by decide⟩
      · rw [ift, ift, M_hourOf (by omega) (by omega), M_asked (by omega) (by omega), Option.bind_some, Option.bind_some]
        have hrl := hR'.2.2.2.2.2.2
        by_cases c3 : hX hours k m < 0
        · rw [if_neg (show ¬ (0 : Int32) ≤ hours (6 * k + m) from Int32.not_le.mpr c3), if_pos ((hrel_never hrl (by omega) (by omega)).mpr c3)]
          exact ⟨_, _, _, rfl, rfl, by decide⟩
        · rw [if_pos (show (0 : Int32) ≤ hours (6 * k + m) from Int32.not_lt.mp c3), if_neg (fun z => c3 ((hrel_never hrl (by omega) (by omega)).mp z))]
          refine ⟨setF (rivP liv (hX hours) k m) n, 0, x', ?_, ?_, by decide⟩
          · rw [loop_set (f := fun s_ : Int32 × Int32 => BX1_rivals_67 (nI k) (nI m) (nI n) liv hours 0 (-1) s_.1 s_.2) (rivP liv (hX hours) k m) n (by omega) (by
              intro i acc hi
              show BX1_rivals_67 (nI k) (nI m) (nI n) liv hours 0 (-1) acc (nI i) = _
              unfold BX1_rivals_67 rivP
              rw [if_neg (nI_ge hi (by omega)), nI_1]
              by_cases d1 : i = k
              · rw [if_pos (by rw [d1]), decide_eq_false (fun z => z d1)]; rfl
              · rw [if_neg (fun z => d1 ((nI_eq (by omega) (by omega)).mp z)), decide_eq_true d1, Bool.true_and]
                by_cases d2 : i = m
                · rw [if_pos (by rw [d2]), decide_eq_false (fun z => z d2)]; rfl
                · rw [if_neg (fun z => d2 ((nI_eq (by omega) (by omega)).mp z)), decide_eq_true d2, Bool.true_and, M_isLiving4, Option.bind_some]
                  cases d3 : hasB liv (nI i)
                  · rw [iff_]; rfl
                  · rw [ift, Bool.true_and]
                    unfold MX1_isAhead
                    rw [M_hourOf (by omega) (by omega), M_hourOf (by omega) (by omega), Option.bind_some, Option.bind_some]
                    have ea : (if hours (6 * k + m) < hours (6 * i + m) then some true else if hours (6 * i + m) = hours (6 * k + m) then (if nI k ≤ nI i then some false else some true) else some false) = some (aheadB (hX hours) i k m) := by
                      unfold aheadB hX
                      by_cases e1 : hours (6 * k + m) < hours (6 * i + m)
                      · rw [if_pos e1, decide_eq_true e1]; rfl
                      · rw [if_neg e1, decide_eq_false e1, Bool.false_or]
                        by_cases e2 : hours (6 * i + m) = hours (6 * k + m)
                        · rw [if_pos e2, decide_eq_true e2, Bool.true_and]
                          by_cases e3 : i < k
                          · rw [if_neg (nI_ge e3 (by omega)), decide_eq_true e3]
                          · rw [if_pos (nI_le (by omega) (by omega)), decide_eq_false e3]
                        · rw [if_neg e2, decide_eq_false e2]; rfl
                    rw [ea, Option.bind_some]
                    cases aheadB (hX hours) i k m
                    · rw [iff_]; rfl
                    · rw [ift]; rfl) (by
              intro acc
              show BX1_rivals_67 (nI k) (nI m) (nI n) liv hours 0 (-1) acc (nI n) = _
              unfold BX1_rivals_67
              rw [if_pos (nI_le (Nat.le_refl n) (by omega))])]
            rfl
          · rw [loop_set (f := fun s_ : Int32 × Int32 => BX7_rivals_74 (nI k) (nI m) (nI n) x' s_.1 s_.2) (rivP liv (hX hours) k m) n (by omega) (by
              intro i acc hi
              show BX7_rivals_74 (nI k) (nI m) (nI n) x' acc (nI i) = _
              unfold BX7_rivals_74 rivP
              rw [if_neg (nI_ge hi (by omega)), nI_1]
              by_cases d1 : i = k
              · rw [if_pos (by rw [d1]), decide_eq_false (fun z => z d1), Bool.false_and, if_neg (by decide), or_0]
              · rw [if_neg (fun z => d1 ((nI_eq (by omega) (by omega)).mp z)), decide_eq_true d1, Bool.true_and]
                by_cases d2 : i = m
                · rw [if_pos (by rw [d2]), decide_eq_false (fun z => z d2), Bool.false_and, if_neg (by decide), or_0]
                · rw [if_neg (fun z => d2 ((nI_eq (by omega) (by omega)).mp z)), decide_eq_true d2, Bool.true_and, M_isLiving7, Option.bind_some, hR'.1]
                  cases d3 : hasB liv (nI i)
                  · rw [iff_, Bool.false_and, if_neg (by decide), or_0]
                  · rw [ift, Bool.true_and, M_asked (by omega) (by omega), M_asked (by omega) (by omega)]
                    simp only [Option.bind_some]
                    rw [← ahead_eq hrl (i := i) (p := k) (q := m) (by omega) (by omega) (by omega) c3]
                    unfold aheadB hM
                    by_cases e1 : x' (6 + 6 * k + m) < x' (6 + 6 * i + m)
                    · rw [if_pos e1, decide_eq_true e1]; rfl
                    · rw [if_neg e1, decide_eq_false e1, Bool.false_or]
                      by_cases e2 : x' (6 + 6 * i + m) = x' (6 + 6 * k + m)
                      · rw [if_pos e2, decide_eq_true e2, Bool.true_and]
                        by_cases e3 : i < k
                        · rw [if_neg (nI_ge e3 (by omega)), decide_eq_true e3]; rfl
                        · rw [if_pos (nI_le (by omega) (by omega)), decide_eq_false e3, if_neg (by decide), or_0]
                      · rw [if_neg e2, decide_eq_false e2, Bool.false_and, if_neg (by decide), or_0]) (by
              intro acc
              show BX7_rivals_74 (nI k) (nI m) (nI n) x' acc (nI n) = _
              unfold BX7_rivals_74
              rw [if_pos (nI_le (Nat.le_refl n) (by omega))])]
            rfl
/-! ops: begs, rests, rest, seed -/
theorem op_begs (s : Int32) (a b c : Bool) : ∃ r tr, MX1_begs s a b c = some (r, tr, -1) ∧ MX7_begs s a b c = some (r, 0, tr, -1) ∧ ¬ tr = 4 := by
  unfold MX1_begs MX7_begs MX1_anew MX7_refusesShame MX1_numberWhy MX7_good MX7_lost MX7_refused MX1_richs MX7_rich MX1_beggars MX7_beggar
  rw [M_in, M_in7]
  simp only [Option.bind_some, ift]
  cases inB s 0 9
  · exact ⟨_, _, rfl, rfl, by decide⟩
  · cases a <;> cases b <;> cases c <;> exact ⟨_, _, rfl, rfl, by decide⟩
def restN (k : Nat) : Int32 × Int32 := (loopN 8 (fun s_ : Int32 × Int32 × Int32 => BX1_seekRests_10 (nI k) s_.1 s_.2.1 s_.2.2) ((0 : Int32), (0 : Int32), (-2 : Int32))).getD (0, 0)
theorem seek_all : ∀ k, k < 10 → loopN 8 (fun s_ : Int32 × Int32 × Int32 => BX1_seekRests_10 (nI k) s_.1 s_.2.1 s_.2.2) ((0 : Int32), (0 : Int32), (-2 : Int32)) = some (restN k) := by decide +kernel
theorem rests_all : ∀ k, k < 10 → loopN 8 (fun s_ : Int32 × Int32 => BX7_rests_26 (nI k) s_.1 s_.2) ((0 : Int32), (0 : Int32)) = some (restN k).1 := by decide +kernel
def restOut : Int32 ⊕ Unit → Int32
  | .inl z => ((10 : Int32) * (z / (2 : Int32))) + (z - z / (2 : Int32) * (2 : Int32))
  | .inr _ => -2
theorem rest_all : ∀ k, k < 10 → (loopN 8 (fun s_ : Int32 => BX7_rest_23 (nI k) s_) (0 : Int32)).map restOut = some (restN k).2 := by decide +kernel
theorem M_seek1 {k : Nat} (h : k < 10) : MX1_seekRests (nI k) = some (restN k) := by
  unfold MX1_seekRests
  rw [loopN_mono 8 FU _ (by decide) (seek_all k h)]; rfl
theorem op_rests (s f : Int32) : ∃ a tr f', MX1_rests s f = some (a, tr, -1, f') ∧ MX7_rests s = some (a, 0, tr, -1) ∧ ¬ tr = 4 := by
  unfold MX1_rests MX7_rests MX1_anew MX7_refusesShame MX1_numberWhy MX7_good MX7_refused MX1_no
  rw [M_in, M_in7]
  simp only [Option.bind_some, ift]
  cases d : inB s 0 9
  · exact ⟨_, _, _, rfl, rfl, by decide⟩
  · obtain ⟨k, hk, rfl⟩ := inB_of (m := 9) (by decide) d
    rw [ift, Option.bind_some, if00, Option.bind_some, if_pos (show (0 : Int32) ≤ 0 by decide), M_seek1 (by omega), loopN_mono 8 FU _ (by decide) (rests_all k (by omega))]
    exact ⟨_, _, _, rfl, rfl, by decide⟩
theorem op_rest (s f : Int32) : ∃ a tr f', MX1_rest s f = some (a, tr, -1, f') ∧ MX7_rest s = some (a, 0, tr, -1) ∧ ¬ tr = 4 := by
  unfold MX1_rest MX7_rest MX1_anew MX7_refusesShame MX1_numberWhy MX7_good MX7_refused MX1_no
  rw [M_in, M_in7]
  simp only [Option.bind_some, ift]
  cases d : inB s 0 9
  · exact ⟨_, _, _, rfl, rfl, by decide⟩
  · obtain ⟨k, hk, rfl⟩ := inB_of (m := 9) (by decide) d
    have hr := rest_all k (by omega)
    cases e : loopN 8 (fun s_ : Int32 => BX7_rest_23 (nI k) s_) (0 : Int32) with
    | none => rw [e] at hr; cases hr
    | some r =>
      rw [e] at hr
      have hr : restOut r = (restN k).2 := Option.some.inj hr
      rw [ift, Option.bind_some, if00, Option.bind_some, if_pos (show (0 : Int32) ≤ 0 by decide), M_seek1 (by omega), loopN_mono 8 FU _ (by decide) e, Option.bind_some, Option.bind_some]
      refine ⟨(restN k).2, 0, _, rfl, ?_, by decide⟩
      rw [← hr]
      cases r <;> rfl
theorem op_seed {n : Nat} (hn : n ≤ 6) {liv hour cat nights seed : Int32} {has hours v : AI} (hR : townR n liv hour cat nights seed has hours v) (hI : townI n liv hour cat nights seed has) (s : Int32) :
    ∃ a tr seed' v', MX1_seed s seed = some (a, tr, -1, seed') ∧ MX7_seed s v = some (a, 0, tr, -1, v') ∧ ¬ tr = 4 ∧ townR n liv hour cat nights seed' has hours v' ∧ townI n liv hour cat nights seed' has ∧ ∀ j, 47 ≤ j → v' j = v j := by
  unfold MX1_seed MX7_seed MX1_yes MX1_anew MX1_numberWhy MX7_denied MX7_granted MX7_refused MX7_good
  rw [M_in, M_in7]
  simp only [Option.bind_some, ift]
  cases d : inB s 0 65536
  · exact ⟨_, _, _, _, rfl, rfl, by decide, hR, hI, fun j _ => rfl⟩
  · obtain ⟨k, hk, rfl⟩ := inB_of (m := 65536) (by decide) d
    refine ⟨_, _, _, _, rfl, rfl, by decide, ?_, ?_, fun j hj => pk_un (by omega)⟩
    · obtain ⟨h1, h2, h3, h4, h5, h6, h7⟩ := hR
      exact ⟨by rw [pk_un (by decide)]; exact h1, by rw [pk_un (by decide)]; exact h2, by rw [pk_un (by decide)]; exact h3, by rw [pk_un (by decide)]; exact h4, by rw [pk_us], fun j hj => by rw [pk_un (by omega)]; exact h6 j hj, fun j hj => by rw [pk_un (by omega)]; exact h7 j hj⟩
    · obtain ⟨L, hN, cN, hr, nN, sN, g1, g2, g3, g4, g5, g6, g7, g8, g9, g10, g11, g12⟩ := hI
      exact ⟨L, hN, cN, hr, nN, k, g1, g2, g3, g4, g5, g6, g7, g8, g9, g10, rfl, by omega⟩
