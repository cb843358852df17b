set_option maxRecDepth 100000
/-! the best row of asks -/
def dec (x : AI) : AI := fun j => if x (6 + j) = -1 then -2 else x (6 + j)
theorem dec_R {a x : AI} (h : hrel a x) : hrel (dec x) x := by
  intro j hj
  unfold dec
  rcases h j hj with ⟨-, h2⟩ | ⟨h1, h2⟩
  · rw [if_pos h2]; exact Or.inl ⟨rfl, h2⟩
  · have : ¬ x (6 + j) = -1 := fun z => h2 (by rw [h1, z]; decide)
    rw [if_neg this]; exact Or.inr ⟨rfl, by rw [← h1]; exact h2⟩
def valV (n L p : Nat) (pd x : AI) : Int64 := sumF (nI L) (fun set => weightF (nI L) set pd n) (fun set => Int32.toInt64 (thenH (nI L) (dec x) n x set p)) (L + 1)
theorem val_eq {n p L : Nat} (hn : n ≤ 6) (hp : p < n) (hL : L < 64) {pd x a : AI} {has : Nat → Int32} (hxl : x 42 = nI L) (hx : ∀ j, j < n → x j = has j) (hr : hrel a x) : sumF (nI L) (fun set => weightF (nI L) set pd n) (fun set => Int32.toInt64 (thenH (nI L) a n has set p)) (L + 1) = valV n L p pd x := by
  obtain ⟨r, e, h, -⟩ := M_mean7 hn hp hL 0 x x pd x a has hxl hx hr
  obtain ⟨r', e', h', -⟩ := M_mean7 hn hp hL 0 x x pd x (dec x) x hxl (fun _ _ => rfl) (dec_R hr)
  have := Option.some.inj (e.symm.trans e')
  subst this
  exact h.symm.trans h'
theorem val_congr {n p L : Nat} (hn : n ≤ 6) (hp : p < n) (hL : L < 64) {pd x x' a : AI} (hxl : x 42 = nI L) (hr : hrel a x) (hc : ∀ j, j < 47 → x' j = x j) : valV n L p pd x' = valV n L p pd x :=
  (val_eq hn hp hL (x := x') (a := dec x) (has := x) (by rw [hc 42 (by decide)]; exact hxl) (fun j hj => hc j (by omega)) (fun j hj => by rw [hc (6 + j) (by omega)]; exact dec_R hr j hj)).symm
def stepS (p g L : Nat) (pk : Nat → Nat) (pr : AI) (c : Nat) (x : AI) : Option AI := if c = 0 then some x else if canA (nI L) pk pr p (c - 1) = true then MX7_asks (nI p) (nI (c - 1)) x (nI g) else none
def leafS (v : Int64) (row : Int32) (acc : Int32 × Int64) : Int32 × Int64 := if acc.2 < v then (row, v) else acc
def specT (S : Nat → AI → Option AI) (V : AI → Int64) (D : Nat) : Nat → Int32 → AI → Int32 × Int64 → Int32 × Int64
  | 0, row, x, acc => leafS (V x) row acc
  | d + 1, row, x, acc => foldF (fun acc c => match S c x with
    | none => acc
    | some x' => specT S V D d ((10 : Int32) * row + nI c) x' acc) acc D
theorem leaf_le {s k : Int64} {row krow : Int32} (h : lg_cmp s k ≤ 0) : (krow, maxL k s) = leafS s row (krow, k) := by
  have h := (lg_cmp_le s k).mp h
  unfold leafS maxL
  rw [if_neg (Int64.not_lt.mpr h)]
  by_cases c : s < k
  · rw [if_pos c]
  · rw [if_neg c, Int64.le_antisymm h (Int64.not_lt.mp c)]
theorem leaf_gt {s k : Int64} {row krow : Int32} (h : ¬ lg_cmp s k ≤ 0) : (row, maxL k s) = leafS s row (krow, k) := by
  have h : k < s := Int64.not_le.mp (fun z => h ((lg_cmp_le s k).mpr z))
  unfold leafS maxL
  rw [if_pos h, if_neg (Int64.not_lt.mpr (Int64.le_of_lt h))]
theorem stepS_0 {p g L : Nat} {pk : Nat → Nat} {pr x : AI} : stepS p g L pk pr 0 x = some x := rfl
theorem stepS_n {p g L i : Nat} {pk : Nat → Nat} {pr x : AI} (h : canA (nI L) pk pr p i = false) : stepS p g L pk pr (i + 1) x = none := by
  unfold stepS
  rw [if_neg (by omega), Nat.add_sub_cancel, if_neg (by rw [h]; decide)]
theorem stepS_s {p g L i : Nat} {pk : Nat → Nat} {pr x : AI} (h : canA (nI L) pk pr p i = true) : stepS p g L pk pr (i + 1) x = MX7_asks (nI p) (nI i) x (nI g) := by
  unfold stepS
  rw [if_neg (by omega), Nat.add_sub_cancel, if_pos h]
theorem canA_of {liv : Int32} {pk : Nat → Nat} {pr : AI} {p q : Nat} (h : canA liv pk pr p q = true) : p ≠ q ∧ hasB liv (nI p) = true ∧ hasB liv (nI q) = true := by
  unfold canA at h
  simp only [Bool.and_eq_true, decide_eq_true_eq] at h
  exact ⟨h.1, h.2.1, h.2.2.1⟩
theorem become_R {n : Nat} (hn : n ≤ 6) {liv hour cat nights seed : Int32} {has hours v t u : AI} (h : townR n liv hour cat nights seed has hours v) : townR n liv hour cat nights seed (va_cpy has t 0 0 6) (va_cpy hours u 0 0 36) v := by
  obtain ⟨h1, h2, h3, h4, h5, h6, h7⟩ := h
  exact ⟨h1, h2, h3, h4, h5, fun j hj => by rw [sb_cpy0 (show j < 6 by omega)]; exact h6 j hj, fun j hj => by rw [sb_cpy0 hj]; exact h7 j hj⟩
theorem become_M {n : Nat} (hn : n ≤ 6) {liv cat : Int32} {has t : AI} (h : moneyI n liv cat has) : moneyI n liv cat (va_cpy has t 0 0 6) := by
  obtain ⟨L, hN, cN, g1, g2, g3, g4, g5, g6⟩ := h
  exact ⟨L, hN, cN, g1, g2, fun j hj => by rw [sb_cpy0 (show j < 6 by omega)]; exact g3 j hj, g4, g5, g6⟩

theorem M_tries3 {n p g L hr many : Nat} (hn : n ≤ 6) (hp : p < n) (hg : g < 2 ^ 20) (hL : L < 64) {cat nights seed : Int32} {has hours x pr pd : AI} {pk : Nat → Nat} {d : Nat} (hd : many = 3 + d) (hd3 : d = 0) (hh : hr + d < 2 ^ 19) (row kr : Int32) (km : Int64) (k_night_then_living : Int32) (k_night_then_hour : Int32) (k_night_then_cat : Int32) (k_night_then_nights : Int32) (k_night_then_seed : Int32) (k_night_then_has_ : AI) (k_night_then_hours_ : AI) (hR : townR n (nI L) (nI hr) cat nights seed has hours x) (hM : moneyI n (nI L) cat has) :
    ∃ r, MX6_tries3 row (nI p) (nI many) kr km (nI L) (nI hr) cat nights seed k_night_then_living k_night_then_hour k_night_then_cat k_night_then_nights k_night_then_seed has hours (nI n) k_night_then_has_ k_night_then_hours_ n pd = some r ∧ (r.1, r.2.1) = specT (stepS p g L pk pr) (valV n L p pd) (n + 1) d row x (kr, km) ∧ r.2.2.1 = wholeF (nI L) n := by
  subst hd3; subst hd
  · obtain ⟨r, e1, e2, e3⟩ := M_sum5 hn hp hL (nI hr) cat nights seed k_night_then_living k_night_then_hour k_night_then_cat k_night_then_nights k_night_then_seed k_night_then_has_ k_night_then_hours_ has hours pd hM.deadO
    have e4 : r.1 = valV n L p pd x := e2.trans (val_eq hn hp hL hR.1 hR.2.2.2.2.2.1 hR.2.2.2.2.2.2)
    unfold MX6_tries3
    rw [if_pos (show (3 : Int32) = nI 3 from rfl), e1, Option.bind_some]
    by_cases c : lg_cmp r.1 km ≤ 0
    · rw [if_pos c]
      exact ⟨_, rfl, by show _ = leafS (valV n L p pd x) row (kr, km); rw [← e4]; exact leaf_le c, e3⟩
    · rw [if_neg c]
      exact ⟨_, rfl, by show _ = leafS (valV n L p pd x) row (kr, km); rw [← e4]; exact leaf_gt c, e3⟩
theorem M_tries2 {n p g L hr many : Nat} (hn : n ≤ 6) (hp : p < n) (hg : g < 2 ^ 20) (hL : L < 64) {cat nights seed : Int32} {has hours x pr pd : AI} {pk : Nat → Nat} {d : Nat} (hd : many = 2 + d) (hd3 : d ≤ 1) (hh : hr + d < 2 ^ 19) (row kr : Int32) (km : Int64) (k_towns3_living : Int32) (k_towns3_hour : Int32) (k_towns3_cat : Int32) (k_towns3_nights : Int32) (k_towns3_seed : Int32) (k_towns3_has_ : AI) (k_towns3_hours_ : AI) (k_night_then_living : Int32) (k_night_then_hour : Int32) (k_night_then_cat : Int32) (k_night_then_nights : Int32) (k_night_then_seed : Int32) (k_night_then_has_ : AI) (k_night_then_hours_ : AI) (hR : townR n (nI L) (nI hr) cat nights seed has hours x) (hM : moneyI n (nI L) cat has) :
    ∃ r, MX6_tries2 row (nI p) (nI many) kr km k_towns3_living k_towns3_hour k_towns3_cat k_towns3_nights k_towns3_seed (nI L) (nI hr) cat nights seed k_towns3_has_ k_towns3_hours_ has hours (nI g) (nI n) k_night_then_living k_night_then_hour k_night_then_cat k_night_then_nights k_night_then_seed k_night_then_has_ k_night_then_hours_ n pk pd pr = some r ∧ (r.1, r.2.1) = specT (stepS p g L pk pr) (valV n L p pd) (n + 1) d row x (kr, km) ∧ r.2.2.2.2.2.2.2.2.2.1 = wholeF (nI L) n := by
  cases d with
  | zero =>
    subst hd
    obtain ⟨r, e1, e2, e3⟩ := M_sum5 hn hp hL (nI hr) cat nights seed k_night_then_living k_night_then_hour k_night_then_cat k_night_then_nights k_night_then_seed k_night_then_has_ k_night_then_hours_ has hours pd hM.deadO
    have e4 : r.1 = valV n L p pd x := e2.trans (val_eq hn hp hL hR.1 hR.2.2.2.2.2.1 hR.2.2.2.2.2.2)
    unfold MX6_tries2
    rw [if_pos (show (2 : Int32) = nI 2 from rfl), e1, Option.bind_some]
    by_cases c : lg_cmp r.1 km ≤ 0
    · rw [if_pos c]
      exact ⟨_, rfl, by show _ = leafS (valV n L p pd x) row (kr, km); rw [← e4]; exact leaf_le c, e3⟩
    · rw [if_neg c]
      exact ⟨_, rfl, by show _ = leafS (valV n L p pd x) row (kr, km); rw [← e4]; exact leaf_gt c, e3⟩
  | succ d =>
    have hchild := fun (hr2 : Nat) (has2 hours2 x2 : AI) (h2 : hr2 + d < 2 ^ 19) (hR2 : townR n (nI L) (nI hr2) cat nights seed has2 hours2 x2) (hM2 : moneyI n (nI L) cat has2) (row kr : Int32) (km : Int64) (k_night_then_living : Int32) (k_night_then_hour : Int32) (k_night_then_cat : Int32) (k_night_then_nights : Int32) (k_night_then_seed : Int32) (k_night_then_has_ : AI) (k_night_then_hours_ : AI) => M_tries3 (many := many) (g := g) (pk := pk) (pr := pr) (pd := pd) hn hp hg hL (d := d) (by omega) (by omega) h2 row kr km k_night_then_living k_night_then_hour k_night_then_cat k_night_then_nights k_night_then_seed k_night_then_has_ k_night_then_hours_ hR2 hM2
    obtain ⟨r4, f1, f2, f3⟩ := hchild hr (va_cpy has k_towns3_has_ 0 0 6) (va_cpy hours k_towns3_hours_ 0 0 36) x (by omega) (become_R hn hR) (become_M hn hM) ((10 : Int32) * row) kr km k_night_then_living k_night_then_hour k_night_then_cat k_night_then_nights k_night_then_seed k_night_then_has_ k_night_then_hours_
    have f2 : (r4.1, r4.2.1) = foldF (fun acc c => match stepS p g L pk pr c x with | none => acc | some x' => specT (stepS p g L pk pr) (valV n L p pd) (n + 1) d ((10 : Int32) * row + nI c) x' acc) (kr, km) 1 := by
      rw [f2]; show _ = specT (stepS p g L pk pr) (valV n L p pd) (n + 1) d ((10 : Int32) * row + 0) x (kr, km); rw [Int32.add_zero]
    obtain ⟨r16, g1, g2, g3⟩ := loop_FU (f := fun s_ : Int32 × Int32 × Int64 × Int32 × Int32 × Int32 × Int32 × Int32 × AI × AI × Int64 × Int32 × Int32 × Int32 × Int32 × Int32 × AI × AI => BX6_tries2_91 row (nI p) (nI many) (nI L) (nI hr) cat nights seed has hours (nI g) (nI n) n pk pd pr s_.1 s_.2.1 s_.2.2.1 s_.2.2.2.1 s_.2.2.2.2.1 s_.2.2.2.2.2.1 s_.2.2.2.2.2.2.1 s_.2.2.2.2.2.2.2.1 s_.2.2.2.2.2.2.2.2.1 s_.2.2.2.2.2.2.2.2.2.1 s_.2.2.2.2.2.2.2.2.2.2.1 s_.2.2.2.2.2.2.2.2.2.2.2.1 s_.2.2.2.2.2.2.2.2.2.2.2.2.1 s_.2.2.2.2.2.2.2.2.2.2.2.2.2.1 s_.2.2.2.2.2.2.2.2.2.2.2.2.2.2.1 s_.2.2.2.2.2.2.2.2.2.2.2.2.2.2.2.1 s_.2.2.2.2.2.2.2.2.2.2.2.2.2.2.2.2.1 s_.2.2.2.2.2.2.2.2.2.2.2.2.2.2.2.2.2)
      (fun i s => s.1 = nI i ∧ (s.2.1, s.2.2.1) = foldF (fun acc c => match stepS p g L pk pr c x with | none => acc | some x' => specT (stepS p g L pk pr) (valV n L p pd) (n + 1) d ((10 : Int32) * row + nI c) x' acc) (kr, km) (i + 1) ∧ s.2.2.2.2.2.2.2.2.2.2.1 = wholeF (nI L) n)
      (fun r => (r.2.2.2.2.1, r.2.2.2.2.2.1) = foldF (fun acc c => match stepS p g L pk pr c x with | none => acc | some x' => specT (stepS p g L pk pr) (valV n L p pd) (n + 1) d ((10 : Int32) * row + nI c) x' acc) (kr, km) (n + 1) ∧ r.2.2.2.2.2.2.2.2.2.2.2.1 = wholeF (nI L) n) n (by omega) ((0 : Int32), r4.1, r4.2.1, (nI L), (nI hr), cat, nights, seed, (va_cpy has k_towns3_has_ 0 0 6), (va_cpy hours k_towns3_hours_ 0 0 36), r4.2.2.1, r4.2.2.2.1, r4.2.2.2.2.1, r4.2.2.2.2.2.1, r4.2.2.2.2.2.2.1, r4.2.2.2.2.2.2.2.1, r4.2.2.2.2.2.2.2.2.1, r4.2.2.2.2.2.2.2.2.2) ⟨rfl, f2, f3⟩
      (by
        intro i s hi hs
        obtain ⟨z0, z1, z2, k_towns3_living_91, k_towns3_hour_91, k_towns3_cat_91, k_towns3_nights_91, k_towns3_seed_91, k_towns3_has_91, k_towns3_hours_91, k_night_all_91, k_night_then_living_91, k_night_then_hour_91, k_night_then_cat_91, k_night_then_nights_91, k_night_then_seed_91, k_night_then_has_91, k_night_then_hours_91⟩ := s
        obtain ⟨w1, w2, w3⟩ := hs
        dsimp only at w1 w2 w3
        subst w1
        refine Or.inl ?_
        show ∃ s', BX6_tries2_91 row (nI p) (nI many) (nI L) (nI hr) cat nights seed has hours (nI g) (nI n) n pk pd pr (nI i) z1 z2 k_towns3_living_91 k_towns3_hour_91 k_towns3_cat_91 k_towns3_nights_91 k_towns3_seed_91 k_towns3_has_91 k_towns3_hours_91 k_night_all_91 k_night_then_living_91 k_night_then_hour_91 k_night_then_cat_91 k_night_then_nights_91 k_night_then_seed_91 k_night_then_has_91 k_night_then_hours_91 = some (.inl s') ∧ _
        unfold BX6_tries2_91
        rw [if_neg (nI_ge hi (by omega)), nI_1, M_canAsk4 hn hp hi, Option.bind_some]
        cases c1 : canA (nI L) pk pr p i
        · rw [iff_]
          refine ⟨_, rfl, rfl, ?_, w3⟩
          show (z1, z2) = (match stepS p g L pk pr (i + 1) x with | none => foldF (fun acc c => match stepS p g L pk pr c x with | none => acc | some x' => specT (stepS p g L pk pr) (valV n L p pd) (n + 1) d ((10 : Int32) * row + nI c) x' acc) (kr, km) (i + 1) | some x' => _)
          rw [stepS_n c1]; exact w2
        · obtain ⟨d1, d2, d3⟩ := canA_of c1
          obtain ⟨m, has3, x3, a1, a2, a3, a4, -, -⟩ := asks_R hn hp hi d1 hg (hr := hr) (by omega) (become_R (t := k_towns3_has_91) (u := k_towns3_hours_91) hn hR) (become_M (t := k_towns3_has_91) hn hM) d2 d3
          obtain ⟨r5, b1, b2, b3⟩ := hchild (hr + 1) has3 _ x3 (by omega) a3 a4 ((((10 : Int32) * row) + nI i) + (1 : Int32)) z1 z2 k_night_then_living_91 k_night_then_hour_91 k_night_then_cat_91 k_night_then_nights_91 k_night_then_seed_91 k_night_then_has_91 k_night_then_hours_91
          rw [ift]
          unfold MX4_become
          rw [Option.bind_some]
          dsimp only
          rw [a1, Option.bind_some]
          dsimp only
          rw [b1, Option.bind_some]
          refine ⟨_, rfl, rfl, ?_, b3⟩
          show (r5.1, r5.2.1) = (match stepS p g L pk pr (i + 1) x with | none => foldF (fun acc c => match stepS p g L pk pr c x with | none => acc | some x' => specT (stepS p g L pk pr) (valV n L p pd) (n + 1) d ((10 : Int32) * row + nI c) x' acc) (kr, km) (i + 1) | some x' => specT (stepS p g L pk pr) (valV n L p pd) (n + 1) d ((10 : Int32) * row + nI (i + 1)) x' (foldF (fun acc c => match stepS p g L pk pr c x with | none => acc | some x' => specT (stepS p g L pk pr) (valV n L p pd) (n + 1) d ((10 : Int32) * row + nI c) x' acc) (kr, km) (i + 1)))
          rw [stepS_s c1, a2, ← w2, b2, Int32.add_assoc, nI_1])
      (by
        intro s hs
        obtain ⟨z0, z1, z2, k_towns3_living_91, k_towns3_hour_91, k_towns3_cat_91, k_towns3_nights_91, k_towns3_seed_91, k_towns3_has_91, k_towns3_hours_91, k_night_all_91, k_night_then_living_91, k_night_then_hour_91, k_night_then_cat_91, k_night_then_nights_91, k_night_then_seed_91, k_night_then_has_91, k_night_then_hours_91⟩ := s
        obtain ⟨w1, w2, w3⟩ := hs
        dsimp only at w1 w2 w3
        subst w1
        exact ⟨_, by show BX6_tries2_91 row (nI p) (nI many) (nI L) (nI hr) cat nights seed has hours (nI g) (nI n) n pk pd pr (nI n) z1 z2 k_towns3_living_91 k_towns3_hour_91 k_towns3_cat_91 k_towns3_nights_91 k_towns3_seed_91 k_towns3_has_91 k_towns3_hours_91 k_night_all_91 k_night_then_living_91 k_night_then_hour_91 k_night_then_cat_91 k_night_then_nights_91 k_night_then_seed_91 k_night_then_has_91 k_night_then_hours_91 = _; unfold BX6_tries2_91; rw [if_pos (nI_le (Nat.le_refl n) (by omega))], w2, w3⟩)
    unfold MX6_tries2 MX4_become
    rw [if_neg (show ¬ (2 : Int32) = nI many from fun z => absurd ((nI_eq (a := 2) (by omega) (by omega)).mp z) (by omega)), Option.bind_some]
    dsimp only
    rw [f1, Option.bind_some, g1, Option.bind_some]
    exact ⟨_, rfl, g2, g3⟩
theorem M_tries1 {n p g L hr many : Nat} (hn : n ≤ 6) (hp : p < n) (hg : g < 2 ^ 20) (hL : L < 64) {cat nights seed : Int32} {has hours x pr pd : AI} {pk : Nat → Nat} {d : Nat} (hd : many = 1 + d) (hd3 : d ≤ 2) (hh : hr + d < 2 ^ 19) (row kr : Int32) (km : Int64) (k_towns2_living : Int32) (k_towns2_hour : Int32) (k_towns2_cat : Int32) (k_towns2_nights : Int32) (k_towns2_seed : Int32) (k_towns2_has_ : AI) (k_towns2_hours_ : AI) (k_towns3_living : Int32) (k_towns3_hour : Int32) (k_towns3_cat : Int32) (k_towns3_nights : Int32) (k_towns3_seed : Int32) (k_night_then_living : Int32) (k_night_then_hour : Int32) (k_night_then_cat : Int32) (k_night_then_nights : Int32) (k_night_then_seed : Int32) (k_towns3_has_ : AI) (k_towns3_hours_ : AI) (k_night_then_has_ : AI) (k_night_then_hours_ : AI) (hR : townR n (nI L) (nI hr) cat nights seed has hours x) (hM : moneyI n (nI L) cat has) :
    ∃ r, MX6_tries1 row (nI p) (nI many) kr km k_towns2_living k_towns2_hour k_towns2_cat k_towns2_nights k_towns2_seed (nI L) (nI hr) cat nights seed k_towns2_has_ k_towns2_hours_ has hours (nI g) (nI n) k_towns3_living k_towns3_hour k_towns3_cat k_towns3_nights k_towns3_seed k_night_then_living k_night_then_hour k_night_then_cat k_night_then_nights k_night_then_seed k_towns3_has_ k_towns3_hours_ k_night_then_has_ k_night_then_hours_ n pk pd pr = some r ∧ (r.1, r.2.1) = specT (stepS p g L pk pr) (valV n L p pd) (n + 1) d row x (kr, km) ∧ r.2.2.2.2.2.2.2.2.2.1 = wholeF (nI L) n := by
  cases d with
  | zero =>
    subst hd
    obtain ⟨r, e1, e2, e3⟩ := M_sum5 hn hp hL (nI hr) cat nights seed k_night_then_living k_night_then_hour k_night_then_cat k_night_then_nights k_night_then_seed k_night_then_has_ k_night_then_hours_ has hours pd hM.deadO
    have e4 : r.1 = valV n L p pd x := e2.trans (val_eq hn hp hL hR.1 hR.2.2.2.2.2.1 hR.2.2.2.2.2.2)
    unfold MX6_tries1
    rw [if_pos (show (1 : Int32) = nI 1 from rfl), e1, Option.bind_some]
    by_cases c : lg_cmp r.1 km ≤ 0
    · rw [if_pos c]
      exact ⟨_, rfl, by show _ = leafS (valV n L p pd x) row (kr, km); rw [← e4]; exact leaf_le c, e3⟩
    · rw [if_neg c]
      exact ⟨_, rfl, by show _ = leafS (valV n L p pd x) row (kr, km); rw [← e4]; exact leaf_gt c, e3⟩
  | succ d =>
    have hchild := fun (hr2 : Nat) (has2 hours2 x2 : AI) (h2 : hr2 + d < 2 ^ 19) (hR2 : townR n (nI L) (nI hr2) cat nights seed has2 hours2 x2) (hM2 : moneyI n (nI L) cat has2) (row kr : Int32) (km : Int64) (k_towns3_living : Int32) (k_towns3_hour : Int32) (k_towns3_cat : Int32) (k_towns3_nights : Int32) (k_towns3_seed : Int32) (k_towns3_has_ : AI) (k_towns3_hours_ : AI) (k_night_then_living : Int32) (k_night_then_hour : Int32) (k_night_then_cat : Int32) (k_night_then_nights : Int32) (k_night_then_seed : Int32) (k_night_then_has_ : AI) (k_night_then_hours_ : AI) => M_tries2 (many := many) (g := g) (pk := pk) (pr := pr) (pd := pd) hn hp hg hL (d := d) (by omega) (by omega) h2 row kr km k_towns3_living k_towns3_hour k_towns3_cat k_towns3_nights k_towns3_seed k_towns3_has_ k_towns3_hours_ k_night_then_living k_night_then_hour k_night_then_cat k_night_then_nights k_night_then_seed k_night_then_has_ k_night_then_hours_ hR2 hM2
    obtain ⟨r4, f1, f2, f3⟩ := hchild hr (va_cpy has k_towns2_has_ 0 0 6) (va_cpy hours k_towns2_hours_ 0 0 36) x (by omega) (become_R hn hR) (become_M hn hM) ((10 : Int32) * row) kr km k_towns3_living k_towns3_hour k_towns3_cat k_towns3_nights k_towns3_seed k_towns3_has_ k_towns3_hours_ k_night_then_living k_night_then_hour k_night_then_cat k_night_then_nights k_night_then_seed k_night_then_has_ k_night_then_hours_
    have f2 : (r4.1, r4.2.1) = foldF (fun acc c => match stepS p g L pk pr c x with | none => acc | some x' => specT (stepS p g L pk pr) (valV n L p pd) (n + 1) d ((10 : Int32) * row + nI c) x' acc) (kr, km) 1 := by
      rw [f2]; show _ = specT (stepS p g L pk pr) (valV n L p pd) (n + 1) d ((10 : Int32) * row + 0) x (kr, km); rw [Int32.add_zero]
    obtain ⟨r16, g1, g2, g3⟩ := loop_FU (f := fun s_ : Int32 × Int32 × Int64 × Int32 × Int32 × Int32 × Int32 × Int32 × AI × AI × Int64 × Int32 × Int32 × Int32 × Int32 × Int32 × Int32 × Int32 × Int32 × Int32 × Int32 × AI × AI × AI × AI => BX6_tries1_91 row (nI p) (nI many) (nI L) (nI hr) cat nights seed has hours (nI g) (nI n) n pk pd pr s_.1 s_.2.1 s_.2.2.1 s_.2.2.2.1 s_.2.2.2.2.1 s_.2.2.2.2.2.1 s_.2.2.2.2.2.2.1 s_.2.2.2.2.2.2.2.1 s_.2.2.2.2.2.2.2.2.1 s_.2.2.2.2.2.2.2.2.2.1 s_.2.2.2.2.2.2.2.2.2.2.1 s_.2.2.2.2.2.2.2.2.2.2.2.1 s_.2.2.2.2.2.2.2.2.2.2.2.2.1 s_.2.2.2.2.2.2.2.2.2.2.2.2.2.1 s_.2.2.2.2.2.2.2.2.2.2.2.2.2.2.1 s_.2.2.2.2.2.2.2.2.2.2.2.2.2.2.2.1 s_.2.2.2.2.2.2.2.2.2.2.2.2.2.2.2.2.1 s_.2.2.2.2.2.2.2.2.2.2.2.2.2.2.2.2.2.1 s_.2.2.2.2.2.2.2.2.2.2.2.2.2.2.2.2.2.2.1 s_.2.2.2.2.2.2.2.2.2.2.2.2.2.2.2.2.2.2.2.1 s_.2.2.2.2.2.2.2.2.2.2.2.2.2.2.2.2.2.2.2.2.1 s_.2.2.2.2.2.2.2.2.2.2.2.2.2.2.2.2.2.2.2.2.2.1 s_.2.2.2.2.2.2.2.2.2.2.2.2.2.2.2.2.2.2.2.2.2.2.1 s_.2.2.2.2.2.2.2.2.2.2.2.2.2.2.2.2.2.2.2.2.2.2.2.1 s_.2.2.2.2.2.2.2.2.2.2.2.2.2.2.2.2.2.2.2.2.2.2.2.2)
      (fun i s => s.1 = nI i ∧ (s.2.1, s.2.2.1) = foldF (fun acc c => match stepS p g L pk pr c x with | none => acc | some x' => specT (stepS p g L pk pr) (valV n L p pd) (n + 1) d ((10 : Int32) * row + nI c) x' acc) (kr, km) (i + 1) ∧ s.2.2.2.2.2.2.2.2.2.2.1 = wholeF (nI L) n)
      (fun r => (r.2.2.2.2.2.2.1, r.2.2.2.2.2.2.2.1) = foldF (fun acc c => match stepS p g L pk pr c x with | none => acc | some x' => specT (stepS p g L pk pr) (valV n L p pd) (n + 1) d ((10 : Int32) * row + nI c) x' acc) (kr, km) (n + 1) ∧ r.2.2.2.2.2.2.2.2.2.2.2.2.2.1 = wholeF (nI L) n) n (by omega) ((0 : Int32), r4.1, r4.2.1, (nI L), (nI hr), cat, nights, seed, (va_cpy has k_towns2_has_ 0 0 6), (va_cpy hours k_towns2_hours_ 0 0 36), r4.2.2.2.2.2.2.2.2.2.1, r4.2.2.1, r4.2.2.2.1, r4.2.2.2.2.1, r4.2.2.2.2.2.1, r4.2.2.2.2.2.2.1, r4.2.2.2.2.2.2.2.2.2.2.1, r4.2.2.2.2.2.2.2.2.2.2.2.1, r4.2.2.2.2.2.2.2.2.2.2.2.2.1, r4.2.2.2.2.2.2.2.2.2.2.2.2.2.1, r4.2.2.2.2.2.2.2.2.2.2.2.2.2.2.1, r4.2.2.2.2.2.2.2.1, r4.2.2.2.2.2.2.2.2.1, r4.2.2.2.2.2.2.2.2.2.2.2.2.2.2.2.1, r4.2.2.2.2.2.2.2.2.2.2.2.2.2.2.2.2) ⟨rfl, f2, f3⟩
      (by
        intro i s hi hs
        obtain ⟨z0, z1, z2, k_towns2_living_91, k_towns2_hour_91, k_towns2_cat_91, k_towns2_nights_91, k_towns2_seed_91, k_towns2_has_91, k_towns2_hours_91, k_night_all_91, k_towns3_living_91, k_towns3_hour_91, k_towns3_cat_91, k_towns3_nights_91, k_towns3_seed_91, k_night_then_living_91, k_night_then_hour_91, k_night_then_cat_91, k_night_then_nights_91, k_night_then_seed_91, k_towns3_has_91, k_towns3_hours_91, k_night_then_has_91, k_night_then_hours_91⟩ := s
        obtain ⟨w1, w2, w3⟩ := hs
        dsimp only at w1 w2 w3
        subst w1
        refine Or.inl ?_
        show ∃ s', BX6_tries1_91 row (nI p) (nI many) (nI L) (nI hr) cat nights seed has hours (nI g) (nI n) n pk pd pr (nI i) z1 z2 k_towns2_living_91 k_towns2_hour_91 k_towns2_cat_91 k_towns2_nights_91 k_towns2_seed_91 k_towns2_has_91 k_towns2_hours_91 k_night_all_91 k_towns3_living_91 k_towns3_hour_91 k_towns3_cat_91 k_towns3_nights_91 k_towns3_seed_91 k_night_then_living_91 k_night_then_hour_91 k_night_then_cat_91 k_night_then_nights_91 k_night_then_seed_91 k_towns3_has_91 k_towns3_hours_91 k_night_then_has_91 k_night_then_hours_91 = some (.inl s') ∧ _
        unfold BX6_tries1_91
        rw [if_neg (nI_ge hi (by omega)), nI_1, M_canAsk4 hn hp hi, Option.bind_some]
        cases c1 : canA (nI L) pk pr p i
        · rw [iff_]
          refine ⟨_, rfl, rfl, ?_, w3⟩
          show (z1, z2) = (match stepS p g L pk pr (i + 1) x with | none => foldF (fun acc c => match stepS p g L pk pr c x with | none => acc | some x' => specT (stepS p g L pk pr) (valV n L p pd) (n + 1) d ((10 : Int32) * row + nI c) x' acc) (kr, km) (i + 1) | some x' => _)
          rw [stepS_n c1]; exact w2
        · obtain ⟨d1, d2, d3⟩ := canA_of c1
          obtain ⟨m, has3, x3, a1, a2, a3, a4, -, -⟩ := asks_R hn hp hi d1 hg (hr := hr) (by omega) (become_R (t := k_towns2_has_91) (u := k_towns2_hours_91) hn hR) (become_M (t := k_towns2_has_91) hn hM) d2 d3
          obtain ⟨r5, b1, b2, b3⟩ := hchild (hr + 1) has3 _ x3 (by omega) a3 a4 ((((10 : Int32) * row) + nI i) + (1 : Int32)) z1 z2 k_towns3_living_91 k_towns3_hour_91 k_towns3_cat_91 k_towns3_nights_91 k_towns3_seed_91 k_towns3_has_91 k_towns3_hours_91 k_night_then_living_91 k_night_then_hour_91 k_night_then_cat_91 k_night_then_nights_91 k_night_then_seed_91 k_night_then_has_91 k_night_then_hours_91
          rw [ift]
          unfold MX4_become
          rw [Option.bind_some]
          dsimp only
          rw [a1, Option.bind_some]
          dsimp only
          rw [b1, Option.bind_some]
          refine ⟨_, rfl, rfl, ?_, b3⟩
          show (r5.1, r5.2.1) = (match stepS p g L pk pr (i + 1) x with | none => foldF (fun acc c => match stepS p g L pk pr c x with | none => acc | some x' => specT (stepS p g L pk pr) (valV n L p pd) (n + 1) d ((10 : Int32) * row + nI c) x' acc) (kr, km) (i + 1) | some x' => specT (stepS p g L pk pr) (valV n L p pd) (n + 1) d ((10 : Int32) * row + nI (i + 1)) x' (foldF (fun acc c => match stepS p g L pk pr c x with | none => acc | some x' => specT (stepS p g L pk pr) (valV n L p pd) (n + 1) d ((10 : Int32) * row + nI c) x' acc) (kr, km) (i + 1)))
          rw [stepS_s c1, a2, ← w2, b2, Int32.add_assoc, nI_1])
      (by
        intro s hs
        obtain ⟨z0, z1, z2, k_towns2_living_91, k_towns2_hour_91, k_towns2_cat_91, k_towns2_nights_91, k_towns2_seed_91, k_towns2_has_91, k_towns2_hours_91, k_night_all_91, k_towns3_living_91, k_towns3_hour_91, k_towns3_cat_91, k_towns3_nights_91, k_towns3_seed_91, k_night_then_living_91, k_night_then_hour_91, k_night_then_cat_91, k_night_then_nights_91, k_night_then_seed_91, k_towns3_has_91, k_towns3_hours_91, k_night_then_has_91, k_night_then_hours_91⟩ := s
        obtain ⟨w1, w2, w3⟩ := hs
        dsimp only at w1 w2 w3
        subst w1
        exact ⟨_, by show BX6_tries1_91 row (nI p) (nI many) (nI L) (nI hr) cat nights seed has hours (nI g) (nI n) n pk pd pr (nI n) z1 z2 k_towns2_living_91 k_towns2_hour_91 k_towns2_cat_91 k_towns2_nights_91 k_towns2_seed_91 k_towns2_has_91 k_towns2_hours_91 k_night_all_91 k_towns3_living_91 k_towns3_hour_91 k_towns3_cat_91 k_towns3_nights_91 k_towns3_seed_91 k_night_then_living_91 k_night_then_hour_91 k_night_then_cat_91 k_night_then_nights_91 k_night_then_seed_91 k_towns3_has_91 k_towns3_hours_91 k_night_then_has_91 k_night_then_hours_91 = _; unfold BX6_tries1_91; rw [if_pos (nI_le (Nat.le_refl n) (by omega))], w2, w3⟩)
    unfold MX6_tries1 MX4_become
    rw [if_neg (show ¬ (1 : Int32) = nI many from fun z => absurd ((nI_eq (a := 1) (by omega) (by omega)).mp z) (by omega)), Option.bind_some]
    dsimp only
    rw [f1, Option.bind_some, g1, Option.bind_some]
    exact ⟨_, rfl, g2, g3⟩
theorem M_tries0 {n p g L hr many : Nat} (hn : n ≤ 6) (hp : p < n) (hg : g < 2 ^ 20) (hL : L < 64) {cat nights seed : Int32} {has hours x pr pd : AI} {pk : Nat → Nat} {d : Nat} (hd : many = 0 + d) (hd3 : d ≤ 3) (hd0 : 0 < d) (hh : hr + d < 2 ^ 19) (row kr : Int32) (km : Int64) (k_towns1_living : Int32) (k_towns1_hour : Int32) (k_towns1_cat : Int32) (k_towns1_nights : Int32) (k_towns1_seed : Int32) (k_towns1_has_ : AI) (k_towns1_hours_ : AI) (k_towns2_living : Int32) (k_towns2_hour : Int32) (k_towns2_cat : Int32) (k_towns2_nights : Int32) (k_towns2_seed : Int32) (k_towns3_living : Int32) (k_towns3_hour : Int32) (k_towns3_cat : Int32) (k_towns3_nights : Int32) (k_towns3_seed : Int32) (k_night_then_living : Int32) (k_night_then_hour : Int32) (k_night_then_cat : Int32) (k_night_then_nights : Int32) (k_night_then_seed : Int32) (k_towns2_has_ : AI) (k_towns2_hours_ : AI) (k_towns3_has_ : AI) (k_towns3_hours_ : AI) (k_night_then_has_ : AI) (k_night_then_hours_ : AI) (hR : townR n (nI L) (nI hr) cat nights seed has hours x) (hM : moneyI n (nI L) cat has) :
    ∃ r, MX6_tries0 row (nI p) (nI many) kr km k_towns1_living k_towns1_hour k_towns1_cat k_towns1_nights k_towns1_seed (nI L) (nI hr) cat nights seed k_towns1_has_ k_towns1_hours_ has hours (nI g) (nI n) k_towns2_living k_towns2_hour k_towns2_cat k_towns2_nights k_towns2_seed k_towns3_living k_towns3_hour k_towns3_cat k_towns3_nights k_towns3_seed k_night_then_living k_night_then_hour k_night_then_cat k_night_then_nights k_night_then_seed k_towns2_has_ k_towns2_hours_ k_towns3_has_ k_towns3_hours_ k_night_then_has_ k_night_then_hours_ n pk pd pr = some r ∧ (r.1, r.2.1) = specT (stepS p g L pk pr) (valV n L p pd) (n + 1) d row x (kr, km) ∧ r.2.2.2.2.2.2.2.2.2.1 = wholeF (nI L) n := by
  cases d with
  | zero =>
    exact absurd hd0 (by decide)
  | succ d =>
    have hchild := fun (hr2 : Nat) (has2 hours2 x2 : AI) (h2 : hr2 + d < 2 ^ 19) (hR2 : townR n (nI L) (nI hr2) cat nights seed has2 hours2 x2) (hM2 : moneyI n (nI L) cat has2) (row kr : Int32) (km : Int64) (k_towns2_living : Int32) (k_towns2_hour : Int32) (k_towns2_cat : Int32) (k_towns2_nights : Int32) (k_towns2_seed : Int32) (k_towns2_has_ : AI) (k_towns2_hours_ : AI) (k_towns3_living : Int32) (k_towns3_hour : Int32) (k_towns3_cat : Int32) (k_towns3_nights : Int32) (k_towns3_seed : Int32) (k_night_then_living : Int32) (k_night_then_hour : Int32) (k_night_then_cat : Int32) (k_night_then_nights : Int32) (k_night_then_seed : Int32) (k_towns3_has_ : AI) (k_towns3_hours_ : AI) (k_night_then_has_ : AI) (k_night_then_hours_ : AI) => M_tries1 (many := many) (g := g) (pk := pk) (pr := pr) (pd := pd) hn hp hg hL (d := d) (by omega) (by omega) h2 row kr km k_towns2_living k_towns2_hour k_towns2_cat k_towns2_nights k_towns2_seed k_towns2_has_ k_towns2_hours_ k_towns3_living k_towns3_hour k_towns3_cat k_towns3_nights k_towns3_seed k_night_then_living k_night_then_hour k_night_then_cat k_night_then_nights k_night_then_seed k_towns3_has_ k_towns3_hours_ k_night_then_has_ k_night_then_hours_ hR2 hM2
    obtain ⟨r4, f1, f2, f3⟩ := hchild hr (va_cpy has k_towns1_has_ 0 0 6) (va_cpy hours k_towns1_hours_ 0 0 36) x (by omega) (become_R hn hR) (become_M hn hM) ((10 : Int32) * row) kr km k_towns2_living k_towns2_hour k_towns2_cat k_towns2_nights k_towns2_seed k_towns2_has_ k_towns2_hours_ k_towns3_living k_towns3_hour k_towns3_cat k_towns3_nights k_towns3_seed k_night_then_living k_night_then_hour k_night_then_cat k_night_then_nights k_night_then_seed k_towns3_has_ k_towns3_hours_ k_night_then_has_ k_night_then_hours_
    have f2 : (r4.1, r4.2.1) = foldF (fun acc c => match stepS p g L pk pr c x with | none => acc | some x' => specT (stepS p g L pk pr) (valV n L p pd) (n + 1) d ((10 : Int32) * row + nI c) x' acc) (kr, km) 1 := by
      rw [f2]; show _ = specT (stepS p g L pk pr) (valV n L p pd) (n + 1) d ((10 : Int32) * row + 0) x (kr, km); rw [Int32.add_zero]
    obtain ⟨r16, g1, g2, g3⟩ := loop_FU (f := fun s_ : Int32 × Int32 × Int64 × Int32 × Int32 × Int32 × Int32 × Int32 × AI × AI × Int64 × Int32 × Int32 × Int32 × Int32 × Int32 × Int32 × Int32 × Int32 × Int32 × Int32 × Int32 × Int32 × Int32 × Int32 × Int32 × AI × AI × AI × AI × AI × AI => BX6_tries0_91 row (nI p) (nI many) (nI L) (nI hr) cat nights seed has hours (nI g) (nI n) n pk pd pr s_.1 s_.2.1 s_.2.2.1 s_.2.2.2.1 s_.2.2.2.2.1 s_.2.2.2.2.2.1 s_.2.2.2.2.2.2.1 s_.2.2.2.2.2.2.2.1 s_.2.2.2.2.2.2.2.2.1 s_.2.2.2.2.2.2.2.2.2.1 s_.2.2.2.2.2.2.2.2.2.2.1 s_.2.2.2.2.2.2.2.2.2.2.2.1 s_.2.2.2.2.2.2.2.2.2.2.2.2.1 s_.2.2.2.2.2.2.2.2.2.2.2.2.2.1 s_.2.2.2.2.2.2.2.2.2.2.2.2.2.2.1 s_.2.2.2.2.2.2.2.2.2.2.2.2.2.2.2.1 s_.2.2.2.2.2.2.2.2.2.2.2.2.2.2.2.2.1 s_.2.2.2.2.2.2.2.2.2.2.2.2.2.2.2.2.2.1 s_.2.2.2.2.2.2.2.2.2.2.2.2.2.2.2.2.2.2.1 s_.2.2.2.2.2.2.2.2.2.2.2.2.2.2.2.2.2.2.2.1 s_.2.2.2.2.2.2.2.2.2.2.2.2.2.2.2.2.2.2.2.2.1 s_.2.2.2.2.2.2.2.2.2.2.2.2.2.2.2.2.2.2.2.2.2.1 s_.2.2.2.2.2.2.2.2.2.2.2.2.2.2.2.2.2.2.2.2.2.2.1 s_.2.2.2.2.2.2.2.2.2.2.2.2.2.2.2.2.2.2.2.2.2.2.2.1 s_.2.2.2.2.2.2.2.2.2.2.2.2.2.2.2.2.2.2.2.2.2.2.2.2.1 s_.2.2.2.2.2.2.2.2.2.2.2.2.2.2.2.2.2.2.2.2.2.2.2.2.2.1 s_.2.2.2.2.2.2.2.2.2.2.2.2.2.2.2.2.2.2.2.2.2.2.2.2.2.2.1 s_.2.2.2.2.2.2.2.2.2.2.2.2.2.2.2.2.2.2.2.2.2.2.2.2.2.2.2.1 s_.2.2.2.2.2.2.2.2.2.2.2.2.2.2.2.2.2.2.2.2.2.2.2.2.2.2.2.2.1 s_.2.2.2.2.2.2.2.2.2.2.2.2.2.2.2.2.2.2.2.2.2.2.2.2.2.2.2.2.2.1 s_.2.2.2.2.2.2.2.2.2.2.2.2.2.2.2.2.2.2.2.2.2.2.2.2.2.2.2.2.2.2.1 s_.2.2.2.2.2.2.2.2.2.2.2.2.2.2.2.2.2.2.2.2.2.2.2.2.2.2.2.2.2.2.2)
      (fun i s => s.1 = nI i ∧ (s.2.1, s.2.2.1) = foldF (fun acc c => match stepS p g L pk pr c x with | none => acc | some x' => specT (stepS p g L pk pr) (valV n L p pd) (n + 1) d ((10 : Int32) * row + nI c) x' acc) (kr, km) (i + 1) ∧ s.2.2.2.2.2.2.2.2.2.2.1 = wholeF (nI L) n)
      (fun r => (r.2.2.2.2.2.2.2.2.1, r.2.2.2.2.2.2.2.2.2.1) = foldF (fun acc c => match stepS p g L pk pr c x with | none => acc | some x' => specT (stepS p g L pk pr) (valV n L p pd) (n + 1) d ((10 : Int32) * row + nI c) x' acc) (kr, km) (n + 1) ∧ r.2.2.2.2.2.2.2.2.2.2.2.2.2.2.2.1 = wholeF (nI L) n) n (by omega) ((0 : Int32), r4.1, r4.2.1, (nI L), (nI hr), cat, nights, seed, (va_cpy has k_towns1_has_ 0 0 6), (va_cpy hours k_towns1_hours_ 0 0 36), r4.2.2.2.2.2.2.2.2.2.1, r4.2.2.1, r4.2.2.2.1, r4.2.2.2.2.1, r4.2.2.2.2.2.1, r4.2.2.2.2.2.2.1, r4.2.2.2.2.2.2.2.2.2.2.1, r4.2.2.2.2.2.2.2.2.2.2.2.1, r4.2.2.2.2.2.2.2.2.2.2.2.2.1, r4.2.2.2.2.2.2.2.2.2.2.2.2.2.1, r4.2.2.2.2.2.2.2.2.2.2.2.2.2.2.1, r4.2.2.2.2.2.2.2.2.2.2.2.2.2.2.2.1, r4.2.2.2.2.2.2.2.2.2.2.2.2.2.2.2.2.1, r4.2.2.2.2.2.2.2.2.2.2.2.2.2.2.2.2.2.1, r4.2.2.2.2.2.2.2.2.2.2.2.2.2.2.2.2.2.2.1, r4.2.2.2.2.2.2.2.2.2.2.2.2.2.2.2.2.2.2.2.1, r4.2.2.2.2.2.2.2.1, r4.2.2.2.2.2.2.2.2.1, r4.2.2.2.2.2.2.2.2.2.2.2.2.2.2.2.2.2.2.2.2.1, r4.2.2.2.2.2.2.2.2.2.2.2.2.2.2.2.2.2.2.2.2.2.1, r4.2.2.2.2.2.2.2.2.2.2.2.2.2.2.2.2.2.2.2.2.2.2.1, r4.2.2.2.2.2.2.2.2.2.2.2.2.2.2.2.2.2.2.2.2.2.2.2) ⟨rfl, f2, f3⟩
      (by
        intro i s hi hs
        obtain ⟨z0, z1, z2, k_towns1_living_91, k_towns1_hour_91, k_towns1_cat_91, k_towns1_nights_91, k_towns1_seed_91, k_towns1_has_91, k_towns1_hours_91, k_night_all_91, k_towns2_living_91, k_towns2_hour_91, k_towns2_cat_91, k_towns2_nights_91, k_towns2_seed_91, k_towns3_living_91, k_towns3_hour_91, k_towns3_cat_91, k_towns3_nights_91, k_towns3_seed_91, k_night_then_living_91, k_night_then_hour_91, k_night_then_cat_91, k_night_then_nights_91, k_night_then_seed_91, k_towns2_has_91, k_towns2_hours_91, k_towns3_has_91, k_towns3_hours_91, k_night_then_has_91, k_night_then_hours_91⟩ := s
        obtain ⟨w1, w2, w3⟩ := hs
        dsimp only at w1 w2 w3
        subst w1
        refine Or.inl ?_
        show ∃ s', BX6_tries0_91 row (nI p) (nI many) (nI L) (nI hr) cat nights seed has hours (nI g) (nI n) n pk pd pr (nI i) z1 z2 k_towns1_living_91 k_towns1_hour_91 k_towns1_cat_91 k_towns1_nights_91 k_towns1_seed_91 k_towns1_has_91 k_towns1_hours_91 k_night_all_91 k_towns2_living_91 k_towns2_hour_91 k_towns2_cat_91 k_towns2_nights_91 k_towns2_seed_91 k_towns3_living_91 k_towns3_hour_91 k_towns3_cat_91 k_towns3_nights_91 k_towns3_seed_91 k_night_then_living_91 k_night_then_hour_91 k_night_then_cat_91 k_night_then_nights_91 k_night_then_seed_91 k_towns2_has_91 k_towns2_hours_91 k_towns3_has_91 k_towns3_hours_91 k_night_then_has_91 k_night_then_hours_91 = some (.inl s') ∧ _
        unfold BX6_tries0_91
        rw [if_neg (nI_ge hi (by omega)), nI_1, M_canAsk4 hn hp hi, Option.bind_some]
        cases c1 : canA (nI L) pk pr p i
        · rw [iff_]
          refine ⟨_, rfl, rfl, ?_, w3⟩
          show (z1, z2) = (match stepS p g L pk pr (i + 1) x with | none => foldF (fun acc c => match stepS p g L pk pr c x with | none => acc | some x' => specT (stepS p g L pk pr) (valV n L p pd) (n + 1) d ((10 : Int32) * row + nI c) x' acc) (kr, km) (i + 1) | some x' => _)
          rw [stepS_n c1]; exact w2
        · obtain ⟨d1, d2, d3⟩ := canA_of c1
          obtain ⟨m, has3, x3, a1, a2, a3, a4, -, -⟩ := asks_R hn hp hi d1 hg (hr := hr) (by omega) (become_R (t := k_towns1_has_91) (u := k_towns1_hours_91) hn hR) (become_M (t := k_towns1_has_91) hn hM) d2 d3
          obtain ⟨r5, b1, b2, b3⟩ := hchild (hr + 1) has3 _ x3 (by omega) a3 a4 ((((10 : Int32) * row) + nI i) + (1 : Int32)) z1 z2 k_towns2_living_91 k_towns2_hour_91 k_towns2_cat_91 k_towns2_nights_91 k_towns2_seed_91 k_towns2_has_91 k_towns2_hours_91 k_towns3_living_91 k_towns3_hour_91 k_towns3_cat_91 k_towns3_nights_91 k_towns3_seed_91 k_night_then_living_91 k_night_then_hour_91 k_night_then_cat_91 k_night_then_nights_91 k_night_then_seed_91 k_towns3_has_91 k_towns3_hours_91 k_night_then_has_91 k_night_then_hours_91
          rw [ift]
          unfold MX4_become
          rw [Option.bind_some]
          dsimp only
          rw [a1, Option.bind_some]
          dsimp only
          rw [b1, Option.bind_some]
          refine ⟨_, rfl, rfl, ?_, b3⟩
          show (r5.1, r5.2.1) = (match stepS p g L pk pr (i + 1) x with | none => foldF (fun acc c => match stepS p g L pk pr c x with | none => acc | some x' => specT (stepS p g L pk pr) (valV n L p pd) (n + 1) d ((10 : Int32) * row + nI c) x' acc) (kr, km) (i + 1) | some x' => specT (stepS p g L pk pr) (valV n L p pd) (n + 1) d ((10 : Int32) * row + nI (i + 1)) x' (foldF (fun acc c => match stepS p g L pk pr c x with | none => acc | some x' => specT (stepS p g L pk pr) (valV n L p pd) (n + 1) d ((10 : Int32) * row + nI c) x' acc) (kr, km) (i + 1)))
          rw [stepS_s c1, a2, ← w2, b2, Int32.add_assoc, nI_1])
      (by
        intro s hs
        obtain ⟨z0, z1, z2, k_towns1_living_91, k_towns1_hour_91, k_towns1_cat_91, k_towns1_nights_91, k_towns1_seed_91, k_towns1_has_91, k_towns1_hours_91, k_night_all_91, k_towns2_living_91, k_towns2_hour_91, k_towns2_cat_91, k_towns2_nights_91, k_towns2_seed_91, k_towns3_living_91, k_towns3_hour_91, k_towns3_cat_91, k_towns3_nights_91, k_towns3_seed_91, k_night_then_living_91, k_night_then_hour_91, k_night_then_cat_91, k_night_then_nights_91, k_night_then_seed_91, k_towns2_has_91, k_towns2_hours_91, k_towns3_has_91, k_towns3_hours_91, k_night_then_has_91, k_night_then_hours_91⟩ := s
        obtain ⟨w1, w2, w3⟩ := hs
        dsimp only at w1 w2 w3
        subst w1
        exact ⟨_, by show BX6_tries0_91 row (nI p) (nI many) (nI L) (nI hr) cat nights seed has hours (nI g) (nI n) n pk pd pr (nI n) z1 z2 k_towns1_living_91 k_towns1_hour_91 k_towns1_cat_91 k_towns1_nights_91 k_towns1_seed_91 k_towns1_has_91 k_towns1_hours_91 k_night_all_91 k_towns2_living_91 k_towns2_hour_91 k_towns2_cat_91 k_towns2_nights_91 k_towns2_seed_91 k_towns3_living_91 k_towns3_hour_91 k_towns3_cat_91 k_towns3_nights_91 k_towns3_seed_91 k_night_then_living_91 k_night_then_hour_91 k_night_then_cat_91 k_night_then_nights_91 k_night_then_seed_91 k_towns2_has_91 k_towns2_hours_91 k_towns3_has_91 k_towns3_hours_91 k_night_then_has_91 k_night_then_hours_91 = _; unfold BX6_tries0_91; rw [if_pos (nI_le (Nat.le_refl n) (by omega))], w2, w3⟩)
    unfold MX6_tries0 MX4_become
    rw [if_neg (show ¬ (0 : Int32) = nI many from fun z => absurd ((nI_eq (a := 0) (by omega) (by omega)).mp z) (by omega)), Option.bind_some]
    dsimp only
    rw [f1, Option.bind_some, g1, Option.bind_some]
    exact ⟨_, rfl, g2, g3⟩
