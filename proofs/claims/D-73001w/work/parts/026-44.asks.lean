set_option maxRecDepth 100000
/-! one asks another -/
theorem idx7 {p q : Nat} : ((6 : Int32) + ((6 : Int32) * nI p)) + nI q = nI (6 + 6 * p + q) := by
  rw [show (6 : Int32) = nI 6 from rfl, pk_mul, nI_add, nI_add]
theorem minI_nI {a b : Nat} (ha : a < 2 ^ 31) (hb : b < 2 ^ 31) : minI (nI a) (nI b) = nI (min a b) := by
  unfold minI
  by_cases c : b < a
  · rw [if_pos (nI_lt c ha), Nat.min_eq_right (by omega)]
  · rw [if_neg (nI_nlt (by omega) (by omega)), Nat.min_eq_left (by omega)]
def asksH (g : Nat) (hN : Nat → Nat) (p q : Nat) : Nat → Nat := fun j => if j = p then hN p + min g (hN q) else if j = q then hN q - min g (hN q) else hN j
theorem asksH_sum {g : Nat} {hN : Nat → Nat} {n p q : Nat} (hp : p < n) (hq : q < n) (hpq : p ≠ q) : sumTo (asksH g hN p q) n = sumTo hN n := by
  have h1 : sumTo (fun j => asksH g hN p q j + (if j = q then min g (hN q) else 0)) n = sumTo (fun j => hN j + (if j = p then min g (hN q) else 0)) n := by
    apply sumTo_congr
    intro j _
    unfold asksH
    have := Nat.min_le_right g (hN q)
    by_cases c1 : j = p
    · rw [if_pos c1, if_neg (by omega), if_pos c1, c1]; omega
    · rw [if_neg c1, if_neg c1]
      by_cases c2 : j = q
      · rw [if_pos c2, if_pos c2, c2]; omega
      · rw [if_neg c2, if_neg c2]
  rw [sumTo_add, sumTo_add, sumTo_one, sumTo_one, if_pos hq, if_pos hp] at h1
  omega
theorem M_asks4 {n p q g hr : Nat} (hn : n ≤ 6) (hp : p < n) (hq : q < n) (hpq : p ≠ q) (hg : g < 2 ^ 20) {has hours : AI} {hN : Nat → Nat} (hh : ∀ j, j < n → has j = nI (hN j)) (hb : ∀ j, j < n → hN j ≤ 594) :
    ∃ has', MX4_asks (nI p) (nI q) (nI hr) (nI g) has hours = some (nI (min g (hN q)), nI (hr + 1), has', upd hours (6 * p + q) (nI (hr + 1))) ∧ (∀ j, j < n → has' j = nI (asksH g hN p q j)) := by
  have b1 := hb p hp
  have b2 := hb q hq
  have b3 := Nat.min_le_right g (hN q)
  unfold MX4_asks
  simp only [lt_]
  rw [idx6, nI_1, gi_nI (by omega) (by decide), gi_nI (by omega) (by decide), gi_nI (by omega) (by decide), gi_nI (by omega) (by decide), gi_nI (by omega) (by decide), gi_nI (by omega) (by decide), nIc (by omega), nIc (by omega), nIc (by omega), hh q hq, minI_nI (by omega) (by omega), pk_sub b3, pk_un hpq, hh p hp, nI_add]
  refine ⟨_, rfl, ?_⟩
  intro j hj
  unfold asksH
  by_cases c1 : j = p
  · subst c1; rw [if_pos rfl, pk_us]
  · rw [if_neg c1, pk_un c1]
    by_cases c2 : j = q
    · subst c2; rw [if_pos rfl, pk_us]
    · rw [if_neg c2, pk_un c2, hh j hj]
theorem M_asks7 {n p q g hr : Nat} (hn : n ≤ 6) (hp : p < n) (hq : q < n) (hpq : p ≠ q) (hg : g < 2 ^ 20) {x : AI} {hN : Nat → Nat} (hh : ∀ j, j < n → x j = nI (hN j)) (hb : ∀ j, j < n → hN j ≤ 594) (hx : x 44 = nI hr) :
    ∃ x', MX7_asks (nI p) (nI q) x (nI g) = some x' ∧ (∀ j, j < n → x' j = nI (asksH g hN p q j)) ∧ x' (6 + 6 * p + q) = nI (hr + 1) ∧ x' 44 = nI (hr + 1) ∧ ∀ j, 6 ≤ j → j ≠ 6 + 6 * p + q → j ≠ 44 → x' j = x j := by
  have b1 := hb p hp
  have b2 := hb q hq
  have b3 := Nat.min_le_right g (hN q)
  unfold MX7_asks
  simp only [lt_]
  have q0 : ∀ (y z : Int32), upd (upd x 44 y) (6 + 6 * p + q) z q = nI (hN q) := fun y z => by rw [pk_un (by omega), pk_un (by omega), hh q hq]
  have p0 : ∀ (y z w : Int32), upd (upd (upd x 44 y) (6 + 6 * p + q) z) q w p = nI (hN p) := fun y z w => by rw [pk_un hpq, pk_un (by omega), pk_un (by omega), hh p hp]
  rw [idx7, pk_us, hx, nI_1, gi_nI (by omega) (by decide), gi_nI (by omega) (by decide), gi_nI (by omega) (by decide), gi_nI (by omega) (by decide), nIc (by omega), nIc (by omega), nIc (by omega), q0, p0, p0]
  have hkey : ∀ m : Nat, m = min g (hN q) → (∀ j, j < n → upd (upd (upd (upd x 44 (nI (hr + 1))) (6 + 6 * p + q) (nI (hr + 1))) q (nI (hN q - m))) p (nI (hN p + m)) j = nI (asksH g hN p q j)) ∧ upd (upd (upd (upd x 44 (nI (hr + 1))) (6 + 6 * p + q) (nI (hr + 1))) q (nI (hN q - m))) p (nI (hN p + m)) (6 + 6 * p + q) = nI (hr + 1) ∧ upd (upd (upd (upd x 44 (nI (hr + 1))) (6 + 6 * p + q) (nI (hr + 1))) q (nI (hN q - m))) p (nI (hN p + m)) 44 = nI (hr + 1) ∧ ∀ j, 6 ≤ j → j ≠ 6 + 6 * p + q → j ≠ 44 → upd (upd (upd (upd x 44 (nI (hr + 1))) (6 + 6 * p + q) (nI (hr + 1))) q (nI (hN q - m))) p (nI (hN p + m)) j = x j := by
    intro m hm
    subst hm
    refine ⟨?_, ?_, ?_, ?_⟩
    · intro j hj
      unfold asksH
      by_cases c1 : j = p
      · subst c1; rw [if_pos rfl, pk_us]
      · rw [if_neg c1, pk_un c1]
        by_cases c2 : j = q
        · subst c2; rw [if_pos rfl, pk_us]
        · rw [if_neg c2, pk_un c2, pk_un (by omega), pk_un (by omega), hh j hj]
    · rw [pk_un (by omega), pk_un (by omega), pk_us]
    · rw [pk_un (by omega), pk_un (by omega), pk_un (by omega), pk_us]
    · intro j h1 h2 h3
      rw [pk_un (by omega), pk_un (by omega), pk_un h2, pk_un h3]
  by_cases c : g ≤ hN q
  · rw [if_pos (nI_le c (by omega)), pk_sub c, nI_add, gi_nI (by omega) (by decide), gi_nI (by omega) (by decide)]
    exact ⟨_, rfl, hkey g (Nat.min_eq_left c).symm⟩
  · rw [if_neg (nI_ge (by omega) (by omega)), pk_sub (Nat.le_refl _), nI_add, gi_nI (by omega) (by decide), gi_nI (by omega) (by decide), gi_nI (by omega) (by decide), gi_nI (by omega) (by decide), gi_nI (by omega) (by decide)]
    have hm := hkey (hN q) (Nat.min_eq_right (by omega)).symm
    exact ⟨_, rfl, hm⟩
/-- money is never made -/
def moneyI (n : Nat) (liv cat : Int32) (has : AI) : Prop := ∃ (L : Nat) (hN : Nat → Nat) (cN : Nat), liv = nI L ∧ L < 2 ^ n ∧ (∀ j, j < n → has j = nI (hN j)) ∧ cat = nI cN ∧ sumTo hN n + cN ≤ 594 ∧ (∀ j, j < n → hasB liv (nI j) = false → hN j = 0)
theorem townI.money {n : Nat} {liv hour cat nights seed : Int32} {has : AI} (h : townI n liv hour cat nights seed has) : moneyI n liv cat has := by
  obtain ⟨L, hN, cN, hr, nN, sN, g1, g2, g3, g4, g5, g6, -⟩ := h
  exact ⟨L, hN, cN, g1, g2, g3, g4, g5, g6⟩
theorem moneyI.deadO {n : Nat} {liv cat : Int32} {has : AI} (h : moneyI n liv cat has) : deadO n liv has := by
  obtain ⟨L, hN, cN, -, -, h3, -, -, h6⟩ := h
  intro j hj hl
  rw [h3 j hj, h6 j hj hl]; rfl
theorem asks_R {n p q g hr : Nat} (hn : n ≤ 6) (hp : p < n) (hq : q < n) (hpq : p ≠ q) (hg : g < 2 ^ 20) (hhr : hr < 2 ^ 20) {liv cat nights seed : Int32} {has hours x : AI} (hR : townR n liv (nI hr) cat nights seed has hours x) (hM : moneyI n liv cat has) (hlp : hasB liv (nI p) = true) (hlq : hasB liv (nI q) = true) :
    ∃ m has' x', MX4_asks (nI p) (nI q) (nI hr) (nI g) has hours = some (m, nI (hr + 1), has', upd hours (6 * p + q) (nI (hr + 1))) ∧ MX7_asks (nI p) (nI q) x (nI g) = some x' ∧ townR n liv (nI (hr + 1)) cat nights seed has' (upd hours (6 * p + q) (nI (hr + 1))) x' ∧ moneyI n liv cat has' ∧ (∀ j, 47 ≤ j → x' j = x j) ∧ m = minI (nI g) (has q) := by
  obtain ⟨L, hN, cN, g1, g2, g3, g4, g5, g6⟩ := hM
  have hb : ∀ j, j < n → hN j ≤ 594 := fun j hj => by have := sumTo_get (f := hN) n j hj; omega
  obtain ⟨r1, r2, r3, r4, r5, r6, r7⟩ := hR
  obtain ⟨has', e1, e2⟩ := M_asks4 hn hp hq hpq hg (hr := hr) (hours := hours) g3 hb
  obtain ⟨x', f1, f2, f3, f4, f5⟩ := M_asks7 hn hp hq hpq hg (x := x) (fun j hj => by rw [r6 j hj, g3 j hj]) hb r3
  refine ⟨_, has', x', e1, f1, ⟨?_, ?_, f4, ?_, ?_, ?_, ?_⟩, ⟨L, asksH g hN p q, cN, g1, g2, e2, g4, ?_, ?_⟩, fun j hj => f5 j (by omega) (by omega) (by omega), ?_⟩
  · rw [f5 42 (by decide) (by omega) (by decide)]; exact r1
  · rw [f5 43 (by decide) (by omega) (by decide)]; exact r2
  · rw [f5 45 (by decide) (by omega) (by decide)]; exact r4
  · rw [f5 46 (by decide) (by omega) (by decide)]; exact r5
  · intro j hj; rw [f2 j hj, e2 j hj]
  · intro j hj
    by_cases c : j = 6 * p + q
    · subst c
      rw [pk_us, show 6 + (6 * p + q) = 6 + 6 * p + q by omega, f3]
      exact Or.inr ⟨rfl, Int32.not_lt.mpr (nI_pos' (n := hr + 1) (by omega))⟩
    · rw [pk_un c, f5 (6 + j) (by omega) (by omega) (by omega)]
      exact r7 j hj
  · rw [asksH_sum hp hq hpq]; exact g5
  · intro j hj hl
    unfold asksH
    have c1 : ¬ j = p := fun z => by subst z; rw [hlp] at hl; cases hl
    have c2 : ¬ j = q := fun z => by subst z; rw [hlq] at hl; cases hl
    rw [if_neg c1, if_neg c2]
    exact g6 j hj hl
  · rw [g3 q hq, minI_nI (by omega) (by have := hb q hq; omega)]
