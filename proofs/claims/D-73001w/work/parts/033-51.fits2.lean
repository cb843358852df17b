set_option maxRecDepth 100000
/-! all ways to lay the hours that were heard: which fit, counted on both sides -/
/-- the hours of a code -/
def hcN (b o t g : Nat → Nat) (m : Nat) (ch : AI) (code : Nat) : AI := hrU b o t g m code ch m
/-- who inherits then -/
def hrN (n : Nat) (b o t g : Nat → Nat) (m : Nat) (ch : AI) (code q : Nat) : Int32 := heirF (nI (2 ^ n - 1)) (hX (hcN b o t g m ch code)) q n
def fitB (n : Nat) (b o t g : Nat → Nat) (m : Nat) (ch pt : AI) (code : Nat) : Bool := decide (wrF pt (fun p => hrN n b o t g m ch code p) n = -2)
theorem ix_lt {n m : Nat} {b o t g : Nat → Nat} (hn : n ≤ 6) (hI : heardI n m b o t g) {k : Nat} (hk : k < m) : 6 * b k + o k < 36 := by
  obtain ⟨h1, h2, -⟩ := hI.2.1 k hk
  omega
theorem M_doesFit1 {n m code : Nat} (hn : n ≤ 6) (hc : code < 2 ^ 20) {b o t g : Nat → Nat} {hby hof hat hgive : AI} (hI : heardI n m b o t g) (h : heardX m b o t g hby hof hat hgive) (hour : Int32) (thas th ch pw pt : AI) :
    ∃ r, MX1_doesFit (nI code) hour (nI n) (nI m) thas th ch hby hof hat hgive n pw pt = some r ∧ r.1 = fitB n b o t g m ch pt code ∧ r.2.1 = nI (2 ^ n - 1) ∧ ∀ j, j < 36 → r.2.2.2.2.2.2.2 j = hcN b o t g m ch code j := by
  have hm := hI.1
  obtain ⟨hours', has', e1, e2, e3⟩ := M_begin4 hn hour th ch thas pw
  obtain ⟨r, e, hr⟩ := loop_FU (f := fun s_ : Int32 × AI => BX1_doesFit_14 (nI code) (nI m) hby hof hat hgive (nI (2 ^ n - 1)) hour 0 0 0 has' s_.1 s_.2) (fun i s => s.1 = nI i ∧ s.2 = hrU b o t g m code hours' i) (fun r => r = hrU b o t g m code hours' m) m (by omega) ((0 : Int32), hours') ⟨rfl, rfl⟩
    (by
      intro i s hi hs
      obtain ⟨z, f⟩ := s
      obtain ⟨z1, z2⟩ := hs
      dsimp only at z1 z2
      subst z1; subst z2
      obtain ⟨q1, q2, -, -⟩ := h i hi
      obtain ⟨-, -, j3, j4⟩ := hI.2.1 i hi
      have hx := ix_lt hn hI hi
      refine Or.inl ⟨(nI (i + 1), hrU b o t g m code hours' (i + 1)), ?_, rfl, rfl⟩
      show BX1_doesFit_14 (nI code) (nI m) hby hof hat hgive (nI (2 ^ n - 1)) hour 0 0 0 has' (nI i) (hrU b o t g m code hours' i) = _
      unfold BX1_doesFit_14
      rw [if_neg (nI_ge hi (by omega)), nI_1, gi_nI (by omega) (by decide), gi_nI (by omega) (by decide), M_earliest8 hm hi j3 j4 h, Option.bind_some, M_choice1 hi hc hI h, Option.bind_some, nIc (by omega), q1, q2, idx6, gi_nI hx (by decide), nIc (by omega), nI_add]
      rfl)
    (by
      intro s hs
      obtain ⟨z, f⟩ := s
      obtain ⟨z1, z2⟩ := hs
      dsimp only at z1 z2
      subst z1; subst z2
      exact ⟨_, by show BX1_doesFit_14 (nI code) (nI m) hby hof hat hgive (nI (2 ^ n - 1)) hour 0 0 0 has' (nI m) _ = _; unfold BX1_doesFit_14; rw [if_pos (nI_le (Nat.le_refl m) (by omega))], rfl⟩)
  have hh : ∀ j, j < 36 → r j = hcN b o t g m ch code j := fun j hj => by rw [hr]; exact hrU_congr e2 m j hj
  have hw : wrF pt (fun p => heirF (nI (2 ^ n - 1)) (hX r) p n) n = wrF pt (fun p => hrN n b o t g m ch code p) n := wrF_congr n (fun i hi => ⟨rfl, heirX_congr hn (by omega) hh⟩)
  unfold MX1_doesFit
  rw [e1, Option.bind_some]
  dsimp only
  rw [e, Option.bind_some, M_wrong1 hn, Option.bind_some, hw]
  unfold fitB
  by_cases c : wrF pt (fun p => hrN n b o t g m ch code p) n = -2
  · rw [if_pos c, decide_eq_true c]
    exact ⟨_, rfl, rfl, rfl, hh⟩
  · rw [if_neg c, decide_eq_false c]
    exact ⟨_, rfl, rfl, rfl, hh⟩
/-- the model's laying of one code -/
theorem L_lay7 {n m code : Nat} (hn : n ≤ 6) (hc : code < 2 ^ 20) {b o t g : Nat → Nat} {by_ of_ give asked : AI} (hI : heardI n m b o t g) (h : heardM m b o t g by_ of_ give asked) {ch x : AI} (hr : hrel ch x) (z1 : Bool) (z2 z3 z4 z5 : Int32) (z6 z7 hour : AI) :
    ∃ x' hour', loopN FU (fun s_ : Int32 × Int32 × AI × AI => BX7_fitting_119 asked by_ of_ give z1 z2 z3 z4 z5 z6 z7 s_.1 s_.2.1 s_.2.2.1 s_.2.2.2) (nI code, (nI m - (1 : Int32)), x, hour) = some (x', hour') ∧ (∀ j, (j < 6 ∨ 42 ≤ j) → x' j = x j) ∧ hrel (hcN b o t g m ch code) x' ∧ ∀ k, k < m → hour' k = nI (chN t g m code k) := by
  have hm := hI.1
  have hmain : ∃ r, loopN FU (fun s_ : Int32 × Int32 × AI × AI => BX7_fitting_119 asked by_ of_ give z1 z2 z3 z4 z5 z6 z7 s_.1 s_.2.1 s_.2.2.1 s_.2.2.2) (nI code, (nI m - (1 : Int32)), x, hour) = some r ∧ (∀ k, k < m → r.2 k = nI (chN t g m code k) ∧ r.1 (6 + (6 * b k + o k)) = nI (loN t g k + chN t g m code k)) ∧ ∀ j, (∀ k, k < m → j ≠ 6 + (6 * b k + o k)) → r.1 j = x j := by
    refine loop_FU (f := fun s_ : Int32 × Int32 × AI × AI => BX7_fitting_119 asked by_ of_ give z1 z2 z3 z4 z5 z6 z7 s_.1 s_.2.1 s_.2.2.1 s_.2.2.2)
      (fun j s => s.1 = nI (leftN t g m code j) ∧ s.2.1 = nI (m - j) - 1 ∧ (∀ k, m - j ≤ k → k < m → s.2.2.2 k = nI (chN t g m code k) ∧ s.2.2.1 (6 + (6 * b k + o k)) = nI (loN t g k + chN t g m code k)) ∧ ∀ i, (∀ k, k < m → i ≠ 6 + (6 * b k + o k)) → s.2.2.1 i = x i)
      (fun r => (∀ k, k < m → r.2 k = nI (chN t g m code k) ∧ r.1 (6 + (6 * b k + o k)) = nI (loN t g k + chN t g m code k)) ∧ ∀ j, (∀ k, k < m → j ≠ 6 + (6 * b k + o k)) → r.1 j = x j) m (by omega) (nI code, (nI m - (1 : Int32)), x, hour) ⟨rfl, rfl, fun k h1 h2 => by omega, fun _ _ => rfl⟩ ?_ ?_
    · intro j s hj hs
      obtain ⟨s1, s2, y, hr'⟩ := s
      obtain ⟨q1, q2, q3, q4⟩ := hs
      dsimp only at q1 q2 q3 q4
      subst q1; subst q2
      have hk : m - 1 - j < m := by omega
      have e0 : nI (m - j) - 1 = nI (m - 1 - j) := by rw [nI_m1 (by omega), show m - j - 1 = m - 1 - j by omega]
      obtain ⟨b1, b2, b3, b4⟩ := hI.2.1 (m - 1 - j) hk
      have hM := maN_le (t := t) (g := g) (k := m - 1 - j) b3 b4
      have hl := leftN_le (t := t) (g := g) (m := m) (code := code) j
      obtain ⟨p1, p2, -, -⟩ := h (m - 1 - j) hk
      have hx := ix_lt hn hI hk
      have hchk : chN t g m code (m - 1 - j) = leftN t g m code j % maN t g (m - 1 - j) := by unfold chN; rw [show m - 1 - (m - 1 - j) = j by omega]
      refine Or.inl ?_
      show ∃ s', BX7_fitting_119 asked by_ of_ give z1 z2 z3 z4 z5 z6 z7 (nI (leftN t g m code j)) (nI (m - j) - 1) y hr' = some (.inl s') ∧ _
      unfold BX7_fitting_119
      simp only [lt_]
      rw [e0, if_neg (nI_pos (by omega)), M_many7 hn hk hI h, Option.bind_some, gz_of (nzI hM.2 (by omega)), gi_nI (by omega) (by decide), Option.bind_some, gz_of (nzI hM.2 (by omega)), gi_nI (by omega) (by decide), gi_nI (by omega) (by decide), M_low7 hn hk hI h, Option.bind_some, gi_nI (by omega) (by decide), nIc (by omega), p1, p2, idx7, gi_nI (by omega) (by decide), nIc (by omega), pk_us, pk_rem (by omega) hM.2 (by omega), ← hchk, nI_add, pk_div (by omega) hM.2 (by omega)]
      refine ⟨_, rfl, rfl, ?_, ?_, ?_⟩
      · show nI (m - 1 - j) + (-1) = nI (m - (j + 1)) - 1
        rw [show m - 1 - j = m - (j + 1) by omega]
        exact (Int32.sub_eq_add_neg (a := nI (m - (j + 1))) (b := 1)).symm
      · intro k h1 h2
        by_cases c : k = m - 1 - j
        · subst c
          refine ⟨pk_us, ?_⟩
          show upd y _ _ _ = _
          rw [show 6 + 6 * b (m - 1 - j) + o (m - 1 - j) = 6 + (6 * b (m - 1 - j) + o (m - 1 - j)) by omega]
          exact pk_us
        · obtain ⟨w1, w2⟩ := q3 k (by omega) h2
          refine ⟨?_, ?_⟩
          · show upd hr' _ _ k = _
            rw [pk_un c]; exact w1
          · show upd y _ _ _ = _
            rw [pk_un (fun z => c (hI.2.2 k (m - 1 - j) h2 hk (by omega)))]; exact w2
      · intro i hi
        show upd y _ _ i = _
        rw [pk_un (by have := hi (m - 1 - j) hk; omega)]
        exact q4 i hi
    · intro s hs
      obtain ⟨s1, s2, y, hr'⟩ := s
      obtain ⟨q1, q2, q3, q4⟩ := hs
      dsimp only at q1 q2 q3 q4
      subst q1; subst q2
      refine ⟨(y, hr'), ?_, fun k hk => q3 k (by omega) hk, q4⟩
      show BX7_fitting_119 asked by_ of_ give z1 z2 z3 z4 z5 z6 z7 _ (nI (m - m) - 1) y hr' = _
      unfold BX7_fitting_119
      rw [Nat.sub_self, if_pos (by decide)]
  obtain ⟨r, e, h1, h2⟩ := hmain
  refine ⟨r.1, r.2, e, ?_, ?_, fun k hk => (h1 k hk).1⟩
  · intro j hj
    exact h2 j (fun k hk => by have := ix_lt hn hI hk; omega)
  · intro j hj
    by_cases c : ∃ k, k < m ∧ j = 6 * b k + o k
    · obtain ⟨k, hk, rfl⟩ := c
      obtain ⟨b1, b2, b3, b4⟩ := hI.2.1 k hk
      have := chN_lt (t := t) (g := g) (m := m) (code := code) b3 b4
      refine Or.inr ⟨?_, ?_⟩
      · rw [(h1 k hk).2]; exact hrU_at hI m (Nat.le_refl m) k hk
      · unfold hcN
        rw [hrU_at hI m (Nat.le_refl m) k hk]
        exact nI_pos (by unfold loN; omega)
    · have hne : ∀ k, k < m → j ≠ 6 * b k + o k := fun k hk z => c ⟨k, hk, z⟩
      have e1 : hcN b o t g m ch code j = ch j := hrU_out m hne
      rw [e1, h2 (6 + j) (fun k hk => by have := hne k hk; omega)]
      exact hr j hj
/-! counts -/
def cntN (P : Nat → Bool) : Nat → Nat
  | 0 => 0
  | i + 1 => if P i = true then cntN P i + 1 else cntN P i
theorem cntN_le {P : Nat → Bool} : ∀ i, cntN P i ≤ i := by
  intro i
  induction i with
  | zero => exact Nat.le_refl _
  | succ i ih => rw [cntN]; split <;> omega
theorem cntN_mono {P : Nat → Bool} : ∀ i j, i ≤ j → cntN P i ≤ cntN P j := by
  intro i j h
  obtain ⟨d, rfl⟩ : ∃ d, j = i + d := ⟨j - i, by omega⟩
  clear h
  induction d with
  | zero => exact Nat.le_refl _
  | succ d ih => rw [← Nat.add_assoc, cntN]; split <;> omega
theorem cntN_step {P : Nat → Bool} {i : Nat} (h : P i = true) : cntN P (i + 1) = cntN P i + 1 := if_pos h
theorem cntN_skip {P : Nat → Bool} {i : Nat} (h : P i = false) : cntN P (i + 1) = cntN P i := if_neg (by rw [h]; decide)
theorem cntN_inj {P : Nat → Bool} {c d : Nat} (hc : P c = true) (hd : P d = true) (h : cntN P c = cntN P d) : c = d := by
  rcases Nat.lt_trichotomy c d with q | q | q
  · have := cntN_mono (P := P) (c + 1) d q
    rw [cntN_step hc] at this; omega
  · exact q
  · have := cntN_mono (P := P) (d + 1) c q
    rw [cntN_step hd] at this; omega
theorem cntN_imp {P Q : Nat → Bool} : ∀ i, (∀ c, c < i → P c = true → Q c = true) → cntN P i ≤ cntN Q i := by
  intro i
  induction i with
  | zero => intro _; exact Nat.le_refl _
  | succ i ih =>
    intro h
    have := ih (fun c hc => h c (by omega))
    cases hp : P i
    · rw [cntN_skip hp]
      exact Nat.le_trans this (cntN_mono i (i + 1) (by omega))
    · rw [cntN_step hp, cntN_step (h i (by omega) hp)]; omega
theorem cntN_ex {P : Nat → Bool} : ∀ i, 0 < cntN P i → ∃ c, c < i ∧ P c = true := by
  intro i
  induction i with
  | zero => intro h; exact absurd h (Nat.lt_irrefl 0)
  | succ i ih =>
    intro h
    cases hp : P i
    · rw [cntN_skip hp] at h
      obtain ⟨c, h1, h2⟩ := ih h
      exact ⟨c, by omega, h2⟩
    · exact ⟨i, by omega, hp⟩
theorem cntN_of {P : Nat → Bool} {c i : Nat} (h : c < i) (hp : P c = true) : 0 < cntN P i := by
  have := cntN_mono (P := P) (c + 1) i h
  rw [cntN_step hp] at this; omega
theorem cntN_congr {P Q : Nat → Bool} : ∀ i, (∀ c, c < i → P c = Q c) → cntN P i = cntN Q i := by
  intro i
  induction i with
  | zero => intro _; rfl
  | succ i ih => intro h; rw [cntN, cntN, ih (fun c hc => h c (by omega)), h i (by omega)]
theorem L_part7 {n m code : Nat} {b o t g : Nat → Nat} (hI : heardI n m b o t g) (z1 : Bool) (z2 z3 z4 z5 : Int32) (z6 z7 hour pI : AI) (hh : ∀ k, k < m → hour k = nI (chN t g m code k)) :
    ∃ pI', loopN FU (fun s_ : Int32 × AI => BX7_fitting_269 (nI m) z1 z2 z3 z4 z5 z6 z7 hour s_.1 s_.2) ((0 : Int32), pI) = some pI' ∧ ∀ k, k < m → ∀ h, h < 7 → pI' (7 * k + h) = if chN t g m code k = h then pI (7 * k + h) + 1 else pI (7 * k + h) := by
  have hm := hI.1
  obtain ⟨r, e, hr⟩ := loop_FU (f := fun s_ : Int32 × AI => BX7_fitting_269 (nI m) z1 z2 z3 z4 z5 z6 z7 hour s_.1 s_.2) (fun i s => s.1 = nI i ∧ ∀ k, k < m → ∀ h, h < 7 → s.2 (7 * k + h) = if k < i ∧ chN t g m code k = h then pI (7 * k + h) + 1 else pI (7 * k + h)) (fun r => ∀ k, k < m → ∀ h, h < 7 → r (7 * k + h) = if chN t g m code k = h then pI (7 * k + h) + 1 else pI (7 * k + h)) m (by omega) ((0 : Int32), pI) ⟨rfl, fun k _ h _ => by rw [if_neg (by omega)]⟩
    (by
      intro i s hi hs
      obtain ⟨z, f⟩ := s
      obtain ⟨q1, q2⟩ := hs
      dsimp only at q1 q2
      subst q1
      obtain ⟨b1, b2, b3, b4⟩ := hI.2.1 i hi
      have hc := chN_lt (t := t) (g := g) (m := m) (code := code) b3 b4
      refine Or.inl ?_
      show ∃ s', BX7_fitting_269 (nI m) z1 z2 z3 z4 z5 z6 z7 hour (nI i) f = some (.inl s') ∧ _
      unfold BX7_fitting_269
      simp only [lt_]
      rw [if_neg (nI_ge hi (by omega)), nI_1, gi_nI (by omega) (by decide), nIc (by omega), hh i hi, show (7 : Int32) = nI 7 from rfl, pk_mul, nI_add, gi_nI (by omega) (by decide), gi_nI (by omega) (by decide), nIc (by omega)]
      refine ⟨_, rfl, rfl, fun k hk h hh' => ?_⟩
      show upd f _ _ _ = _
      by_cases c : k = i ∧ chN t g m code k = h
      · obtain ⟨rfl, rfl⟩ := c
        rw [pk_us, q2 k hk _ hh', if_neg (by omega), if_pos ⟨by omega, rfl⟩]
      · rw [pk_un (by intro z; have z1 : k = i := by omega
                      subst z1; exact c ⟨rfl, by omega⟩), q2 k hk h hh']
        by_cases c2 : k < i ∧ chN t g m code k = h
        · rw [if_pos c2, if_pos ⟨by omega, c2.2⟩]
        · rw [if_neg c2, if_neg (by rintro ⟨w1, w2⟩; by_cases c3 : k = i; exact c ⟨c3, w2⟩; exact c2 ⟨by omega, w2⟩)])
    (by
      intro s hs
      obtain ⟨z, f⟩ := s
      obtain ⟨q1, q2⟩ := hs
      dsimp only at q1 q2
      subst q1
      refine ⟨f, ?_, fun k hk h hh' => ?_⟩
      · show BX7_fitting_269 (nI m) z1 z2 z3 z4 z5 z6 z7 hour (nI m) f = _
        unfold BX7_fitting_269
        rw [if_pos (nI_le (Nat.le_refl m) (by omega))]
      · rw [q2 k hk h hh']
        by_cases c : chN t g m code k = h
        · rw [if_pos ⟨hk, c⟩, if_pos c]
        · rw [if_neg (fun w => c w.2), if_neg c])
  exact ⟨r, e, hr⟩
theorem L_heirIn7 {n : Nat} (hn : n ≤ 6) {a x : AI} (hr : hrel a x) (z1 : Bool) (z2 z3 z4 z5 : Int32) (z6 z8 hI : AI) :
    ∃ hI', loopN FU (fun s_ : Int32 × AI => BX7_fitting_312 (nI n) z1 z2 z3 z4 z5 z6 x z8 s_.1 s_.2) ((0 : Int32), hI) = some hI' ∧ ∀ p, p < 6 → ∀ q, q < n → hI' (6 * p + q) = if heirF (x 42) (hX a) q n = nI p then hI (6 * p + q) + 1 else hI (6 * p + q) := by
  obtain ⟨r, e, hr'⟩ := loop_FU (f := fun s_ : Int32 × AI => BX7_fitting_312 (nI n) z1 z2 z3 z4 z5 z6 x z8 s_.1 s_.2) (fun i s => s.1 = nI i ∧ ∀ p, p < 6 → ∀ q, q < n → s.2 (6 * p + q) = if q < i ∧ heirF (x 42) (hX a) q n = nI p then hI (6 * p + q) + 1 else hI (6 * p + q)) (fun r => ∀ p, p < 6 → ∀ q, q < n → r (6 * p + q) = if heirF (x 42) (hX a) q n = nI p then hI (6 * p + q) + 1 else hI (6 * p + q)) n (by omega) ((0 : Int32), hI) ⟨rfl, fun p _ q _ => by rw [if_neg (by omega)]⟩
    (by
      intro i s hi hs
      obtain ⟨z, f⟩ := s
      obtain ⟨q1, q2⟩ := hs
      dsimp only at q1 q2
      subst q1
      refine Or.inl ?_
      show ∃ s', BX7_fitting_312 (nI n) z1 z2 z3 z4 z5 z6 x z8 (nI i) f = some (.inl s') ∧ _
      unfold BX7_fitting_312
      simp only [lt_]
      rw [if_neg (nI_ge hi (by omega)), nI_1, M_heir7 hn (by omega) a x hr, Option.bind_some, Option.bind_some]
      rcases heirF_in (x 42) (hX a) i n hn with w | ⟨j, hj, w, -⟩
      · rw [w, if_pos rfl]
        refine ⟨_, rfl, rfl, fun p hp q hq => ?_⟩
        show f _ = _
        rw [q2 p hp q hq]
        by_cases c : q < i ∧ heirF (x 42) (hX a) q n = nI p
        · rw [if_pos c, if_pos ⟨by omega, c.2⟩]
        · rw [if_neg c, if_neg]
          rintro ⟨w1, w2⟩
          by_cases c3 : q = i
          · rw [c3, w] at w2; exact nI_ne_m2 (by omega) w2.symm
          · exact c ⟨by omega, w2⟩
      · rw [w, if_neg (nI_ne_m2 (by omega)), idx6, gi_nI (by omega) (by decide), gi_nI (by omega) (by decide), nIc (by omega)]
        refine ⟨_, rfl, rfl, fun p hp q hq => ?_⟩
        show upd f _ _ _ = _
        by_cases c : q = i ∧ p = j
        · obtain ⟨rfl, rfl⟩ := c
          rw [pk_us, q2 p hp q hq, if_neg (by omega), if_pos ⟨by omega, w⟩]
        · rw [pk_un (by intro z; apply c; constructor <;> omega), q2 p hp q hq]
          by_cases c2 : q < i ∧ heirF (x 42) (hX a) q n = nI p
          · rw [if_pos c2, if_pos ⟨by omega, c2.2⟩]
          · rw [if_neg c2, if_neg]
            rintro ⟨w1, w2⟩
            by_cases c3 : q = i
            · subst c3
              rw [w] at w2
              exact c ⟨rfl, ((nI_eq (by omega) (by omega)).mp w2).symm⟩
            · exact c2 ⟨by omega, w2⟩)
    (by
      intro s hs
      obtain ⟨z, f⟩ := s
      obtain ⟨q1, q2⟩ := hs
      dsimp only at q1 q2
      subst q1
      refine ⟨f, ?_, fun p hp q hq => ?_⟩
      · show BX7_fitting_312 (nI n) z1 z2 z3 z4 z5 z6 x z8 (nI n) f = _
        unfold BX7_fitting_312
        rw [if_pos (nI_le (Nat.le_refl n) (by omega))]
      · rw [q2 p hp q hq]
        by_cases c : heirF (x 42) (hX a) q n = nI p
        · rw [if_pos ⟨hq, c⟩, if_pos c]
        · rw [if_neg (fun w => c w.2), if_neg c])
  exact ⟨r, e, hr'⟩
/-- what is put by of the i-th that fits -/
def foundP (m : Nat) (t g : Nat → Nat) (fit : Nat → Bool) (p0 : Int32) (kp i : Nat) (found : Bool) (fh : Int32) : Prop :=
  (found = false ∧ ∀ c, c < i → fit c = true → ¬ nI (cntN fit c) = p0) ∨ (found = true ∧ ∃ c, c < i ∧ fit c = true ∧ nI (cntN fit c) = p0 ∧ (kp < m → fh = nI (loN t g kp + chN t g m c kp)))
theorem foundP_skip {m : Nat} {t g : Nat → Nat} {fit : Nat → Bool} {p0 : Int32} {kp i : Nat} {found : Bool} {fh : Int32} (h : foundP m t g fit p0 kp i found fh) (hf : fit i = true → ¬ nI (cntN fit i) = p0) : foundP m t g fit p0 kp (i + 1) found fh := by
  rcases h with ⟨h1, h2⟩ | ⟨h1, c, h2, h3⟩
  · refine Or.inl ⟨h1, fun c hc hfc => ?_⟩
    by_cases e : c = i
    · subst e; exact hf hfc
    · exact h2 c (by omega) hfc
  · exact Or.inr ⟨h1, c, by omega, h3⟩
theorem cnt_and {fit : Nat → Bool} {Q : Nat → Prop} [DecidablePred Q] {i : Nat} (hf : fit i = true) : nI (cntN (fun c => fit c && decide (Q c)) (i + 1)) = if Q i then nI (cntN (fun c => fit c && decide (Q c)) i) + 1 else nI (cntN (fun c => fit c && decide (Q c)) i) := by
  by_cases c : Q i
  · rw [if_pos c, cntN_step (by rw [hf, decide_eq_true c]; rfl), nI_1]
  · rw [if_neg c, cntN_skip (by rw [hf, decide_eq_false c]; rfl)]
theorem cnt_no {fit : Nat → Bool} {Q : Nat → Prop} [DecidablePred Q] {i : Nat} (hf : fit i = false) : cntN (fun c => fit c && decide (Q c)) (i + 1) = cntN (fun c => fit c && decide (Q c)) i := cntN_skip (by rw [hf]; rfl)
theorem M_fitting7 {n m : Nat} (hn : n ≤ 6) {b o t g : Nat → Nat} {by_ of_ give asked ch pt went : AI} (hI : heardI n m b o t g) (h : heardM m b o t g by_ of_ give asked) (hr : hrel0 ch asked) (hw : ∀ j, j < n → went j = pt j) (p0 : Int32) {kp : Nat} (hkp : kp < 2 ^ 31) (fh hour : Int32) (pI hI' x chas hr' : AI) :
    ∃ r, MX7_fitting p0 (nI kp) fh hour (nI n) (nI m) asked by_ of_ give pI hI' x chas hr' went = some r ∧ r.2.1 = nI (cntN (fitB n b o t g m ch pt) (codN t g m)) ∧ foundP m t g (fitB n b o t g m ch pt) p0 kp (codN t g m) r.1 r.2.2.1 ∧
      (∀ k, k < m → ∀ v, v < 7 → r.2.2.2.1 (7 * k + v) = nI (cntN (fun c => fitB n b o t g m ch pt c && decide (chN t g m c k = v)) (codN t g m))) ∧
      (∀ p, p < 6 → ∀ q, q < n → r.2.2.2.2.1 (6 * p + q) = nI (cntN (fun c => fitB n b o t g m ch pt c && decide (hrN n b o t g m ch c q = nI p)) (codN t g m))) := by
  have hm := hI.1
  have hC := codN_343 hI
  obtain ⟨p1, e1, a1, -⟩ := loop_copy (f := fun s_ : Int32 × AI => BX7_fitting_45 (nI (codN t g m)) s_.1 s_.2) 21 0 (fun _ => 0) (by decide) pI (by
    intro i a hi
    show BX7_fitting_45 (nI (codN t g m)) (nI i) a = _
    unfold BX7_fitting_45
    rw [if_neg (show ¬ (21 : Int32) ≤ nI i from nI_ge (b := 21) hi (by decide)), nI_1, gi_nI hi (by decide), nIc (by omega), Nat.zero_add]) (by
    intro a
    show BX7_fitting_45 _ (nI 21) a = _
    unfold BX7_fitting_45
    rw [if_pos (by decide)])
  obtain ⟨h1, e2, a2, -⟩ := loop_copy (f := fun s_ : Int32 × AI => BX7_fitting_69 (nI (codN t g m)) p1 s_.1 s_.2) 36 0 (fun _ => 0) (by decide) hI' (by
    intro i a hi
    show BX7_fitting_69 (nI (codN t g m)) p1 (nI i) a = _
    unfold BX7_fitting_69
    rw [if_neg (show ¬ (36 : Int32) ≤ nI i from nI_ge (b := 36) hi (by decide)), nI_1, gi_nI hi (by decide), nIc (by omega), Nat.zero_add]) (by
    intro a
    show BX7_fitting_69 _ p1 (nI 36) a = _
    unfold BX7_fitting_69
    rw [if_pos (by decide)])
  obtain ⟨r, e, r1, r2, r3, r4⟩ := loop_FU (f := fun s_ : Bool × Int32 × Int32 × Int32 × AI × AI × AI × AI => BX7_fitting_93 p0 (nI kp) hour (nI n) (nI m) asked by_ of_ give chas went (nI (codN t g m)) s_.1 s_.2.1 s_.2.2.1 s_.2.2.2.1 s_.2.2.2.2.1 s_.2.2.2.2.2.1 s_.2.2.2.2.2.2.1 s_.2.2.2.2.2.2.2)
    (fun i s => s.2.1 = nI i ∧ s.2.2.1 = nI (cntN (fitB n b o t g m ch pt) i) ∧ foundP m t g (fitB n b o t g m ch pt) p0 kp i s.1 s.2.2.2.1 ∧
      (∀ k, k < m → ∀ v, v < 7 → s.2.2.2.2.1 (7 * k + v) = nI (cntN (fun c => fitB n b o t g m ch pt c && decide (chN t g m c k = v)) i)) ∧
      (∀ p, p < 6 → ∀ q, q < n → s.2.2.2.2.2.1 (6 * p + q) = nI (cntN (fun c => fitB n b o t g m ch pt c && decide (hrN n b o t g m ch c q = nI p)) i)))
    (fun r => r.2.2.2.2.2.1 = nI (cntN (fitB n b o t g m ch pt) (codN t g m)) ∧ foundP m t g (fitB n b o t g m ch pt) p0 kp (codN t g m) r.1 r.2.2.2.2.2.2 ∧
      (∀ k, k < m → ∀ v, v < 7 → r.2.1 (7 * k + v) = nI (cntN (fun c => fitB n b o t g m ch pt c && decide (chN t g m c k = v)) (codN t g m))) ∧
      (∀ p, p < 6 → ∀ q, q < n → r.2.2.1 (6 * p + q) = nI (cntN (fun c => fitB n b o t g m ch pt c && decide (hrN n b o t g m ch c q = nI p)) (codN t g m)))) (codN t g m) (by omega) (false, (0 : Int32), (0 : Int32), fh, p1, h1, x, hr')
    ⟨rfl, rfl, Or.inl ⟨rfl, fun c hc => by omega⟩, fun k hk v hv => by have := a1 (7 * k + v) (by omega); rw [Nat.zero_add] at this; exact this, fun p hp q hq => by have := a2 (6 * p + q) (by omega); rw [Nat.zero_add] at this; exact this⟩
    (by
      intro i s hi hs
      obtain ⟨s1, s2, s3, s4, s5, s6, s7, s8⟩ := s
      obtain ⟨q1, q2, q3, q4, q5⟩ := hs
      dsimp only at q1 q2 q3 q4 q5
      subst q1; subst q2
      obtain ⟨x1, f1, f2, -, -, -, -, -, f3⟩ := M_asTold7 hn hour s7 chas asked
      obtain ⟨x2, hr2, g1, g2, g3, g4⟩ := L_lay7 hn (code := i) (by omega) hI h (hr.to f3) s1 (nI (codN t g m)) (nI i) (nI (cntN (fitB n b o t g m ch pt) i)) s4 s5 s6 s8
      have x42 : x2 42 = nI (2 ^ n - 1) := by rw [g2 42 (by omega)]; exact f2
      have hwr : MX7_wrong (nI n) went x2 = some (wrF pt (fun p => hrN n b o t g m ch i p) n) := by
        rw [M_wrong7 hn went x2 _ g3, x42]
        exact congrArg some (wrF_congr n (fun j hj => ⟨hw j hj, rfl⟩))
      refine Or.inl ?_
      show ∃ s', BX7_fitting_93 p0 (nI kp) hour (nI n) (nI m) asked by_ of_ give chas went (nI (codN t g m)) s1 (nI i) (nI (cntN (fitB n b o t g m ch pt) i)) s4 s5 s6 s7 s8 = some (.inl s') ∧ _
      unfold BX7_fitting_93
      rw [if_neg (nI_ge hi (by omega)), f1, Option.bind_some, g1, Option.bind_some]
      dsimp only
      rw [hwr, Option.bind_some]
      by_cases c1 : wrF pt (fun p => hrN n b o t g m ch i p) n = -2
      · have hf : fitB n b o t g m ch pt i = true := decide_eq_true c1
        rw [if_pos c1]
        have fin : ∀ (fd : Bool) (fhh : Int32), foundP m t g (fitB n b o t g m ch pt) p0 kp (i + 1) fd fhh → ∃ s', ((loopN FU (fun s_ => BX7_fitting_269 (nI m) fd (nI (codN t g m)) (nI i) (nI (cntN (fitB n b o t g m ch pt) i) + (1 : Int32)) fhh s6 x2 hr2 s_.1 s_.2) ((0 : Int32), s5)).bind fun r39 =>
            (loopN FU (fun s_ => BX7_fitting_312 (nI n) fd (nI (codN t g m)) (nI i) (nI (cntN (fitB n b o t g m ch pt) i) + (1 : Int32)) fhh r39 x2 hr2 s_.1 s_.2) ((0 : Int32), s6)).bind fun r49 =>
            some (Sum.inl (β := Bool × AI × AI × AI × AI × Int32 × Int32) (fd, (nI i + (1 : Int32)), (nI (cntN (fitB n b o t g m ch pt) i) + (1 : Int32)), fhh, r39, r49, x2, hr2))) = some (.inl s') ∧ s'.2.1 = nI (i + 1) ∧ s'.2.2.1 = nI (cntN (fitB n b o t g m ch pt) (i + 1)) ∧ foundP m t g (fitB n b o t g m ch pt) p0 kp (i + 1) s'.1 s'.2.2.2.1 ∧
            (∀ k, k < m → ∀ v, v < 7 → s'.2.2.2.2.1 (7 * k + v) = nI (cntN (fun c => fitB n b o t g m ch pt c && decide (chN t g m c k = v)) (i + 1))) ∧
            (∀ p, p < 6 → ∀ q, q < n → s'.2.2.2.2.2.1 (6 * p + q) = nI (cntN (fun c => fitB n b o t g m ch pt c && decide (hrN n b o t g m ch c q = nI p)) (i + 1))) := by
          intro fd fhh hfd
          obtain ⟨pI2, l1, l2⟩ := L_part7 (code := i) hI fd (nI (codN t g m)) (nI i) (nI (cntN (fitB n b o t g m ch pt) i) + (1 : Int32)) fhh s6 x2 hr2 s5 g4
          obtain ⟨hI2, l3, l4⟩ := L_heirIn7 hn g3 fd (nI (codN t g m)) (nI i) (nI (cntN (fitB n b o t g m ch pt) i) + (1 : Int32)) fhh pI2 hr2 s6
          rw [l1, Option.bind_some, l3, Option.bind_some, nI_1, nI_1]
          refine ⟨_, rfl, rfl, by rw [cntN_step hf], hfd, fun k hk v hv => ?_, fun p hp q hq => ?_⟩
          · show pI2 _ = _
            rw [l2 k hk v hv, q4 k hk v hv]
            exact (cnt_and (Q := fun c => chN t g m c k = v) hf).symm
          · show hI2 _ = _
            rw [l4 p hp q hq, q5 p hp q hq, x42]
            exact (cnt_and (Q := fun c => hrN n b o t g m ch c q = nI p) hf).symm
        by_cases c2 : nI (cntN (fitB n b o t g m ch pt) i) = p0
        · rw [if_pos c2]
          by_cases c3 : m ≤ kp
          · rw [if_pos (nI_le c3 hkp)]
            exact fin true 0 (Or.inr ⟨rfl, i, by omega, hf, c2, fun z => by omega⟩)
          · rw [if_neg (nI_ge (by omega) (by omega)), M_low7 hn (by omega) hI h, Option.bind_some, gi_nI (by omega) (by decide), nIc (by omega), g4 kp (by omega), nI_add]
            exact fin true _ (Or.inr ⟨rfl, i, by omega, hf, c2, fun z => rfl⟩)
        · rw [if_neg c2]
          exact fin s1 s4 (foundP_skip q3 (fun _ => c2))
      · have hf : fitB n b o t g m ch pt i = false := decide_eq_false c1
        rw [if_neg c1, nI_1]
        refine ⟨_, rfl, rfl, by rw [cntN_skip hf], foundP_skip q3 (fun z => by rw [hf] at z; cases z), fun k hk v hv => ?_, fun p hp q hq => ?_⟩
        · rw [cnt_no (Q := fun c => chN t g m c k = v) hf]; exact q4 k hk v hv
        · rw [cnt_no (Q := fun c => hrN n b o t g m ch c q = nI p) hf]; exact q5 p hp q hq)
    (by
      intro s hs
      obtain ⟨s1, s2, s3, s4, s5, s6, s7, s8⟩ := s
      obtain ⟨q1, q2, q3, q4, q5⟩ := hs
      dsimp only at q1 q2 q3 q4 q5
      subst q1; subst q2
      refine ⟨(s1, s5, s6, s7, s8, nI (cntN (fitB n b o t g m ch pt) (codN t g m)), s4), ?_, rfl, q3, q4, q5⟩
      show BX7_fitting_93 p0 (nI kp) hour (nI n) (nI m) asked by_ of_ give chas went (nI (codN t g m)) s1 (nI (codN t g m)) _ s4 s5 s6 s7 s8 = _
      unfold BX7_fitting_93
      rw [if_pos (nI_le (Nat.le_refl _) (by omega))])
  refine ⟨(r.1, r.2.2.2.2.2.1, r.2.2.2.2.2.2, r.2.1, r.2.2.1, r.2.2.2.1, r.2.2.2.2.1), ?_, r1, r2, r3, r4⟩
  unfold MX7_fitting
  rw [L_codes7 hn hI h, Option.bind_some, e1, Option.bind_some, e2, Option.bind_some, e, Option.bind_some]
