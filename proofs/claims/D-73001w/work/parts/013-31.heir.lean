set_option maxRecDepth 100000
/-! who inherits: one law for both sides. Hours are coded as the component has them: below 0 never -/
def heirStep (liv : Int32) (h : Nat → Nat → Int32) (of : Nat) (best : Int32) (p : Nat) : Int32 :=
  if p = of then best else if hasB liv (nI p) = false then best else if h p of < 0 then best else if best = -2 then nI p else if h p of ≤ h best.toNatClampNeg of then best else nI p
def heirF (liv : Int32) (h : Nat → Nat → Int32) (of : Nat) : Nat → Int32
  | 0 => -2
  | i + 1 => heirStep liv h of (heirF liv h of i) i
theorem heirF_in (liv : Int32) (h : Nat → Nat → Int32) (of : Nat) : ∀ n, n ≤ 6 → heirF liv h of n = -2 ∨ ∃ j, j < n ∧ heirF liv h of n = nI j ∧ j ≠ of ∧ hasB liv (nI j) = true ∧ ¬ h j of < 0 := by
  intro n
  induction n with
  | zero => intro _; exact Or.inl rfl
  | succ n ih =>
    intro hn
    have keep : heirF liv h of n = -2 ∨ ∃ j, j < n + 1 ∧ heirF liv h of n = nI j ∧ j ≠ of ∧ hasB liv (nI j) = true ∧ ¬ h j of < 0 := by
      rcases ih (by omega) with e | ⟨j, h1, h2⟩
      · exact Or.inl e
      · exact Or.inr ⟨j, by omega, h2⟩
    have new : n ≠ of → hasB liv (nI n) = true → ¬ h n of < 0 → nI n = -2 ∨ ∃ j, j < n + 1 ∧ nI n = nI j ∧ j ≠ of ∧ hasB liv (nI j) = true ∧ ¬ h j of < 0 := fun a b c => Or.inr ⟨n, by omega, rfl, a, b, c⟩
    show heirStep liv h of (heirF liv h of n) n = -2 ∨ ∃ j, j < n + 1 ∧ heirStep liv h of (heirF liv h of n) n = nI j ∧ _
    unfold heirStep
    by_cases c1 : n = of
    · rw [if_pos c1]; exact keep
    rw [if_neg c1]
    by_cases c2 : hasB liv (nI n) = false
    · rw [if_pos c2]; exact keep
    rw [if_neg c2]
    have c2' : hasB liv (nI n) = true := by simpa using c2
    by_cases c3 : h n of < 0
    · rw [if_pos c3]; exact keep
    rw [if_neg c3]
    by_cases c4 : heirF liv h of n = -2
    · rw [if_pos c4]; exact new c1 c2' c3
    rw [if_neg c4]
    by_cases c5 : h n of ≤ h (heirF liv h of n).toNatClampNeg of
    · rw [if_pos c5]; exact keep
    · rw [if_neg c5]; exact new c1 c2' c3
def hX (a : AI) : Nat → Nat → Int32 := fun p q => a (6 * p + q)
theorem b2i_f {b : Bool} (h : b = false) : b2i b = 0 := by rw [h]; rfl
theorem b2i_t {b : Bool} (h : b = true) : ¬ b2i b = 0 := by rw [h]; decide
theorem M_heir4 {n of : Nat} (hn : n ≤ 6) (ho : of < 6) (liv : Int32) (a : AI) : MX4_heir (nI of) liv (nI n) a = some (heirF liv (hX a) of n) := by
  unfold MX4_heir
  obtain ⟨r, e, hr⟩ := loop_FU (f := fun s_ : Int32 × Int32 => BX4_heir_5 (nI of) liv (nI n) a s_.1 s_.2) (fun i s => s = (heirF liv (hX a) of i, nI i)) (fun r => r = heirF liv (hX a) of n) n (by omega) ((-2 : Int32), (0 : Int32)) rfl
    (by
      intro i s hi hs
      subst hs
      refine Or.inl ⟨(heirF liv (hX a) of (i + 1), nI (i + 1)), ?_, rfl⟩
      show BX4_heir_5 (nI of) liv (nI n) a (heirF liv (hX a) of i) (nI i) = some (.inl (heirStep liv (hX a) of (heirF liv (hX a) of i) i, nI (i + 1)))
      unfold BX4_heir_5 heirStep
      rw [if_neg (nI_ge hi (by omega)), nI_1]
      by_cases c1 : i = of
      · rw [if_pos (by rw [c1]), if_pos c1]
      rw [if_neg (fun z => c1 ((nI_eq (by omega) (by omega)).mp z)), if_neg c1, M_isLiving4, Option.bind_some]
      by_cases c2 : hasB liv (nI i) = false
      · rw [if_pos (b2i_f c2), if_pos c2]
      rw [if_neg (b2i_t (by simpa using c2)), if_neg c2, M_hourOf (by omega) ho, Option.bind_some]
      show (if hX a i of < 0 then _ else _) = _
      by_cases c3 : hX a i of < 0
      · rw [if_pos c3, if_pos c3]
      rw [if_neg c3, if_neg c3]
      by_cases c4 : heirF liv (hX a) of i = -2
      · rw [if_pos c4, if_pos c4]
      rw [if_neg c4, if_neg c4, Option.bind_some]
      rcases heirF_in liv (hX a) of i (by omega) with e | ⟨j, hj, e, -⟩
      · exact absurd e c4
      rw [e, M_hourOf (by omega) ho, Option.bind_some, nIc (by omega)]
      show (if hX a i of ≤ hX a j of then _ else _) = _
      by_cases c5 : hX a i of ≤ hX a j of
      · rw [if_pos c5, if_pos c5]
      · rw [if_neg c5, if_neg c5])
    (by
      intro s hs
      subst hs
      exact ⟨_, by show BX4_heir_5 _ _ _ _ _ (nI n) = _; unfold BX4_heir_5; rw [if_pos (nI_le (Nat.le_refl n) (by omega))], rfl⟩)
  rw [e, hr]; rfl
/-- the two codings of the register: at (p, of) both never, or both the same hour -/
def hrel (a : AI) (x : AI) : Prop := ∀ j, j < 36 → (a j = -2 ∧ x (6 + j) = -1) ∨ (a j = x (6 + j) ∧ ¬ a j < 0)
theorem hrel_never {a x : AI} (h : hrel a x) {p q : Nat} (hp : p < 6) (hq : q < 6) : x (6 + 6 * p + q) = -1 ↔ hX a p q < 0 := by
  have e := h (6 * p + q) (by omega)
  rw [← Nat.add_assoc] at e
  unfold hX
  rcases e with ⟨e1, e2⟩ | ⟨e1, e2⟩
  · rw [e1, e2]; decide
  · rw [e1]
    rw [e1] at e2
    refine ⟨fun z => ?_, fun z => absurd z e2⟩
    rw [z] at e2
    exact absurd (by decide) e2
theorem hrel_hour {a x : AI} (h : hrel a x) {p q : Nat} (hp : p < 6) (hq : q < 6) (hn : ¬ hX a p q < 0) : x (6 + 6 * p + q) = hX a p q := by
  have e := h (6 * p + q) (by omega)
  rw [← Nat.add_assoc] at e
  unfold hX at hn ⊢
  rcases e with ⟨e1, e2⟩ | ⟨e1, e2⟩
  · rw [e1] at hn; exact absurd (by decide) hn
  · exact e1.symm
theorem M_heir7 {n of : Nat} (hn : n ≤ 6) (ho : of < 6) (a x : AI) (hr : hrel a x) : MX7_heirOf (nI of) (nI n) x = some (heirF (x 42) (hX a) of n) := by
  unfold MX7_heirOf
  obtain ⟨r, e, hr⟩ := loop_FU (f := fun s_ : Int32 × Int32 => BX7_heirOf_5 (nI of) (nI n) x s_.1 s_.2) (fun i s => s = (heirF (x 42) (hX a) of i, nI i)) (fun r => r = heirF (x 42) (hX a) of n) n (by omega) ((-2 : Int32), (0 : Int32)) rfl
    (by
      intro i s hi hs
      subst hs
      refine Or.inl ⟨(heirF (x 42) (hX a) of (i + 1), nI (i + 1)), ?_, rfl⟩
      show BX7_heirOf_5 (nI of) (nI n) x (heirF (x 42) (hX a) of i) (nI i) = some (.inl (heirStep (x 42) (hX a) of (heirF (x 42) (hX a) of i) i, nI (i + 1)))
      unfold BX7_heirOf_5 heirStep
      rw [if_neg (nI_ge hi (by omega)), nI_1]
      by_cases c1 : i = of
      · rw [if_pos (by rw [c1]), if_pos c1]
      rw [if_neg (fun z => c1 ((nI_eq (by omega) (by omega)).mp z)), if_neg c1, M_isLiving7, Option.bind_some]
      by_cases c2 : hasB (x 42) (nI i) = false
      · rw [if_pos (b2i_f c2), if_pos c2]
      rw [if_neg (b2i_t (by simpa using c2)), if_neg c2, M_asked (by omega) ho, Option.bind_some]
      have c3' := hrel_never hr (p := i) (q := of) (by omega) ho
      by_cases c3 : hX a i of < 0
      · rw [if_pos (c3'.mpr c3), if_pos c3]
      rw [if_neg (fun z => c3 (c3'.mp z)), if_neg c3]
      by_cases c4 : heirF (x 42) (hX a) of i = -2
      · rw [if_pos c4, if_pos c4]
      rw [if_neg c4, if_neg c4, Option.bind_some]
      rcases heirF_in (x 42) (hX a) of i (by omega) with e | ⟨j, hj, e, -, -, hj2⟩
      · exact absurd e c4
      rw [e, M_asked (by omega) ho, Option.bind_some, nIc (by omega), hrel_hour hr (by omega) ho c3, hrel_hour hr (by omega) ho hj2]
      by_cases c5 : hX a i of ≤ hX a j of
      · rw [if_pos c5, if_pos c5]
      · rw [if_neg c5, if_neg c5])
    (by
      intro s hs
      subst hs
      exact ⟨_, by show BX7_heirOf_5 _ _ _ _ (nI n) = _; unfold BX7_heirOf_5; rw [if_pos (nI_le (Nat.le_refl n) (by omega))], rfl⟩)
  rw [e, hr]; rfl
