set_option maxRecDepth 100000
/-! counted loops as folds -/
def foldF {α : Type} (step : α → Nat → α) (a : α) : Nat → α
  | 0 => a
  | i + 1 => step (foldF step a i) i
theorem loop_fold {σ ρ α : Type} {f : σ → Option (σ ⊕ ρ)} (mk : α → Nat → σ) (out : α → ρ) (step : α → Nat → α) (J : Nat → α → Prop) (n : Nat) (hn : n < 100000) (a0 : α) (h0 : J 0 a0)
    (hs : ∀ i a, i < n → J i a → f (mk a i) = some (.inl (mk (step a i) (i + 1))) ∧ J (i + 1) (step a i)) (he : ∀ a, J n a → f (mk a n) = some (.inr (out a))) : loopN FU f (mk a0 0) = some (out (foldF step a0 n)) ∧ J n (foldF step a0 n) := by
  have hJ : ∀ i, i ≤ n → J i (foldF step a0 i) := by
    intro i
    induction i with
    | zero => intro _; exact h0
    | succ i ih => intro hi; exact (hs i _ (by omega) (ih (by omega))).2
  obtain ⟨r, e, hr⟩ := loop_FU (f := f) (fun i s => s = mk (foldF step a0 i) i) (fun r => r = out (foldF step a0 n)) n hn (mk a0 0) rfl
    (fun i s hi hs' => by subst hs'; exact Or.inl ⟨_, (hs i _ hi (hJ i (by omega))).1, rfl⟩)
    (fun s hs' => by subst hs'; exact ⟨_, he _ (hJ n (Nat.le_refl n)), rfl⟩)
  exact ⟨by rw [e, hr], hJ n (Nat.le_refl n)⟩
theorem foldF_congr {α : Type} {f g : α → Nat → α} {a : α} {n : Nat} (h : ∀ i x, i < n → f x i = g x i) : foldF f a n = foldF g a n := by
  induction n with
  | zero => rfl
  | succ n ih => rw [foldF, foldF, ih (fun i x hi => h i x (by omega)), h n _ (by omega)]
/-! to whom all of one goes if some die at once -/
def goB (H : Int32 → Int32) (set met at_ : Int32) : Option ((Int32 × Int32) ⊕ (Unit ⊕ Int32)) :=
  if at_ = -2 then some (.inr (.inr at_)) else if hasB set at_ = false then some (.inr (.inr at_)) else if hasB met at_ = false then some (.inl (met ||| ((1 : Int32) <<< (at_ &&& 31)), H at_)) else some (.inr (.inl ()))
def goOut : Unit ⊕ Int32 → Int32
  | .inl _ => -2
  | .inr z => z
def goS (H : Int32 → Int32) (set met at_ : Int32) : Int32 := match loopN 8 (fun s : Int32 × Int32 => goB H set s.1 s.2) (met, at_) with
  | none => -2
  | some r => goOut r
theorem loopN_mono {σ ρ : Type} {f : σ → Option (σ ⊕ ρ)} {r : ρ} : ∀ (k k' : Nat) (s : σ), k ≤ k' → loopN k f s = some r → loopN k' f s = some r := by
  intro k
  induction k with
  | zero => intro k' s _ h; cases h
  | succ k ih =>
    intro k' s hk h
    obtain ⟨k', rfl⟩ : ∃ j, k' = j + 1 := ⟨k' - 1, by omega⟩
    rw [loopN] at h ⊢
    obtain ⟨x, e, h⟩ := b_inv h
    rw [e, Option.bind_some]
    cases x with
    | inl s' => exact ih k' s' (by omega) h
    | inr y => exact h
theorem loopN_congr {σ ρ : Type} {f g : σ → Option (σ ⊕ ρ)} (I : σ → Prop) (h : ∀ s, I s → f s = g s) (hp : ∀ s s', I s → g s = some (.inl s') → I s') : ∀ (k : Nat) (s : σ), I s → loopN k f s = loopN k g s := by
  intro k
  induction k with
  | zero => intro s _; rfl
  | succ k ih =>
    intro s hs
    rw [loopN, loopN, h s hs]
    cases e : g s with
    | none => rfl
    | some x =>
      cases x with
      | inl s' => exact ih s' (hp s s' hs e)
      | inr y => rfl
def unmet (met : Int32) : Nat := ((List.range 6).filter (fun j => hasB met (nI j) == false)).length
theorem unmet_lt {met : Int32} {j : Nat} (hj : j < 6) (h : hasB met (nI j) = false) : unmet (met ||| ((1 : Int32) <<< (nI j &&& 31))) < unmet met := by
  unfold unmet
  have e : (List.range 6).filter (fun i => hasB (met ||| ((1 : Int32) <<< (nI j &&& 31))) (nI i) == false) = ((List.range 6).filter (fun i => hasB met (nI i) == false)).filter (fun i => decide (i ≠ j)) := by
    rw [List.filter_filter]
    apply List.filter_congr
    intro i hi
    have hi6 : i < 6 := List.mem_range.mp hi
    rw [hasB_or_one (by omega) (by omega)]
    by_cases hij : i = j <;> cases hasB met (nI i) <;> simp [hij]
  rw [e]
  apply List.length_filter_lt_length_iff_exists.mpr
  exact ⟨j, List.mem_filter.mpr ⟨List.mem_range.mpr hj, by simp [h]⟩, by simp⟩
theorem unmet_le (met : Int32) : unmet met ≤ 6 := by
  unfold unmet
  exact Nat.le_trans (List.length_filter_le _ _) (by simp)
theorem nI_ne_m2 {i : Nat} (h : i < 2 ^ 31) : ¬ nI i = -2 := by
  intro z
  have := nI_toInt h
  rw [z] at this
  have e2 : (-2 : Int32).toInt = -2 := by decide
  omega
/-- nobody, or a person below n -/
def pers (n : Nat) (a : Int32) : Prop := a = -2 ∨ ∃ i, i < n ∧ a = nI i
theorem goB_next {H : Int32 → Int32} {set : Int32} {n : Nat} (hn : n ≤ 6) (hH : ∀ j, j < n → pers n (H (nI j))) (s s' : Int32 × Int32) (hs : pers n s.2) (h : goB H set s.1 s.2 = some (.inl s')) : pers n s'.2 := by
  obtain ⟨m, a⟩ := s
  rcases hs with e | ⟨i, hi, e⟩
  · have e : a = -2 := e
    subst e
    unfold goB at h
    rw [if_pos rfl] at h
    cases h
  · have e : a = nI i := e
    subst e
    unfold goB at h
    rw [if_neg (nI_ne_m2 (by omega))] at h
    split at h
    · cases h
    · split at h
      · cases h; exact hH i hi
      · cases h
/-- the walk over heirs ends: with nobody, or with one who is not in the set -/
theorem go_ends {H : Int32 → Int32} {set : Int32} {n : Nat} (hn : n ≤ 6) (hH : ∀ j, j < n → pers n (H (nI j))) (k : Nat) (hk : 8 ≤ k) (met at_ : Int32) (ha : pers n at_) :
    ∃ r, loopN k (fun s : Int32 × Int32 => goB H set s.1 s.2) (met, at_) = some r ∧ goOut r = goS H set met at_ ∧ (goS H set met at_ = -2 ∨ ∃ i, i < n ∧ goS H set met at_ = nI i ∧ hasB set (nI i) = false) := by
  obtain ⟨r, e, h⟩ := loop_mu (f := fun s : Int32 × Int32 => goB H set s.1 s.2) (I := fun s => pers n s.2) (P := fun r => goOut r = -2 ∨ ∃ i, i < n ∧ goOut r = nI i ∧ hasB set (nI i) = false) (fun s => unmet s.1)
    (by
      intro s hs
      have hs0 := hs
      obtain ⟨m, a⟩ := s
      rcases hs with h | ⟨i, hi, h⟩
      · have h : a = -2 := h
        exact Or.inr ⟨.inr a, by show goB H set m a = _; unfold goB; rw [if_pos h], Or.inl h⟩
      · have h : a = nI i := h
        subst h
        have h2 : ¬ nI i = -2 := nI_ne_m2 (by omega)
        by_cases c1 : hasB set (nI i) = false
        · exact Or.inr ⟨.inr (nI i), by show goB H set m (nI i) = _; unfold goB; rw [if_neg h2, if_pos c1], Or.inr ⟨i, hi, rfl, c1⟩⟩
        · by_cases c2 : hasB m (nI i) = false
          · exact Or.inl ⟨(m ||| ((1 : Int32) <<< (nI i &&& 31)), H (nI i)), by show goB H set m (nI i) = _; unfold goB; rw [if_neg h2, if_neg c1, if_pos c2], hH i hi, unmet_lt (by omega) c2⟩
          · exact Or.inr ⟨.inl (), by show goB H set m (nI i) = _; unfold goB; rw [if_neg h2, if_neg c1, if_neg c2], Or.inl rfl⟩) 8 (met, at_) (by have := unmet_le met; show unmet met < _; omega) ha
  have e2 : goS H set met at_ = goOut r := by unfold goS; rw [e]
  exact ⟨r, loopN_mono 8 k _ hk e, e2.symm, by rw [e2]; exact h⟩
/-- the heir of j, as a function of numbers -/
def HX (liv : Int32) (a : AI) (n : Nat) : Int32 → Int32 := fun z => heirF liv (hX a) z.toNatClampNeg n
theorem HX_at {liv : Int32} {a : AI} {n j : Nat} (hj : j < 2 ^ 31) : HX liv a n (nI j) = heirF liv (hX a) j n := by unfold HX; rw [nIc hj]
theorem HX_pers {liv : Int32} {a : AI} {n : Nat} (hn : n ≤ 6) (j : Nat) (hj : j < n) : pers n (HX liv a n (nI j)) := by
  rw [HX_at (by omega)]
  rcases heirF_in liv (hX a) j n hn with e | ⟨i, hi, e, -⟩
  · exact Or.inl e
  · exact Or.inr ⟨i, hi, e⟩
/-- to whom all of p goes if those of the set die at once -/
def goesS (liv : Int32) (a : AI) (n : Nat) (set : Int32) (p : Nat) : Int32 := goS (HX liv a n) set ((1 : Int32) <<< (nI p &&& 31)) (HX liv a n (nI p))
theorem goesS_in {liv : Int32} {a : AI} {n : Nat} (hn : n ≤ 6) (set : Int32) {p : Nat} (hp : p < n) : goesS liv a n set p = -2 ∨ ∃ i, i < n ∧ goesS liv a n set p = nI i ∧ hasB set (nI i) = false := by
  obtain ⟨r, -, -, h⟩ := go_ends (set := set) hn (HX_pers (liv := liv) (a := a) hn) 8 (Nat.le_refl 8) ((1 : Int32) <<< (nI p &&& 31)) (HX liv a n (nI p)) (HX_pers hn p hp)
  exact h
theorem bind_go {r : Unit ⊕ Int32} : ((some r).bind fun r => match r with | .inl _ => some (-2 : Int32) | .inr z => some z) = some (goOut r) := by cases r <;> rfl
theorem M_goes4 {liv : Int32} {a : AI} {n p : Nat} (hn : n ≤ 6) (hp : p < n) (set : Int32) : MX4_goesTo (nI p) set liv a (nI n) = some (goesS liv a n set p) := by
  unfold MX4_goesTo
  rw [M_heir4 hn (by omega), Option.bind_some, ← HX_at (by omega)]
  have hb : ∀ s : Int32 × Int32, pers n s.2 → BX4_goesTo_11 set liv a (nI n) s.1 s.2 = goB (HX liv a n) set s.1 s.2 := by
    intro s hs
    obtain ⟨m, z⟩ := s
    unfold BX4_goesTo_11 goB
    rcases hs with e | ⟨i, hi, e⟩
    · have e : z = -2 := e
      rw [if_pos e, if_pos e]
    · have e : z = nI i := e
      subst e
      have h2 : ¬ nI i = -2 := nI_ne_m2 (by omega)
      rw [if_neg h2, if_neg h2, M_has, Option.bind_some]
      by_cases c1 : hasB set (nI i) = false
      · rw [if_pos (b2i_f c1), if_pos c1]
      rw [if_neg (b2i_t (by simpa using c1)), if_neg c1, M_has, Option.bind_some]
      by_cases c2 : hasB m (nI i) = false
      · rw [if_pos (b2i_f c2), if_pos c2, M_heir4 hn (by omega), Option.bind_some, HX_at (by omega)]
      · rw [if_neg (b2i_t (by simpa using c2)), if_neg c2]
  rw [loopN_congr (g := fun s : Int32 × Int32 => goB (HX liv a n) set s.1 s.2) (fun s => pers n s.2) hb (fun s s' hs h => goB_next hn (HX_pers hn) s s' hs h) FU _ (HX_pers hn p hp)]
  obtain ⟨r, e, h, -⟩ := go_ends (set := set) hn (HX_pers (liv := liv) (a := a) hn) FU (Nat.le_of_ble_eq_true rfl) ((1 : Int32) <<< (nI p &&& 31)) (HX liv a n (nI p)) (HX_pers hn p hp)
  rw [e]
  exact bind_go.trans (congrArg some h)
/-- the model's: with the heirs in an array, begun at p itself -/
theorem M_goes7 {liv : Int32} {a : AI} {n p : Nat} (hn : n ≤ 6) (hp : p < n) (set : Int32) (hs : hasB set (nI p) = true) (heir : AI) (hh : ∀ j, j < n → heir j = heirF liv (hX a) j n) : MX7_goes (nI p) set heir = some (goesS liv a n set p) := by
  unfold MX7_goes
  have hb : ∀ s : Int32 × Int32, pers n s.2 → BX7_goes_5 set heir s.1 s.2 = goB (HX liv a n) set s.1 s.2 := by
    intro s hs
    obtain ⟨m, z⟩ := s
    unfold BX7_goes_5 goB
    rcases hs with e | ⟨i, hi, e⟩
    · have e : z = -2 := e
      rw [if_pos e, if_pos e]
    · have e : z = nI i := e
      subst e
      have h2 : ¬ nI i = -2 := nI_ne_m2 (by omega)
      rw [if_neg h2, if_neg h2, M_bit, Option.bind_some]
      by_cases c1 : hasB set (nI i) = false
      · rw [if_pos (b2i_f c1), if_pos c1]
      rw [if_neg (b2i_t (by simpa using c1)), if_neg c1, M_bit, Option.bind_some]
      by_cases c2 : hasB m (nI i) = false
      · rw [if_pos (b2i_f c2), if_pos c2, gi_nI (by omega) (by decide), nIc (by omega), hh i hi, HX_at (by omega)]
      · rw [if_neg (b2i_t (by simpa using c2)), if_neg c2]
  rw [loopN_congr (g := fun s : Int32 × Int32 => goB (HX liv a n) set s.1 s.2) (fun s => pers n s.2) hb (fun s s' hs h => goB_next hn (HX_pers hn) s s' hs h) FU _ (Or.inr ⟨p, hp, rfl⟩)]
  obtain ⟨k, hk, hk8⟩ : ∃ k, FU = k + 1 ∧ 8 ≤ k := ⟨99999, rfl, Nat.le_of_ble_eq_true rfl⟩
  rw [hk]
  obtain ⟨r, e, h, -⟩ := go_ends (set := set) hn (HX_pers (liv := liv) (a := a) hn) k hk8 ((1 : Int32) <<< (nI p &&& 31)) (HX liv a n (nI p)) (HX_pers hn p hp)
  have e1 : loopN (k + 1) (fun s : Int32 × Int32 => goB (HX liv a n) set s.1 s.2) (0, nI p) = some r := by
    rw [loopN]
    show (goB (HX liv a n) set 0 (nI p)).bind _ = _
    unfold goB
    rw [if_neg (nI_ne_m2 (by omega)), if_neg (by rw [hs]; decide), if_pos (hasB_0 (by omega)), zero_or]
    exact e
  rw [e1]
  exact bind_go.trans (congrArg some h)
