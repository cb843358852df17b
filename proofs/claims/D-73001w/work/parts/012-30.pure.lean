set_option maxRecDepth 100000
/-! PLAIN LEAN on the M.. functions: loops, places, leaf methods -/
theorem loop_for {σ ρ : Type} {f : σ → Option (σ ⊕ ρ)} {I : Nat → σ → Prop} {P : ρ → Prop} {n : Nat}
    (hs : ∀ i s, i < n → I i s → (∃ s', f s = some (.inl s') ∧ I (i + 1) s') ∨ (∃ r, f s = some (.inr r) ∧ P r))
    (he : ∀ s, I n s → ∃ r, f s = some (.inr r) ∧ P r) : ∀ (d i : Nat) (s : σ) (k : Nat), i + d = n → d < k → I i s → ∃ r, loopN k f s = some r ∧ P r := by
  intro d
  induction d with
  | zero =>
    intro i s k hi hk hI
    obtain ⟨k, rfl⟩ : ∃ j, k = j + 1 := ⟨k - 1, by omega⟩
    obtain rfl : i = n := by omega
    obtain ⟨r, e, h⟩ := he s hI
    exact ⟨r, by rw [loopN, e]; rfl, h⟩
  | succ d ih =>
    intro i s k hi hk hI
    obtain ⟨k, rfl⟩ : ∃ j, k = j + 1 := ⟨k - 1, by omega⟩
    rcases hs i s (by omega) hI with ⟨s', e, h⟩ | ⟨r, e, h⟩
    · obtain ⟨r, e2, h2⟩ := ih (i + 1) s' k (by omega) (by omega) h
      exact ⟨r, by rw [loopN, e]; exact e2, h2⟩
    · exact ⟨r, by rw [loopN, e]; rfl, h⟩
theorem loop_mu {σ ρ : Type} {f : σ → Option (σ ⊕ ρ)} {I : σ → Prop} {P : ρ → Prop} (μ : σ → Nat)
    (hs : ∀ s, I s → (∃ s', f s = some (.inl s') ∧ I s' ∧ μ s' < μ s) ∨ (∃ r, f s = some (.inr r) ∧ P r)) : ∀ (k : Nat) (s : σ), μ s < k → I s → ∃ r, loopN k f s = some r ∧ P r := by
  intro k
  induction k with
  | zero => intro s h; omega
  | succ k ih =>
    intro s hk hI
    rcases hs s hI with ⟨s', e, h, hm⟩ | ⟨r, e, h⟩
    · obtain ⟨r, e2, h2⟩ := ih s' (by omega) h
      exact ⟨r, by rw [loopN, e]; exact e2, h2⟩
    · exact ⟨r, by rw [loopN, e]; rfl, h⟩
/-- a counted loop from 0, by the loops' own fuel -/
theorem loop_FU {σ ρ : Type} {f : σ → Option (σ ⊕ ρ)} (I : Nat → σ → Prop) (P : ρ → Prop) (n : Nat) (hn : n < 100000) (s0 : σ) (h0 : I 0 s0)
    (hs : ∀ i s, i < n → I i s → (∃ s', f s = some (.inl s') ∧ I (i + 1) s') ∨ (∃ r, f s = some (.inr r) ∧ P r))
    (he : ∀ s, I n s → ∃ r, f s = some (.inr r) ∧ P r) : ∃ r, loopN FU f s0 = some r ∧ P r := loop_for hs he n 0 s0 FU (by omega) (by unfold FU; omega) h0
theorem loop_FUm {σ ρ : Type} {f : σ → Option (σ ⊕ ρ)} (I : σ → Prop) (P : ρ → Prop) (μ : σ → Nat) (s0 : σ) (hm : μ s0 < 100000) (h0 : I s0)
    (hs : ∀ s, I s → (∃ s', f s = some (.inl s') ∧ I s' ∧ μ s' < μ s) ∨ (∃ r, f s = some (.inr r) ∧ P r)) : ∃ r, loopN FU f s0 = some r ∧ P r := loop_mu μ hs FU s0 (by unfold FU; omega) h0
theorem gi_nI {α : Type} {k n : Nat} {K : Option α} (h : k < n) (hn : n < 2 ^ 31) : gi (nI k) n K = K := by
  unfold gi
  rw [if_neg (nI_in h hn)]
theorem gi_of {α : Type} {i : Int32} {k n : Nat} {K : Option α} (e : i = nI k) (h : k < n) (hn : n < 2 ^ 31) : gi i n K = K := by rw [e]; exact gi_nI h hn
theorem gn_of {α : Type} {i n : Nat} {K : Option α} (h : i < n) : gn i n K = K := by unfold gn; rw [if_pos h]
theorem gz_of {α : Type} {y : Int32} {K : Option α} (h : ¬ y = 0) : gz y K = K := by unfold gz; rw [if_neg h]
theorem gzl_of {α : Type} {y : Int64} {K : Option α} (h : ¬ y = 0) : gzl y K = K := by unfold gzl; rw [if_neg h]
theorem nIc {k : Nat} (h : k < 2 ^ 31) : Int32.toNatClampNeg (nI k) = k := nI_clamp h
/-- is k in the set -/
def hasB (s k : Int32) : Bool := decide (((s >>> (k &&& 31)) &&& 1) = 1)
theorem M_has (s k : Int32) : MX1_has s k = some (hasB s k) := by
  unfold MX1_has hasB
  split <;> rename_i h <;> simp [h]
theorem M_bit (s k : Int32) : MX7_bit s k = some (hasB s k) := by
  unfold MX7_bit hasB
  split <;> rename_i h <;> simp [h]
def inB (v lo hi : Int32) : Bool := decide (lo ≤ v) && decide (v ≤ hi)
theorem M_in (v lo hi : Int32) : MX1_in v lo hi = some (inB v lo hi) := by
  unfold MX1_in inB
  by_cases h1 : v < lo
  · rw [if_pos h1]; simp [Int32.not_le.mpr h1]
  · rw [if_neg h1]
    by_cases h2 : hi < v
    · rw [if_pos h2]; simp [Int32.not_le.mpr h2]
    · rw [if_neg h2]; simp [Int32.not_lt.mp h1, Int32.not_lt.mp h2]
theorem M_in7 (v lo hi : Int32) : MX7_in v lo hi = some (inB v lo hi) := by
  unfold MX7_in inB
  by_cases h1 : v < lo
  · rw [if_pos h1]; simp [Int32.not_le.mpr h1]
  · rw [if_neg h1]
    by_cases h2 : hi < v
    · rw [if_pos h2]; simp [Int32.not_le.mpr h2]
    · rw [if_neg h2]; simp [Int32.not_lt.mp h1, Int32.not_lt.mp h2]
theorem M_isLiving4 (p liv : Int32) : MX4_isLiving p liv = some (hasB liv p) := by
  unfold MX4_isLiving
  rw [M_has]; rfl
theorem M_isLiving7 (p : Int32) (x : AI) : MX7_isLiving p x = some (hasB (x 42) p) := by
  unfold MX7_isLiving
  rw [M_bit]; rfl
theorem idx6 {p q : Nat} : ((6 : Int32) * nI p) + nI q = nI (6 * p + q) := by
  rw [show (6 : Int32) = nI 6 from rfl, pk_mul, nI_add]
theorem M_hourOf {p q : Nat} (hp : p < 6) (hq : q < 6) (h : AI) : MX4_hourOf (nI p) (nI q) h = some (h (6 * p + q)) := by
  unfold MX4_hourOf
  rw [idx6, gi_nI (by omega) (by decide), nIc (by omega)]
theorem M_asked {p q : Nat} (hp : p < 6) (hq : q < 6) (x : AI) : MX7_asked (nI p) (nI q) x = some (x (6 + 6 * p + q)) := by
  unfold MX7_asked
  rw [show (6 : Int32) = nI 6 from rfl, pk_mul, nI_add, nI_add, gi_nI (by omega) (by decide), nIc (by omega)]
