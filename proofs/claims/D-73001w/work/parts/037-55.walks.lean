set_option maxRecDepth 100000
/-! walks from house to house: exactly k hours, coming by all of a set -/
/-- from o to r in exactly d hours -/
def Dk (N : Nat → Nat → Prop) (o : Nat) : Nat → Nat → Prop
  | 0, r => r = o
  | d + 1, r => ∃ r', N r' r ∧ Dk N o d r'
/-- from p to r in exactly k hours, by all of S -/
def Vk (N : Nat → Nat → Prop) (p : Nat) : Nat → (Nat → Prop) → Nat → Prop
  | 0, S, r => r = p ∧ ∀ x, S x → x = p
  | k + 1, S, r => ∃ r', N r' r ∧ Vk N p k (fun x => S x ∧ x ≠ r) r'
theorem Vk_mono {N : Nat → Nat → Prop} {p : Nat} : ∀ (k : Nat) (S S' : Nat → Prop) (r : Nat), (∀ x, S' x → S x) → Vk N p k S r → Vk N p k S' r := by
  intro k
  induction k with
  | zero => intro S S' r h hv; exact ⟨hv.1, fun x hx => hv.2 x (h x hx)⟩
  | succ k ih =>
    intro S S' r h ⟨r', h1, h2⟩
    exact ⟨r', h1, ih _ _ r' (fun x hx => ⟨h x hx.1, hx.2⟩) h2⟩
theorem Vk_D {N : Nat → Nat → Prop} {p : Nat} : ∀ (k : Nat) (S : Nat → Prop) (r : Nat), Vk N p k S r → Dk N p k r := by
  intro k
  induction k with
  | zero => intro S r h; exact h.1
  | succ k ih => intro S r ⟨r', h1, h2⟩; exact ⟨r', h1, ih _ _ h2⟩
theorem Dk_V {N : Nat → Nat → Prop} {p : Nat} : ∀ (k : Nat) (r : Nat), Dk N p k r → Vk N p k (fun _ => False) r := by
  intro k
  induction k with
  | zero => intro r h; exact ⟨h, fun x hx => hx.elim⟩
  | succ k ih => intro r ⟨r', h1, h2⟩; exact ⟨r', h1, Vk_mono k _ _ r' (fun x hx => hx.1.elim) (ih r' h2)⟩
theorem Vk_end {N : Nat → Nat → Prop} {p : Nat} : ∀ (k : Nat) (S : Nat → Prop) (r : Nat), Vk N p k S r → Vk N p k (fun x => S x ∨ x = r) r := by
  intro k S r h
  cases k with
  | zero => exact ⟨h.1, fun x hx => by rcases hx with q | q; exact h.2 x q; rw [q]; exact h.1⟩
  | succ k =>
    obtain ⟨r', h1, h2⟩ := h
    exact ⟨r', h1, Vk_mono k _ _ r' (fun x hx => ⟨by rcases hx.1 with q | q; exact q; exact absurd q hx.2, hx.2⟩) h2⟩
/-- it ends where it came last by one of the set: before, so many hours less -/
theorem Vk_last {N : Nat → Nat → Prop} {p : Nat} : ∀ (k : Nat) (S : Nat → Prop) (r : Nat), (∃ x, S x) → Vk N p k S r → ∃ j o, j ≤ k ∧ S o ∧ Vk N p j S o ∧ Dk N o (k - j) r := by
  intro k
  induction k with
  | zero =>
    intro S r ⟨x, hx⟩ h
    have := h.2 x hx
    subst this
    exact ⟨0, x, Nat.le_refl 0, hx, ⟨rfl, h.2⟩, h.1⟩
  | succ k ih =>
    intro S r hx ⟨r', h1, h2⟩
    by_cases c : S r
    · exact ⟨k + 1, r, Nat.le_refl _, c, ⟨r', h1, h2⟩, by rw [Nat.sub_self]; exact rfl⟩
    · have h3 : Vk N p k S r' := Vk_mono k _ _ r' (fun x hx => ⟨hx, fun e => c (e ▸ hx)⟩) h2
      obtain ⟨j, o, g1, g2, g3, g4⟩ := ih S r' hx h3
      refine ⟨j, o, by omega, g2, g3, ?_⟩
      rw [show k + 1 - j = (k - j) + 1 by omega]
      exact ⟨r', h1, g4⟩
/-- it goes on -/
theorem Vk_then {N : Nat → Nat → Prop} {p : Nat} {j : Nat} {S : Nat → Prop} {o : Nat} (h : Vk N p j S o) : ∀ (d r : Nat), Dk N o d r → Vk N p (j + d) S r := by
  intro d
  induction d with
  | zero => intro r hr; rw [show r = o from hr]; exact h
  | succ d ih =>
    intro r ⟨r', h1, h2⟩
    exact ⟨r', h1, Vk_mono _ _ _ r' (fun x hx => hx.1) (ih r' h2)⟩
theorem Dk_then {N : Nat → Nat → Prop} {p : Nat} {j o : Nat} (h : Dk N p j o) : ∀ (d r : Nat), Dk N o d r → Dk N p (j + d) r := by
  intro d
  induction d with
  | zero => intro r hr; rw [show r = o from hr]; exact h
  | succ d ih =>
    intro r ⟨r', h1, h2⟩
    exact ⟨r', h1, ih r' h2⟩
/-- in t hours at most -/
def Vle (N : Nat → Nat → Prop) (p t : Nat) (S : Nat → Prop) (r : Nat) : Prop := ∃ k, k ≤ t ∧ Vk N p k S r
def Dle (N : Nat → Nat → Prop) (p t r : Nat) : Prop := ∃ k, k ≤ t ∧ Dk N p k r
/-- by one alone -/
theorem Vle_one {N : Nat → Nat → Prop} {p t q : Nat} {S : Nat → Prop} (hS : ∀ x, S x ↔ x = q) : Vle N p t S q ↔ Dle N p t q := by
  constructor
  · rintro ⟨k, h1, h2⟩; exact ⟨k, h1, Vk_D k _ _ h2⟩
  · rintro ⟨k, h1, h2⟩
    exact ⟨k, h1, Vk_mono k _ _ q (fun x hx => Or.inr ((hS x).mp hx)) (Vk_end k _ q (Dk_V k q h2))⟩
/-- by all of S, q the last: there was one ahead of it -/
theorem Vle_more {N : Nat → Nat → Prop} {p t q : Nat} {S S' : Nat → Prop} (hS : ∀ x, S' x ↔ (S x ∧ x ≠ q)) (hq : S q) (hne : ∃ x, S' x) : Vle N p t S q ↔ ∃ o, S' o ∧ ∃ t1 t2, t1 + t2 ≤ t ∧ Vle N p t1 S' o ∧ Dle N o t2 q := by
  constructor
  · rintro ⟨k, h1, h2⟩
    obtain ⟨j, o, g1, g2, g3, g4⟩ := Vk_last k S' q hne (Vk_mono k _ _ q (fun x hx => ((hS x).mp hx).1) h2)
    exact ⟨o, g2, j, k - j, by omega, ⟨j, Nat.le_refl j, g3⟩, ⟨k - j, Nat.le_refl _, g4⟩⟩
  · rintro ⟨o, g1, t1, t2, g2, ⟨k1, a1, a2⟩, ⟨k2, b1, b2⟩⟩
    refine ⟨k1 + k2, by omega, Vk_mono _ _ _ q (fun x hx => ?_) (Vk_end _ _ q (Vk_then a2 k2 q b2))⟩
    by_cases c : x = q
    · exact Or.inr c
    · exact Or.inl ((hS x).mpr ⟨hx, c⟩)
/-- by all of S, wherever it ends -/
theorem Vle_any {N : Nat → Nat → Prop} {p t : Nat} {S : Nat → Prop} (hne : ∃ x, S x) : (∃ r, Vle N p t S r) ↔ ∃ o, S o ∧ Vle N p t S o := by
  constructor
  · rintro ⟨r, k, h1, h2⟩
    obtain ⟨j, o, g1, g2, g3, -⟩ := Vk_last k S r hne h2
    exact ⟨o, g2, j, by omega, g3⟩
  · rintro ⟨o, -, h⟩; exact ⟨o, h⟩
/-- by exactly the houses of K -/
def Ek (N : Nat → Nat → Prop) (p : Nat) : Nat → (Nat → Prop) → Nat → Prop
  | 0, K, r => r = p ∧ ∀ x, K x ↔ x = p
  | k + 1, K, r => ∃ r' K', N r' r ∧ Ek N p k K' r' ∧ ∀ x, K x ↔ (K' x ∨ x = r)
theorem Ek_V {N : Nat → Nat → Prop} {p : Nat} : ∀ (k : Nat) (K : Nat → Prop) (r : Nat), Ek N p k K r → Vk N p k K r := by
  intro k
  induction k with
  | zero => intro K r h; exact ⟨h.1, fun x hx => (h.2 x).mp hx⟩
  | succ k ih =>
    intro K r ⟨r', K', h1, h2, h3⟩
    exact ⟨r', h1, Vk_mono k _ _ r' (fun x hx => by rcases (h3 x).mp hx.1 with q | q; exact q; exact absurd q hx.2) (ih K' r' h2)⟩
theorem Vk_E {N : Nat → Nat → Prop} {p : Nat} : ∀ (k : Nat) (S : Nat → Prop) (r : Nat), Vk N p k S r → ∃ K : Nat → Prop, (∀ x, S x → K x) ∧ Ek N p k K r := by
  intro k
  induction k with
  | zero => intro S r h; exact ⟨fun x => x = p, h.2, h.1, fun x => Iff.rfl⟩
  | succ k ih =>
    intro S r ⟨r', h1, h2⟩
    obtain ⟨K', g1, g2⟩ := ih _ r' h2
    refine ⟨fun x => K' x ∨ x = r, fun x hx => ?_, r', K', h1, g2, fun x => Iff.rfl⟩
    by_cases c : x = r
    · exact Or.inr c
    · exact Or.inl (g1 x ⟨hx, c⟩)
/-- whoever is ever reached is reached in n - 1 hours: the sets grow or stand still -/
theorem Dk_lt {N : Nat → Nat → Prop} {n p : Nat} (hp : p < n) (hN : ∀ a b, N a b → b < n) : ∀ k r, Dk N p k r → r < n := by
  intro k r h
  cases k with
  | zero => rw [show r = p from h]; exact hp
  | succ k => obtain ⟨r', h1, -⟩ := h; exact hN _ _ h1
theorem Dle_step {N : Nat → Nat → Prop} {p j r : Nat} : Dle N p (j + 1) r ↔ Dle N p j r ∨ ∃ r', N r' r ∧ Dle N p j r' := by
  constructor
  · rintro ⟨k, h1, h2⟩
    by_cases c : k ≤ j
    · exact Or.inl ⟨k, c, h2⟩
    · obtain rfl : k = j + 1 := by omega
      obtain ⟨r', g1, g2⟩ := h2
      exact Or.inr ⟨r', g1, j, Nat.le_refl j, g2⟩
  · rintro (⟨k, h1, h2⟩ | ⟨r', g1, k, h1, h2⟩)
    · exact ⟨k, by omega, h2⟩
    · exact ⟨k + 1, by omega, r', g1, h2⟩
theorem Dle_still {N : Nat → Nat → Prop} {p j : Nat} (h : ∀ r, Dle N p (j + 1) r → Dle N p j r) : ∀ d r, Dle N p (j + d) r → Dle N p j r := by
  intro d
  induction d with
  | zero => intro r hr; exact hr
  | succ d ih =>
    intro r hr
    rcases Dle_step.mp (show Dle N p (j + d + 1) r from hr) with q | ⟨r', g1, g2⟩
    · exact ih r q
    · exact h r (Dle_step.mpr (Or.inr ⟨r', g1, ih r' g2⟩))
/-- the sets, as Bools, and how many are in them -/
theorem cnt_lt {P Q : Nat → Bool} {n x : Nat} (h : ∀ c, c < n → P c = true → Q c = true) (hx : x < n) (h1 : P x = false) (h2 : Q x = true) : cntN P n < cntN Q n := by
  induction n with
  | zero => omega
  | succ n ih =>
    by_cases c : x = n
    · subst c
      rw [cntN_skip h1, cntN_step h2]
      have := cntN_imp (P := P) (Q := Q) x (fun c hc => h c (by omega))
      omega
    · have := ih (fun c hc => h c (by omega)) (by omega)
      cases hp : P n
      · rw [cntN_skip hp]
        exact Nat.lt_of_lt_of_le this (cntN_mono n (n + 1) (by omega))
      · rw [cntN_step hp, cntN_step (h n (by omega) hp)]; omega
/-- B j is who is reached in j hours; all who ever are, are by 5 if there are 6 at most -/
theorem Dle_5 {N : Nat → Nat → Prop} {n p : Nat} (hn : n ≤ 6) (hp : p < n) (hN : ∀ a b, N a b → b < n) (B : Nat → Nat → Bool) (hB : ∀ j r, r < n → (B j r = true ↔ Dle N p j r)) : ∀ t r, Dle N p t r → Dle N p 5 r := by
  have grow : ∀ j, (∀ r, Dle N p (j + 1) r → Dle N p j r) ∨ cntN (B j) n < cntN (B (j + 1)) n := by
    intro j
    by_cases c : ∃ x, x < n ∧ B j x = false ∧ B (j + 1) x = true
    · obtain ⟨x, h1, h2, h3⟩ := c
      exact Or.inr (cnt_lt (fun c hc hb => (hB (j + 1) c hc).mpr (by obtain ⟨k, a, b⟩ := (hB j c hc).mp hb; exact ⟨k, by omega, b⟩)) h1 h2 h3)
    · refine Or.inl (fun r hr => ?_)
      have hl : r < n := by obtain ⟨k, -, b⟩ := hr; exact Dk_lt hp hN k r b
      cases hb : B j r
      · exact absurd ⟨r, hl, hb, (hB (j + 1) r hl).mpr hr⟩ c
      · exact (hB j r hl).mp hb
  have h1 : 1 ≤ cntN (B 0) n := cntN_of hp ((hB 0 p hp).mpr ⟨0, Nat.le_refl 0, rfl⟩)
  have key : ∀ m, (∃ j, j ≤ m ∧ ∀ r, Dle N p (j + 1) r → Dle N p j r) ∨ m + 2 ≤ cntN (B (m + 1)) n := by
    intro m
    induction m with
    | zero =>
      rcases grow 0 with q | q
      · exact Or.inl ⟨0, Nat.le_refl 0, q⟩
      · exact Or.inr (by omega)
    | succ m ih =>
      rcases ih with ⟨j, q1, q2⟩ | q
      · exact Or.inl ⟨j, by omega, q2⟩
      · rcases grow (m + 1) with w | w
        · exact Or.inl ⟨m + 1, Nat.le_refl _, w⟩
        · exact Or.inr (by omega)
  intro t r hr
  rcases key 5 with ⟨j, q1, q2⟩ | q
  · by_cases c : t ≤ 5
    · obtain ⟨k, a, b⟩ := hr; exact ⟨k, by omega, b⟩
    · have := Dle_still q2 (t - j) r (by rw [show j + (t - j) = t by omega]; exact hr)
      obtain ⟨k, a, b⟩ := this
      exact ⟨k, by omega, b⟩
  · have := cntN_le (P := B (5 + 1)) n
    omega
