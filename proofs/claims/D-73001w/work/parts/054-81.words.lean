set_option maxRecDepth 100000
/-! words packed, keywords, names -/
def diN (f : AI) (j : Nat) : Nat := (f j).toNatClampNeg - 96
def pkN (f : AI) : Nat → Nat
  | 0 => 0
  | k + 1 => 32 * pkN f k + diN f k
theorem sm_di {f : AI} {j : Nat} (h : smB (f j) = true) : 1 ≤ diN f j ∧ diN f j ≤ 26 ∧ f j = nI (diN f j + 96) := by
  obtain ⟨b, h1, h2, e⟩ := inR_of (lo := 97) (hi := 122) (by decide) (by decide) h
  unfold diN
  rw [e, nIc (by omega)]
  exact ⟨by omega, by omega, by rw [show b - 96 + 96 = b by omega]⟩
theorem pkW_lN {f : AI} : ∀ L, L ≤ 8 → (∀ j, j < L → smB (f j) = true) → pkW f L = lN (pkN f L) ∧ pkN f L < 32 ^ L := by
  intro L
  induction L with
  | zero => intro _ _; exact ⟨rfl, (show 0 < 1 by decide)⟩
  | succ L ih =>
    intro h8 h
    obtain ⟨e, hl⟩ := ih (by omega) (fun j hj => h j (by omega))
    obtain ⟨d1, d2, d3⟩ := sm_di (h L (by omega))
    rw [pkW, pkN, e]
    generalize hd : diN f L = d at *
    rw [d3, show (97 : Int32) = nI 97 from rfl, pk_sub (by omega), nI_1, nI_l (by omega), show (32 : Int64) = lN 32 from rfl, lN_mul, lN_add, show d + 96 - 97 + 1 = d by omega]
    refine ⟨rfl, ?_⟩
    rw [Nat.pow_succ]
    omega
theorem pkN_inj {f g : AI} : ∀ L M, (∀ j, j < L → smB (f j) = true) → (∀ j, j < M → smB (g j) = true) → pkN f L = pkN g M → L = M ∧ ∀ j, j < L → f j = g j := by
  intro L
  induction L with
  | zero =>
    intro M _ hg e
    cases M with
    | zero => exact ⟨rfl, fun j h => by omega⟩
    | succ M =>
      obtain ⟨d1, -, -⟩ := sm_di (hg M (by omega))
      rw [pkN, pkN] at e
      omega
  | succ L ih =>
    intro M hf hg e
    obtain ⟨d1, d2, d3⟩ := sm_di (hf L (by omega))
    cases M with
    | zero =>
      rw [pkN, pkN] at e
      omega
    | succ M =>
      obtain ⟨b1, b2, b3⟩ := sm_di (hg M (by omega))
      rw [pkN, pkN] at e
      obtain ⟨h1, h2⟩ := ih M (fun j hj => hf j (by omega)) (fun j hj => hg j (by omega)) (by omega)
      subst h1
      refine ⟨rfl, fun j hj => ?_⟩
      by_cases q : j = L
      · subst q
        rw [d3, b3, show diN f j = diN g j by omega]
      · exact h2 j (by omega)
theorem pk_iff {L M : Nat} {f g : AI} (hf : goodW L f) (hg : goodW M g) : pkW f L = pkW g M ↔ (L = M ∧ ∀ j, j < L → f j = g j) := by
  obtain ⟨e1, l1⟩ := pkW_lN L hf.2.1 hf.2.2
  obtain ⟨e2, l2⟩ := pkW_lN M hg.2.1 hg.2.2
  have p1 : 32 ^ L ≤ 32 ^ 8 := Nat.pow_le_pow_right (by decide) hf.2.1
  have p2 : 32 ^ M ≤ 32 ^ 8 := Nat.pow_le_pow_right (by decide) hg.2.1
  have p3 : (32 : Nat) ^ 8 < 2 ^ 63 := by decide
  constructor
  · intro h
    rw [e1, e2] at h
    exact pkN_inj L M hf.2.2 hg.2.2 ((pk_lEQ (by omega) (by omega)).mp h)
  · rintro ⟨rfl, h⟩
    exact pkW_cong L h
theorem eqC_iff {L M : Nat} {f g : AI} (hf : goodW L f) (hg : goodW M g) : eqC L f M g = 0 ↔ ¬ pkW f L = pkW g M := by
  rw [pk_iff hf hg]
  unfold eqC
  by_cases h : L = M ∧ ∀ j, j < L → f j = g j
  · rw [if_pos h]; exact ⟨fun q => absurd q (by decide), fun q => absurd h q⟩
  · rw [if_neg h]; exact ⟨fun _ => h, fun _ => rfl⟩
theorem kw_all : ∀ k, k < 18 → 1 ≤ k → (0 < klen k ∧ klen k ≤ 8 ∧ ∀ j, j < klen k → smB (kby k j) = true) := by decide +kernel
theorem kw_good {k : Nat} (h1 : 1 ≤ k) (h : k < 18) : goodW (klen k) (kby k) := kw_all k h h1
theorem kw_pack : ∀ k, k < 18 → packG k (klen k) = pkW (kby k) (klen k) := by decide +kernel
theorem hash_cong {f g : AI} : ∀ L, (∀ j, j < L → f j = g j) → hashG L f = hashG L g := by
  intro L
  induction L with
  | zero => intro _; rfl
  | succ L ih => intro h; rw [hashG, hashG, ih (fun j hj => h j (by omega)), h L (by omega)]
theorem eqC_hash {L M : Nat} {f g : AI} (h : ¬ eqC L f M g = 0) : hashG L f = hashG M g := by
  unfold eqC at h
  by_cases q : L = M ∧ ∀ j, j < L → f j = g j
  · obtain ⟨rfl, q⟩ := q; exact hash_cong L q
  · rw [if_neg q] at h; exact absurd rfl h
/-- the token is this word -/
def isK (s : ZS) (k : Nat) : Bool := match s.2.2.2.2.1 with
  | some i => decide (s.2.1 = 2) && !decide (eqC (s.2.2.2.2.2.2.2.2.2.2.2.2.2.2.2.2.2.2.2.2.2.2.2.2.2.2.2.2.2.1 i) (s.2.2.2.2.2.2.2.2.2.2.2.2.2.2.2.2.2.2.2.2.2.2.2.2.2.2.2.2.2.2.1 i) (klen k) (kby k) = 0)
  | none => false
theorem isK_tk {s : ZS} {k : Nat} (h : isK s k = true) : s.2.1 = 2 := by
  unfold isK at h
  split at h
  · simp only [Bool.and_eq_true, decide_eq_true_eq] at h; exact h.1
  · cases h
theorem TR.cases {z e : Nat} {s : ZS} {spot sort place number : Int32} {word : Int64} (h : TR z e s spot sort place number word) :
    (¬ s.2.1 = 2 ∧ ¬ sort = 2) ∨ (s.2.1 = 2 ∧ sort = 2 ∧ s.1 = nI e ∧ spot = nI e ∧ e ≤ z ∧ ∃ i, s.2.2.2.2.1 = some i ∧ i < s.2.2.2.2.2.2.2.2.2.2.2.2.2.2.2.2.2.2.2.2.2.2.2.2.2.2.2.2.1 ∧ goodW (s.2.2.2.2.2.2.2.2.2.2.2.2.2.2.2.2.2.2.2.2.2.2.2.2.2.2.2.2.2.1 i) (s.2.2.2.2.2.2.2.2.2.2.2.2.2.2.2.2.2.2.2.2.2.2.2.2.2.2.2.2.2.2.1 i) ∧ word = pkW (s.2.2.2.2.2.2.2.2.2.2.2.2.2.2.2.2.2.2.2.2.2.2.2.2.2.2.2.2.2.2.1 i) (s.2.2.2.2.2.2.2.2.2.2.2.2.2.2.2.2.2.2.2.2.2.2.2.2.2.2.2.2.2.1 i)) := by
  obtain ⟨-, h⟩ := h
  rcases h with ⟨a, b⟩ | ⟨a, b⟩ | h | ⟨a, b, -⟩ | ⟨a, b, -⟩
  · exact Or.inl ⟨by rw [a]; decide, by rw [b]; decide⟩
  · exact Or.inl ⟨by rw [a]; decide, by rw [b]; decide⟩
  · exact Or.inr h
  · exact Or.inl ⟨by rw [a]; decide, by rw [b]; decide⟩
  · exact Or.inl ⟨by rw [a]; decide, by rw [b]; decide⟩
theorem TR.pl {z e : Nat} {s : ZS} {spot sort place number : Int32} {word : Int64} (h : TR z e s spot sort place number word) : s.2.2.1 = place := h.1
theorem TR.h3 {z e : Nat} {s : ZS} {spot sort place number : Int32} {word : Int64} (h : TR z e s spot sort place number word) : (¬ s.2.1 = 3 ∧ ¬ sort = 3) ∨ (s.2.1 = 3 ∧ sort = 3 ∧ s.1 = nI e ∧ spot = nI e ∧ e ≤ z ∧ s.2.2.2.1 = number) := by
  obtain ⟨-, h⟩ := h
  rcases h with ⟨a, b⟩ | ⟨a, b⟩ | ⟨a, b, -⟩ | h | ⟨a, b, -⟩
  · exact Or.inl ⟨by rw [a]; decide, by rw [b]; decide⟩
  · exact Or.inl ⟨by rw [a]; decide, by rw [b]; decide⟩
  · exact Or.inl ⟨by rw [a]; decide, by rw [b]; decide⟩
  · exact Or.inr h
  · exact Or.inl ⟨by rw [a]; decide, by rw [b]; decide⟩
theorem TR.h4 {z e : Nat} {s : ZS} {spot sort place number : Int32} {word : Int64} (h : TR z e s spot sort place number word) : (¬ s.2.1 = 59 ∧ ¬ sort = 4) ∨ (s.2.1 = 59 ∧ sort = 4 ∧ s.1 = nI e ∧ spot = nI e ∧ e ≤ z) := by
  obtain ⟨-, h⟩ := h
  rcases h with ⟨a, b⟩ | ⟨a, b⟩ | ⟨a, b, -⟩ | ⟨a, b, -⟩ | h
  · exact Or.inl ⟨by rw [a]; decide, by rw [b]; decide⟩
  · exact Or.inl ⟨by rw [a]; decide, by rw [b]; decide⟩
  · exact Or.inl ⟨by rw [a]; decide, by rw [b]; decide⟩
  · exact Or.inl ⟨by rw [a]; decide, by rw [b]; decide⟩
  · exact Or.inr h
theorem TR.h0 {z e : Nat} {s : ZS} {spot sort place number : Int32} {word : Int64} (h : TR z e s spot sort place number word) : s.2.1 = 0 ↔ sort = 1 := by
  obtain ⟨-, h⟩ := h
  rcases h with ⟨a, b⟩ | ⟨a, b⟩ | ⟨a, b, -⟩ | ⟨a, b, -⟩ | ⟨a, b, -⟩ <;> rw [a, b] <;> decide
theorem M_isWord {z e : Nat} {s : ZS} {spot sort place number : Int32} {word : Int64} (h : TR z e s spot sort place number word) {k : Nat} (h1 : 1 ≤ k) (hk : k < 18) : MX7_isWord k sort word = some (isK s k) := by
  unfold MX7_isWord isK
  rcases h.cases with ⟨a, b⟩ | ⟨a, b, -, -, -, i, hi, -, hg, hw⟩
  · rw [if_neg b]
    split
    · simp [a]
    · rfl
  · rw [if_pos b, hi, a]
    show (some (packG k (klen k))).bind _ = _
    rw [Option.bind_some, kw_pack k hk, hw]
    have hq := eqC_iff hg (kw_good h1 hk)
    by_cases q : pkW (s.2.2.2.2.2.2.2.2.2.2.2.2.2.2.2.2.2.2.2.2.2.2.2.2.2.2.2.2.2.2.1 i) (s.2.2.2.2.2.2.2.2.2.2.2.2.2.2.2.2.2.2.2.2.2.2.2.2.2.2.2.2.2.1 i) = pkW (kby k) (klen k)
    · rw [if_pos ((lg_cmp_eq _ _).mpr q)]
      simp [show ¬ eqC (s.2.2.2.2.2.2.2.2.2.2.2.2.2.2.2.2.2.2.2.2.2.2.2.2.2.2.2.2.2.1 i) (s.2.2.2.2.2.2.2.2.2.2.2.2.2.2.2.2.2.2.2.2.2.2.2.2.2.2.2.2.2.2.1 i) (klen k) (kby k) = 0 from fun x => hq.mp x q]
    · rw [if_neg (fun x => q ((lg_cmp_eq _ _).mp x))]
      simp [hq.mpr q]
theorem isWord5 (k : Nat) (w : Int64) : MX7_isWord k 5 w = some false := by
  unfold MX7_isWord
  rw [if_neg (by decide)]
theorem M_takes {z e : Nat} {s : ZS} {spot sort place number : Int32} {word : Int64} (h : TR z e s spot sort place number word) (tx : AI) (k : Nat) : MZ_takes tx (nI z) s k = if isK s k = true then (MZ_step tx (nI z) s).bind fun r => some (true, r) else some (false, s) := by
  unfold MZ_takes isK
  rcases h.cases with ⟨a, b⟩ | ⟨a, b, -, -, -, i, hi, hn, hg, -⟩
  · rw [if_neg a]
    split
    · simp [a]
    · simp
  · rw [if_pos a, hi, Option.bind_some, gn_of hn, gn_of hn, gn_of (by have := hg.2.1; omega)]
    by_cases q : eqC (s.2.2.2.2.2.2.2.2.2.2.2.2.2.2.2.2.2.2.2.2.2.2.2.2.2.2.2.2.2.1 i) (s.2.2.2.2.2.2.2.2.2.2.2.2.2.2.2.2.2.2.2.2.2.2.2.2.2.2.2.2.2.2.1 i) (klen k) (kby k) = 0
    · rw [if_pos q]; simp [a, q]
    · rw [if_neg q]; simp [a, q]
theorem goesOn5 (size spot place number : Int32) (word : Int64) (tx : AI) : MX7_goesOn size spot 5 place number word tx = some (spot, 5, place, number, word) := rfl
theorem flaw5 (k place f w : Int32) : MX7_flaw k 5 place f w = some (5, f, w) := rfl
theorem flawN {sort : Int32} (h : ¬ sort = 5) (k place f w : Int32) : MX7_flaw k sort place f w = some (5, k, place) := by unfold MX7_flaw; rw [if_neg h]
def isNm (s : ZS) : Bool := decide (s.2.1 = 2) && (!isK s 1 && (!isK s 2 && (!isK s 3 && (!isK s 4 && (!isK s 5 && (!isK s 6 && !isK s 9))))))
theorem M_isName {z e : Nat} {s : ZS} {spot sort place number : Int32} {word : Int64} (h : TR z e s spot sort place number word) : MX7_isName sort word = some (isNm s) := by
  unfold MX7_isName isNm
  rcases h.cases with ⟨a, b⟩ | ⟨a, b, -⟩
  · rw [if_neg b]; simp [a]
  · rw [if_pos b, M_isWord h (by decide) (by decide), M_isWord h (k := 2) (by decide) (by decide), M_isWord h (k := 3) (by decide) (by decide), M_isWord h (k := 4) (by decide) (by decide), M_isWord h (k := 5) (by decide) (by decide), M_isWord h (k := 6) (by decide) (by decide), M_isWord h (k := 9) (by decide) (by decide)]
    simp only [Option.bind_some, a, decide_true, Bool.true_and]
    cases isK s 1 <;> cases isK s 2 <;> cases isK s 3 <;> cases isK s 4 <;> cases isK s 5 <;> cases isK s 6 <;> cases isK s 9 <;> rfl
theorem isName5 (w : Int64) : MX7_isName 5 w = some false := by
  unfold MX7_isName
  rw [if_neg (by decide)]
theorem isK_hash {s : ZS} {k i : Nat} (hi : s.2.2.2.2.1 = some i) (h : isK s k = true) : hashG (s.2.2.2.2.2.2.2.2.2.2.2.2.2.2.2.2.2.2.2.2.2.2.2.2.2.2.2.2.2.1 i) (s.2.2.2.2.2.2.2.2.2.2.2.2.2.2.2.2.2.2.2.2.2.2.2.2.2.2.2.2.2.2.1 i) = hashG (klen k) (kby k) := by
  unfold isK at h
  rw [hi] at h
  simp only [Bool.and_eq_true, Bool.not_eq_true', decide_eq_false_iff_not] at h
  exact eqC_hash h.2
theorem isK_eq {s : ZS} {k i : Nat} (hi : s.2.2.2.2.1 = some i) (ht : s.2.1 = 2) : isK s k = !decide (eqC (s.2.2.2.2.2.2.2.2.2.2.2.2.2.2.2.2.2.2.2.2.2.2.2.2.2.2.2.2.2.1 i) (s.2.2.2.2.2.2.2.2.2.2.2.2.2.2.2.2.2.2.2.2.2.2.2.2.2.2.2.2.2.2.1 i) (klen k) (kby k) = 0) := by
  unfold isK
  rw [hi]
  simp [ht]
theorem kw_hash : hashG (klen 2) (kby 2) = -991716523 ∧ hashG (klen 9) (kby 9) = 98262 ∧ hashG (klen 1) (kby 1) = 3053931 ∧ hashG (klen 3) (kby 3) = 3377192 ∧ hashG (klen 6) (kby 6) = 3645716 ∧ hashG (klen 4) (kby 4) = 93113560 ∧ hashG (klen 5) (kby 5) = 99151926 := by decide +kernel
set_option maxHeartbeats 4000000 in
theorem M_mustName {z e : Nat} {s : ZS} {spot sort place number : Int32} {word : Int64} (h : TR z e s spot sort place number word) (tx : AI) : MZ_mustName tx (nI z) s = some (if isNm s = true then .inr s else .inl ((1 : Int32), s.2.2.1)) := by
  unfold MZ_mustName
  rcases h.cases with ⟨a, b⟩ | ⟨a, b, -, -, -, i, hi, hn, hg, -⟩
  · rw [if_neg a, if_neg (by unfold isNm; simp [a])]
  · obtain ⟨k2, k9, k1, k3, k6, k4, k5⟩ := kw_hash
    have h9 : s.2.2.2.2.2.2.2.2.2.2.2.2.2.2.2.2.2.2.2.2.2.2.2.2.2.2.2.2.2.1 i < 9 := by have := hg.2.1; omega
    rw [if_pos a, hi, Option.bind_some, gn_of hn, gn_of hn, gn_of h9]
    have no : ∀ (k : Nat) (v c : Int32), hashG (klen k) (kby k) = v → hashG (s.2.2.2.2.2.2.2.2.2.2.2.2.2.2.2.2.2.2.2.2.2.2.2.2.2.2.2.2.2.1 i) (s.2.2.2.2.2.2.2.2.2.2.2.2.2.2.2.2.2.2.2.2.2.2.2.2.2.2.2.2.2.2.1 i) = c → ¬ c = v → isK s k = false := by
      intro k v c h1 h2 h3
      cases q : isK s k with
      | false => rfl
      | true => exact absurd ((h2.symm.trans (isK_hash hi q)).trans h1) h3
    have ge : ∀ k, isK s k = !decide (eqC (s.2.2.2.2.2.2.2.2.2.2.2.2.2.2.2.2.2.2.2.2.2.2.2.2.2.2.2.2.2.1 i) (s.2.2.2.2.2.2.2.2.2.2.2.2.2.2.2.2.2.2.2.2.2.2.2.2.2.2.2.2.2.2.1 i) (klen k) (kby k) = 0) := fun k => isK_eq hi a
    have fin : isNm s = (!isK s 1 && (!isK s 2 && (!isK s 3 && (!isK s 4 && (!isK s 5 && (!isK s 6 && !isK s 9)))))) := by unfold isNm; simp [a]
    have no2 : ∀ (k : Nat) (v : Int32), hashG (klen k) (kby k) = v → ¬ hashG (s.2.2.2.2.2.2.2.2.2.2.2.2.2.2.2.2.2.2.2.2.2.2.2.2.2.2.2.2.2.1 i) (s.2.2.2.2.2.2.2.2.2.2.2.2.2.2.2.2.2.2.2.2.2.2.2.2.2.2.2.2.2.2.1 i) = v → isK s k = false := by
      intro k v h1 h2
      cases q : isK s k with
      | false => rfl
      | true => exact absurd ((isK_hash hi q).trans h1) h2
    by_cases c2 : hashG (s.2.2.2.2.2.2.2.2.2.2.2.2.2.2.2.2.2.2.2.2.2.2.2.2.2.2.2.2.2.1 i) (s.2.2.2.2.2.2.2.2.2.2.2.2.2.2.2.2.2.2.2.2.2.2.2.2.2.2.2.2.2.2.1 i) = (-991716523 : Int32)
    · rw [if_pos c2, gn_of hn, gn_of h9, fin, no 9 _ _ k9 c2 (by decide), no 1 _ _ k1 c2 (by decide), no 3 _ _ k3 c2 (by decide), no 6 _ _ k6 c2 (by decide), no 4 _ _ k4 c2 (by decide), no 5 _ _ k5 c2 (by decide)]
      by_cases q : eqC (s.2.2.2.2.2.2.2.2.2.2.2.2.2.2.2.2.2.2.2.2.2.2.2.2.2.2.2.2.2.1 i) (s.2.2.2.2.2.2.2.2.2.2.2.2.2.2.2.2.2.2.2.2.2.2.2.2.2.2.2.2.2.2.1 i) (klen 2) (kby 2) = 0
      · rw [if_pos q, ge 2]; simp [q]
      · rw [if_neg q, ge 2]; simp [q]
    rw [if_neg c2]
    by_cases c9 : hashG (s.2.2.2.2.2.2.2.2.2.2.2.2.2.2.2.2.2.2.2.2.2.2.2.2.2.2.2.2.2.1 i) (s.2.2.2.2.2.2.2.2.2.2.2.2.2.2.2.2.2.2.2.2.2.2.2.2.2.2.2.2.2.2.1 i) = (98262 : Int32)
    · rw [if_pos c9, gn_of hn, gn_of h9, fin, no 2 _ _ k2 c9 (by decide), no 1 _ _ k1 c9 (by decide), no 3 _ _ k3 c9 (by decide), no 6 _ _ k6 c9 (by decide), no 4 _ _ k4 c9 (by decide), no 5 _ _ k5 c9 (by decide)]
      by_cases q : eqC (s.2.2.2.2.2.2.2.2.2.2.2.2.2.2.2.2.2.2.2.2.2.2.2.2.2.2.2.2.2.1 i) (s.2.2.2.2.2.2.2.2.2.2.2.2.2.2.2.2.2.2.2.2.2.2.2.2.2.2.2.2.2.2.1 i) (klen 9) (kby 9) = 0
      · rw [if_pos q, ge 9]; simp [q]
      · rw [if_neg q, ge 9]; simp [q]
    rw [if_neg c9]
    by_cases c1 : hashG (s.2.2.2.2.2.2.2.2.2.2.2.2.2.2.2.2.2.2.2.2.2.2.2.2.2.2.2.2.2.1 i) (s.2.2.2.2.2.2.2.2.2.2.2.2.2.2.2.2.2.2.2.2.2.2.2.2.2.2.2.2.2.2.1 i) = (3053931 : Int32)
    · rw [if_pos c1, gn_of hn, gn_of h9, fin, no 2 _ _ k2 c1 (by decide), no 9 _ _ k9 c1 (by decide), no 3 _ _ k3 c1 (by decide), no 6 _ _ k6 c1 (by decide), no 4 _ _ k4 c1 (by decide), no 5 _ _ k5 c1 (by decide)]
      by_cases q : eqC (s.2.2.2.2.2.2.2.2.2.2.2.2.2.2.2.2.2.2.2.2.2.2.2.2.2.2.2.2.2.1 i) (s.2.2.2.2.2.2.2.2.2.2.2.2.2.2.2.2.2.2.2.2.2.2.2.2.2.2.2.2.2.2.1 i) (klen 1) (kby 1) = 0
      · rw [if_pos q, ge 1]; simp [q]
      · rw [if_neg q, ge 1]; simp [q]
    rw [if_neg c1]
    by_cases c3 : hashG (s.2.2.2.2.2.2.2.2.2.2.2.2.2.2.2.2.2.2.2.2.2.2.2.2.2.2.2.2.2.1 i) (s.2.2.2.2.2.2.2.2.2.2.2.2.2.2.2.2.2.2.2.2.2.2.2.2.2.2.2.2.2.2.1 i) = (3377192 : Int32)
    · rw [if_pos c3, gn_of hn, gn_of h9, fin, no 2 _ _ k2 c3 (by decide), no 9 _ _ k9 c3 (by decide), no 1 _ _ k1 c3 (by decide), no 6 _ _ k6 c3 (by decide), no 4 _ _ k4 c3 (by decide), no 5 _ _ k5 c3 (by decide)]
      by_cases q : eqC (s.2.2.2.2.2.2.2.2.2.2.2.2.2.2.2.2.2.2.2.2.2.2.2.2.2.2.2.2.2.1 i) (s.2.2.2.2.2.2.2.2.2.2.2.2.2.2.2.2.2.2.2.2.2.2.2.2.2.2.2.2.2.2.1 i) (klen 3) (kby 3) = 0
      · rw [if_pos q, ge 3]; simp [q]
      · rw [if_neg q, ge 3]; simp [q]
    rw [if_neg c3]
    by_cases c6 : hashG (s.2.2.2.2.2.2.2.2.2.2.2.2.2.2.2.2.2.2.2.2.2.2.2.2.2.2.2.2.2.1 i) (s.2.2.2.2.2.2.2.2.2.2.2.2.2.2.2.2.2.2.2.2.2.2.2.2.2.2.2.2.2.2.1 i) = (3645716 : Int32)
    · rw [if_pos c6, gn_of hn, gn_of h9, fin, no 2 _ _ k2 c6 (by decide), no 9 _ _ k9 c6 (by decide), no 1 _ _ k1 c6 (by decide), no 3 _ _ k3 c6 (by decide), no 4 _ _ k4 c6 (by decide), no 5 _ _ k5 c6 (by decide)]
      by_cases q : eqC (s.2.2.2.2.2.2.2.2.2.2.2.2.2.2.2.2.2.2.2.2.2.2.2.2.2.2.2.2.2.1 i) (s.2.2.2.2.2.2.2.2.2.2.2.2.2.2.2.2.2.2.2.2.2.2.2.2.2.2.2.2.2.2.1 i) (klen 6) (kby 6) = 0
      · rw [if_pos q, ge 6]; simp [q]
      · rw [if_neg q, ge 6]; simp [q]
    rw [if_neg c6]
    by_cases c4 : hashG (s.2.2.2.2.2.2.2.2.2.2.2.2.2.2.2.2.2.2.2.2.2.2.2.2.2.2.2.2.2.1 i) (s.2.2.2.2.2.2.2.2.2.2.2.2.2.2.2.2.2.2.2.2.2.2.2.2.2.2.2.2.2.2.1 i) = (93113560 : Int32)
    · rw [if_pos c4, gn_of hn, gn_of h9, fin, no 2 _ _ k2 c4 (by decide), no 9 _ _ k9 c4 (by decide), no 1 _ _ k1 c4 (by decide), no 3 _ _ k3 c4 (by decide), no 6 _ _ k6 c4 (by decide), no 5 _ _ k5 c4 (by decide)]
      by_cases q : eqC (s.2.2.2.2.2.2.2.2.2.2.2.2.2.2.2.2.2.2.2.2.2.2.2.2.2.2.2.2.2.1 i) (s.2.2.2.2.2.2.2.2.2.2.2.2.2.2.2.2.2.2.2.2.2.2.2.2.2.2.2.2.2.2.1 i) (klen 4) (kby 4) = 0
      · rw [if_pos q, ge 4]; simp [q]
      · rw [if_neg q, ge 4]; simp [q]
    rw [if_neg c4]
    by_cases c5 : hashG (s.2.2.2.2.2.2.2.2.2.2.2.2.2.2.2.2.2.2.2.2.2.2.2.2.2.2.2.2.2.1 i) (s.2.2.2.2.2.2.2.2.2.2.2.2.2.2.2.2.2.2.2.2.2.2.2.2.2.2.2.2.2.2.1 i) = (99151926 : Int32)
    · rw [if_pos c5, gn_of hn, gn_of h9, fin, no 2 _ _ k2 c5 (by decide), no 9 _ _ k9 c5 (by decide), no 1 _ _ k1 c5 (by decide), no 3 _ _ k3 c5 (by decide), no 6 _ _ k6 c5 (by decide), no 4 _ _ k4 c5 (by decide)]
      by_cases q : eqC (s.2.2.2.2.2.2.2.2.2.2.2.2.2.2.2.2.2.2.2.2.2.2.2.2.2.2.2.2.2.1 i) (s.2.2.2.2.2.2.2.2.2.2.2.2.2.2.2.2.2.2.2.2.2.2.2.2.2.2.2.2.2.2.1 i) (klen 5) (kby 5) = 0
      · rw [if_pos q, ge 5]; simp [q]
      · rw [if_neg q, ge 5]; simp [q]
    rw [if_neg c5]
    rw [fin, no2 2 _ k2 c2, no2 9 _ k9 c9, no2 1 _ k1 c1, no2 3 _ k3 c3, no2 6 _ k6 c6, no2 4 _ k4 c4, no2 5 _ k5 c5]
    rfl
/-! finding a name -/
def nmR (n : Nat) (s : ZS) (name : AL) : Prop := ∀ k, k < n → s.2.2.2.2.2.2.2.2.2.2.2.2.2.2.2.2.2.2.2.2.2.1 k < s.2.2.2.2.2.2.2.2.2.2.2.2.2.2.2.2.2.2.2.2.2.2.2.2.2.2.2.2.1 ∧ goodW (s.2.2.2.2.2.2.2.2.2.2.2.2.2.2.2.2.2.2.2.2.2.2.2.2.2.2.2.2.2.1 (s.2.2.2.2.2.2.2.2.2.2.2.2.2.2.2.2.2.2.2.2.2.1 k)) (s.2.2.2.2.2.2.2.2.2.2.2.2.2.2.2.2.2.2.2.2.2.2.2.2.2.2.2.2.2.2.1 (s.2.2.2.2.2.2.2.2.2.2.2.2.2.2.2.2.2.2.2.2.2.1 k)) ∧ name k = pkW (s.2.2.2.2.2.2.2.2.2.2.2.2.2.2.2.2.2.2.2.2.2.2.2.2.2.2.2.2.2.2.1 (s.2.2.2.2.2.2.2.2.2.2.2.2.2.2.2.2.2.2.2.2.2.1 k)) (s.2.2.2.2.2.2.2.2.2.2.2.2.2.2.2.2.2.2.2.2.2.2.2.2.2.2.2.2.2.1 (s.2.2.2.2.2.2.2.2.2.2.2.2.2.2.2.2.2.2.2.2.2.1 k))
def fdV (o : Option Nat) : Int32 := match o with | none => -1 | some k => nI k
def fdO : Int32 ⊕ Unit → Int32
  | .inl k => k
  | .inr _ => -1
theorem L_find7 {n : Nat} (hn : n ≤ 6) {s : ZS} {name : AL} (hr : nmR n s name) {w : Nat} (hw : goodW (s.2.2.2.2.2.2.2.2.2.2.2.2.2.2.2.2.2.2.2.2.2.2.2.2.2.2.2.2.2.1 w) (s.2.2.2.2.2.2.2.2.2.2.2.2.2.2.2.2.2.2.2.2.2.2.2.2.2.2.2.2.2.2.1 w)) : ∀ r k K, k + r = n → r < K → ∃ x, loopN K (fun s_ => BX14_find_2 (pkW (s.2.2.2.2.2.2.2.2.2.2.2.2.2.2.2.2.2.2.2.2.2.2.2.2.2.2.2.2.2.2.1 w) (s.2.2.2.2.2.2.2.2.2.2.2.2.2.2.2.2.2.2.2.2.2.2.2.2.2.2.2.2.2.1 w)) (nI n) name s_) (nI k) = some x ∧ fdO x = fdV (findF s w r k) ∧ ∀ j, findF s w r k = some j → j < n := by
  intro r
  induction r with
  | zero =>
    intro k K h hK
    obtain ⟨K, rfl⟩ : ∃ j, K = j + 1 := ⟨K - 1, by omega⟩
    obtain rfl : k = n := by omega
    have e : BX14_find_2 (pkW (s.2.2.2.2.2.2.2.2.2.2.2.2.2.2.2.2.2.2.2.2.2.2.2.2.2.2.2.2.2.2.1 w) (s.2.2.2.2.2.2.2.2.2.2.2.2.2.2.2.2.2.2.2.2.2.2.2.2.2.2.2.2.2.1 w)) (nI k) name (nI k) = some (.inr (.inr ())) := by
      unfold BX14_find_2
      rw [if_pos (nI_le (Nat.le_refl _) (by omega))]
    exact ⟨.inr (), by rw [loopN, e]; rfl, rfl, fun j hj => by cases hj⟩
  | succ r ih =>
    intro k K h hK
    obtain ⟨K, rfl⟩ : ∃ j, K = j + 1 := ⟨K - 1, by omega⟩
    obtain ⟨h1, h2, h3⟩ := hr k (by omega)
    have hq := eqC_iff h2 hw
    rw [findF]
    by_cases c : eqC (s.2.2.2.2.2.2.2.2.2.2.2.2.2.2.2.2.2.2.2.2.2.2.2.2.2.2.2.2.2.1 (s.2.2.2.2.2.2.2.2.2.2.2.2.2.2.2.2.2.2.2.2.2.1 k)) (s.2.2.2.2.2.2.2.2.2.2.2.2.2.2.2.2.2.2.2.2.2.2.2.2.2.2.2.2.2.2.1 (s.2.2.2.2.2.2.2.2.2.2.2.2.2.2.2.2.2.2.2.2.2.1 k)) (s.2.2.2.2.2.2.2.2.2.2.2.2.2.2.2.2.2.2.2.2.2.2.2.2.2.2.2.2.2.1 w) (s.2.2.2.2.2.2.2.2.2.2.2.2.2.2.2.2.2.2.2.2.2.2.2.2.2.2.2.2.2.2.1 w) = 0
    · rw [if_pos c]
      obtain ⟨x, g1, g2, g3⟩ := ih (k + 1) K (by omega) (by omega)
      have e : BX14_find_2 (pkW (s.2.2.2.2.2.2.2.2.2.2.2.2.2.2.2.2.2.2.2.2.2.2.2.2.2.2.2.2.2.2.1 w) (s.2.2.2.2.2.2.2.2.2.2.2.2.2.2.2.2.2.2.2.2.2.2.2.2.2.2.2.2.2.1 w)) (nI n) name (nI k) = some (.inl (nI (k + 1))) := by
        unfold BX14_find_2
        rw [if_neg (nI_ge (by omega) (by omega)), gi_nI (by omega) (by decide), nIc (by omega), h3, if_neg (fun q => hq.mp c ((lg_cmp_eq _ _).mp q)), nI_1]
      exact ⟨x, by rw [loopN, e]; exact g1, g2, g3⟩
    · rw [if_neg c]
      have e : BX14_find_2 (pkW (s.2.2.2.2.2.2.2.2.2.2.2.2.2.2.2.2.2.2.2.2.2.2.2.2.2.2.2.2.2.2.1 w) (s.2.2.2.2.2.2.2.2.2.2.2.2.2.2.2.2.2.2.2.2.2.2.2.2.2.2.2.2.2.1 w)) (nI n) name (nI k) = some (.inr (.inl (nI k))) := by
        unfold BX14_find_2
        rw [if_neg (nI_ge (by omega) (by omega)), gi_nI (by omega) (by decide), nIc (by omega), h3, if_pos ((lg_cmp_eq _ _).mpr (Decidable.byContradiction fun q => c (hq.mpr q)))]
      exact ⟨.inl (nI k), by rw [loopN, e]; rfl, rfl, fun j hj => by cases hj; omega⟩
theorem find_any {n : Nat} (hn : n ≤ 6) (name : AL) (w : Int64) : ∃ r, MX14_find w (nI n) name = some r := by
  have loop : ∀ r k K, k + r = n → r < K → ∃ x, loopN K (fun s_ => BX14_find_2 w (nI n) name s_) (nI k) = some x := by
    intro r
    induction r with
    | zero =>
      intro k K h hK
      obtain ⟨K, rfl⟩ : ∃ j, K = j + 1 := ⟨K - 1, by omega⟩
      obtain rfl : k = n := by omega
      have e : BX14_find_2 w (nI k) name (nI k) = some (.inr (.inr ())) := by
        unfold BX14_find_2
        rw [if_pos (nI_le (Nat.le_refl _) (by omega))]
      exact ⟨_, by rw [loopN, e]; rfl⟩
    | succ r ih =>
      intro k K h hK
      obtain ⟨K, rfl⟩ : ∃ j, K = j + 1 := ⟨K - 1, by omega⟩
      obtain ⟨x, hx⟩ := ih (k + 1) K (by omega) (by omega)
      by_cases c : lg_cmp (name k) w = 0
      · have e : BX14_find_2 w (nI n) name (nI k) = some (.inr (.inl (nI k))) := by
          unfold BX14_find_2
          rw [if_neg (nI_ge (by omega) (by omega)), gi_nI (by omega) (by decide), nIc (by omega), if_pos c]
        exact ⟨_, by rw [loopN, e]; rfl⟩
      · have e : BX14_find_2 w (nI n) name (nI k) = some (.inl (nI (k + 1))) := by
          unfold BX14_find_2
          rw [if_neg (nI_ge (by omega) (by omega)), gi_nI (by omega) (by decide), nIc (by omega), if_neg c, nI_1]
        exact ⟨x, by rw [loopN, e]; exact hx⟩
  obtain ⟨x, hx⟩ := loop n 0 FU (by omega) (by unfold FU; omega)
  unfold MX14_find
  rw [show (0 : Int32) = nI 0 from rfl, hx, Option.bind_some]
  cases x with
  | inl a => exact ⟨_, rfl⟩
  | inr a => exact ⟨_, rfl⟩
theorem M_find {z n e : Nat} (hn : n ≤ 6) (tx : AI) {s : ZS} {name : AL} (hr : nmR n s name) (hpk : ∀ k, k < n → s.2.2.2.2.2.2.2.2.2.2.2.2.2.2.2.2.2.2.2.2.1 k < 4) (hp : s.2.2.2.2.2.2.2.2.2.1 = nI n) (hc : s.2.2.2.2.2.2.2.2.2.2.2.2.2.2.2.2.2.2.2.2.2.2.2.2.2.2.2.2.2.2.2 = n) (hnp : s.2.2.2.2.2.2.2.2.2.2.2.2.2.2.2.2.2.2.2.1 = n) {spot sort place number : Int32} {word : Int64} (h : TR z e s spot sort place number word) (ht : s.2.1 = 2) :
    ∃ i o, s.2.2.2.2.1 = some i ∧ i < s.2.2.2.2.2.2.2.2.2.2.2.2.2.2.2.2.2.2.2.2.2.2.2.2.2.2.2.2.1 ∧ MZ_find tx (nI z) s i = some (o, s) ∧ MX14_find word (nI n) name = some (fdV o) ∧ (∀ k, o = some k → k < n) ∧ goodW (s.2.2.2.2.2.2.2.2.2.2.2.2.2.2.2.2.2.2.2.2.2.2.2.2.2.2.2.2.2.1 i) (s.2.2.2.2.2.2.2.2.2.2.2.2.2.2.2.2.2.2.2.2.2.2.2.2.2.2.2.2.2.2.1 i) ∧ word = pkW (s.2.2.2.2.2.2.2.2.2.2.2.2.2.2.2.2.2.2.2.2.2.2.2.2.2.2.2.2.2.2.1 i) (s.2.2.2.2.2.2.2.2.2.2.2.2.2.2.2.2.2.2.2.2.2.2.2.2.2.2.2.2.2.1 i) := by
  rcases h.cases with ⟨a, -⟩ | ⟨-, -, -, -, -, i, hi, hs, hg, hw⟩
  · exact absurd ht a
  obtain ⟨x, h1, h2, h3⟩ := L_find7 hn hr hg n 0 FU (by omega) (by unfold FU; omega)
  refine ⟨i, findF s i n 0, hi, hs, ?_, ?_, h3, hg, hw⟩
  · unfold MZ_find
    have hall : ∀ k, k < s.2.2.2.2.2.2.2.2.2.2.2.2.2.2.2.2.2.2.2.2.2.2.2.2.2.2.2.2.2.2.2 → s.2.2.2.2.2.2.2.2.2.2.2.2.2.2.2.2.2.2.2.2.2.1 k < s.2.2.2.2.2.2.2.2.2.2.2.2.2.2.2.2.2.2.2.2.2.2.2.2.2.2.2.2.1 ∧ s.2.2.2.2.2.2.2.2.2.2.2.2.2.2.2.2.2.2.2.2.2.2.2.2.2.2.2.2.2.1 (s.2.2.2.2.2.2.2.2.2.2.2.2.2.2.2.2.2.2.2.2.2.1 k) < 9 ∧ s.2.2.2.2.2.2.2.2.2.2.2.2.2.2.2.2.2.2.2.2.1 k < 4 := by
      intro k hk
      rw [hc] at hk
      obtain ⟨a, b, -⟩ := hr k hk
      exact ⟨a, by have := b.2.1; omega, hpk k hk⟩
    rw [gall_of ⟨by rw [hc]; exact hp, by omega, by omega, hs, by have := hg.2.1; omega, hall⟩, hc]
  · unfold MX14_find
    rw [hw, show (0 : Int32) = nI 0 from rfl, h1, Option.bind_some]
    cases x with
    | inl a => exact congrArg some h2
    | inr a => exact congrArg some h2
