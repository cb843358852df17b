set_option maxRecDepth 100000
/-! the model's hours: houses come by, and where one is -/
/-- finite sets of houses are numbers -/
theorem bits_of (K : Nat → Prop) : ∀ n, n ≤ 6 → ∃ k, k < 2 ^ n ∧ ∀ x, bitsP k x ↔ (x < n ∧ K x) := by
  intro n
  induction n with
  | zero => intro _; exact ⟨0, by decide, fun x => ⟨fun h => (by unfold bitsP at h; rw [Nat.zero_testBit] at h; cases h), fun h => absurd h.1 (Nat.not_lt_zero x)⟩⟩
  | succ n ih =>
    intro hn
    obtain ⟨k, h1, h2⟩ := ih (by omega)
    by_cases c : K n
    · refine ⟨2 ^ n + k, by rw [Nat.pow_succ]; omega, fun x => ?_⟩
      unfold bitsP at h2 ⊢
      by_cases e : x = n
      · subst e
        rw [Nat.testBit_two_pow_add_eq, Nat.testBit_lt_two_pow h1]
        simp [c]
      · by_cases e2 : x < n
        · rw [Nat.testBit_two_pow_add_gt e2]
          rw [h2 x]
          exact ⟨fun h => ⟨by omega, h.2⟩, fun h => ⟨e2, h.2⟩⟩
        · constructor
          · intro h
            have : (2 ^ n + k).testBit x = false := Nat.testBit_lt_two_pow (Nat.lt_of_lt_of_le (show 2 ^ n + k < 2 ^ (n + 1) by rw [Nat.pow_succ]; omega) (Nat.pow_le_pow_right (by decide) (by omega)))
            rw [this] at h; cases h
          · rintro ⟨h, -⟩; omega
    · refine ⟨k, by rw [Nat.pow_succ]; omega, fun x => ?_⟩
      rw [h2 x]
      constructor
      · rintro ⟨a, b⟩; exact ⟨by omega, b⟩
      · rintro ⟨a, b⟩
        refine ⟨?_, b⟩
        by_cases e : x = n
        · subst e; exact absurd b c
        · omega
theorem bits_inj {a b : Nat} (ha : a < 64) (hb : b < 64) (h : ∀ x, bitsP a x ↔ bitsP b x) : a = b := by
  apply Nat.eq_of_testBit_eq
  intro i
  have := h i
  unfold bitsP at this
  cases ha : a.testBit i <;> cases hb : b.testBit i <;> simp [ha, hb] at this ⊢
theorem Ek_fin {N : Nat → Nat → Prop} {n p : Nat} (hp : p < n) (hN : ∀ a b, N a b → b < n) : ∀ (k : Nat) (K : Nat → Prop) (r : Nat), Ek N p k K r → ∀ x, K x → x < n := by
  intro k
  induction k with
  | zero => intro K r h x hx; rw [(h.2 x).mp hx]; exact hp
  | succ k ih =>
    intro K r ⟨r', K', h1, h2, h3⟩ x hx
    rcases (h3 x).mp hx with q | q
    · exact ih K' r' h2 x q
    · rw [q]; exact hN _ _ h1
theorem Ek_congr {N : Nat → Nat → Prop} {p : Nat} {k : Nat} {K K' : Nat → Prop} {r : Nat} (h : ∀ x, K x ↔ K' x) (e : Ek N p k K r) : Ek N p k K' r := by
  cases k with
  | zero => exact ⟨e.1, fun x => (h x).symm.trans (e.2 x)⟩
  | succ k =>
    obtain ⟨r', L, h1, h2, h3⟩ := e
    exact ⟨r', L, h1, h2, fun x => (h x).symm.trans (h3 x)⟩
def orB (k r : Nat) : Nat := k ||| 2 ^ r
theorem orB_all : ∀ k, k < 64 → ∀ r, r < 6 → (nI k ||| ((1 : Int32) <<< (nI r &&& 31))) = nI (orB k r) ∧ orB k r < 64 := by decide +kernel
theorem orB_P {k r : Nat} : ∀ x, bitsP (orB k r) x ↔ (bitsP k x ∨ x = r) := by
  intro x
  unfold bitsP orB
  rw [Nat.testBit_or, Nat.testBit_two_pow, Bool.or_eq_true, decide_eq_true_iff]
  constructor
  · rintro (h | h)
    · exact Or.inl h
    · exact Or.inr h.symm
  · rintro (h | h)
    · exact Or.inl h
    · exact Or.inr h.symm
theorem L_clear {f : Int32 × AI → Option ((Int32 × AI) ⊕ AI)} (hs : ∀ i a, i < 64 → f (nI i, a) = some (.inl (nI (i + 1), upd a i 0))) (he : ∀ a, f (nI 64, a) = some (.inr a)) (a0 : AI) : ∃ a', loopN FU f ((0 : Int32), a0) = some a' ∧ ∀ j, j < 64 → a' j = 0 := by
  obtain ⟨a', e, h1, -⟩ := loop_copy (f := f) 64 0 (fun _ => 0) (by decide) a0 (fun i a hi => by rw [Nat.zero_add]; exact hs i a hi) he
  exact ⟨a', e, fun j hj => by have := h1 j hj; rwa [Nat.zero_add] at this⟩
theorem L_copy64 {f : Int32 × AI → Option ((Int32 × AI) ⊕ AI)} (b : AI) (hs : ∀ i a, i < 64 → f (nI i, a) = some (.inl (nI (i + 1), upd a i (b i)))) (he : ∀ a, f (nI 64, a) = some (.inr a)) (a0 : AI) : ∃ a', loopN FU f ((0 : Int32), a0) = some a' ∧ ∀ j, j < 64 → a' j = b j := by
  obtain ⟨a', e, h1, -⟩ := loop_copy (f := f) 64 0 b (by decide) a0 (fun i a hi => by rw [Nat.zero_add]; exact hs i a hi) he
  exact ⟨a', e, fun j hj => by have := h1 j hj; rwa [Nat.zero_add] at this⟩
theorem le64 {i : Nat} (h : i < 64) : ¬ (64 : Int32) ≤ nI i := nI_ge (b := 64) h (by decide)
/-- from one house with k come by: all that are near -/
theorem M_spreads7 {n k q : Nat} (hn : n ≤ 6) (hk : k < 64) (hq : q < n) (near cT : AI) : ∃ cT', MX7_spreads (nI k) (nI q) (nI n) near cT = some cT' ∧ ∀ K, K < 64 → ∀ x, x < 32 → (hasB (cT' K) (nI x) = true ↔ hasB (cT K) (nI x) = true ∨ (x < n ∧ hasB (near q) (nI x) = true ∧ K = orB k x)) := by
  obtain ⟨r, e, h⟩ := loop_FU (f := fun s_ : Int32 × AI => BX7_spreads_2 (nI k) (nI q) (nI n) near s_.1 s_.2) (fun i s => s.1 = nI i ∧ ∀ K, K < 64 → ∀ x, x < 32 → (hasB (s.2 K) (nI x) = true ↔ hasB (cT K) (nI x) = true ∨ (x < i ∧ hasB (near q) (nI x) = true ∧ K = orB k x))) (fun r => ∀ K, K < 64 → ∀ x, x < 32 → (hasB (r K) (nI x) = true ↔ hasB (cT K) (nI x) = true ∨ (x < n ∧ hasB (near q) (nI x) = true ∧ K = orB k x))) n (by omega) ((0 : Int32), cT) ⟨rfl, fun K _ x _ => ⟨fun h => Or.inl h, by rintro (h | ⟨h, -⟩); exact h; omega⟩⟩
    (by
      intro i s hi hs
      obtain ⟨z, f⟩ := s
      obtain ⟨z1, z2⟩ := hs
      dsimp only at z1 z2
      subst z1
      refine Or.inl ?_
      obtain ⟨o1, o2⟩ := orB_all k hk i (by omega)
      show ∃ s', BX7_spreads_2 (nI k) (nI q) (nI n) near (nI i) f = some (.inl s') ∧ _
      unfold BX7_spreads_2 MX7_near
      simp only [lt_]
      rw [if_neg (nI_ge hi (by omega)), nI_1, gi_nI (by omega) (by decide), Option.bind_some, nIc (by omega), M_bit, Option.bind_some, o1]
      cases c : hasB (near q) (nI i)
      · rw [iff_]
        refine ⟨_, rfl, rfl, fun K hK x hx => ?_⟩
        rw [z2 K hK x hx]
        constructor
        · rintro (h | ⟨h1, h2⟩)
          · exact Or.inl h
          · exact Or.inr ⟨by omega, h2⟩
        · rintro (h | ⟨h1, h2, h3⟩)
          · exact Or.inl h
          · by_cases e : x = i
            · subst e; rw [c] at h2; cases h2
            · exact Or.inr ⟨by omega, h2, h3⟩
      · rw [ift, gi_nI o2 (by decide), gi_nI o2 (by decide), nIc (by omega)]
        refine ⟨_, rfl, rfl, fun K hK x hx => ?_⟩
        show hasB (upd f _ _ K) (nI x) = true ↔ _
        by_cases eK : K = orB k i
        · rw [eK, pk_us, hasB_or_one (by omega) hx, Bool.or_eq_true, decide_eq_true_iff, z2 _ o2 x hx]
          constructor
          · rintro ((h | ⟨h1, h2, h3⟩) | h)
            · exact Or.inl h
            · exact Or.inr ⟨by omega, h2, h3⟩
            · rw [h]; exact Or.inr ⟨by omega, c, rfl⟩
          · rintro (h | ⟨h1, h2, h3⟩)
            · exact Or.inl (Or.inl h)
            · by_cases e : x = i
              · exact Or.inr e
              · exact Or.inl (Or.inr ⟨by omega, h2, h3⟩)
        · rw [pk_un eK, z2 K hK x hx]
          constructor
          · rintro (h | ⟨h1, h2⟩)
            · exact Or.inl h
            · exact Or.inr ⟨by omega, h2⟩
          · rintro (h | ⟨h1, h2, h3⟩)
            · exact Or.inl h
            · by_cases e : x = i
              · rw [e] at h3; exact absurd h3 eK
              · exact Or.inr ⟨by omega, h2, h3⟩)
    (by
      intro s hs
      obtain ⟨z, f⟩ := s
      obtain ⟨z1, z2⟩ := hs
      dsimp only at z1 z2
      subst z1
      exact ⟨f, by show BX7_spreads_2 (nI k) (nI q) (nI n) near (nI n) f = _; unfold BX7_spreads_2; rw [if_pos (nI_le (Nat.le_refl n) (by omega))], z2⟩)
  exact ⟨r, by unfold MX7_spreads; rw [e, Option.bind_some], h⟩
/-- where one may be in exactly h hours, by the houses come by -/
def comeP (n p : Nat) (near : AI) (h : Nat) (come : AI) : Prop := ∀ K, K < 64 → ∀ x, x < 32 → (hasB (come K) (nI x) = true ↔ Ek (nearP n near) p h (bitsP K) x)
theorem L_hour7 {n p h : Nat} (hn : n ≤ 6) (hp : p < n) (near come cT : AI) (hc : comeP n p near h come) (h0 : ∀ K, K < 64 → cT K = 0) (z : Int32) : ∃ cT', loopN FU (fun s_ : Int32 × AI => BX7_hoursBy_109 (nI n) near z come s_.1 s_.2) ((0 : Int32), cT) = some cT' ∧ comeP n p near (h + 1) cT' := by
  have h64 := pow_le hn
  obtain ⟨r, e, hr⟩ := loop_FU (f := fun s_ : Int32 × AI => BX7_hoursBy_109 (nI n) near z come s_.1 s_.2) (fun i s => s.1 = nI i ∧ ∀ K, K < 64 → ∀ x, x < 32 → (hasB (s.2 K) (nI x) = true ↔ ∃ k q, k < i ∧ q < n ∧ hasB (come k) (nI q) = true ∧ x < n ∧ hasB (near q) (nI x) = true ∧ K = orB k x)) (fun r => ∀ K, K < 64 → ∀ x, x < 32 → (hasB (r K) (nI x) = true ↔ ∃ k q, k < 64 ∧ q < n ∧ hasB (come k) (nI q) = true ∧ x < n ∧ hasB (near q) (nI x) = true ∧ K = orB k x)) 64 (by decide) ((0 : Int32), cT)
    ⟨rfl, fun K hK x hx => by show hasB (cT K) (nI x) = true ↔ _; rw [h0 K hK, hasB_0 hx]; exact ⟨fun h => (by cases h), fun ⟨k, q, a, _⟩ => absurd a (Nat.not_lt_zero k)⟩⟩
    (by
      intro k s hk hs
      obtain ⟨z', f⟩ := s
      obtain ⟨z1, z2⟩ := hs
      dsimp only at z1 z2
      subst z1
      refine Or.inl ?_
      show ∃ s', BX7_hoursBy_109 (nI n) near z come (nI k) f = some (.inl s') ∧ _
      unfold BX7_hoursBy_109
      rw [if_neg (le64 hk), nI_1]
      obtain ⟨r2, e2, hr2⟩ := loop_FU (f := fun s_ : Int32 × AI => BX7_hoursBy_119 (nI n) near z (nI k) come s_.1 s_.2) (fun i s => s.1 = nI i ∧ ∀ K, K < 64 → ∀ x, x < 32 → (hasB (s.2 K) (nI x) = true ↔ hasB (f K) (nI x) = true ∨ ∃ q, q < i ∧ hasB (come k) (nI q) = true ∧ x < n ∧ hasB (near q) (nI x) = true ∧ K = orB k x)) (fun r => ∀ K, K < 64 → ∀ x, x < 32 → (hasB (r K) (nI x) = true ↔ hasB (f K) (nI x) = true ∨ ∃ q, q < n ∧ hasB (come k) (nI q) = true ∧ x < n ∧ hasB (near q) (nI x) = true ∧ K = orB k x)) n (by omega) ((0 : Int32), f)
        ⟨rfl, fun K hK x hx => ⟨fun h => Or.inl h, by rintro (h | ⟨q, h, -⟩); exact h; omega⟩⟩
        (by
          intro q s hq hs
          obtain ⟨z', g⟩ := s
          obtain ⟨y1, y2⟩ := hs
          dsimp only at y1 y2
          subst y1
          refine Or.inl ?_
          show ∃ s', BX7_hoursBy_119 (nI n) near z (nI k) come (nI q) g = some (.inl s') ∧ _
          unfold BX7_hoursBy_119
          rw [if_neg (nI_ge hq (by omega)), nI_1, gi_nI hk (by decide), nIc (by omega), M_bit, Option.bind_some]
          cases c : hasB (come k) (nI q)
          · rw [iff_]
            refine ⟨_, rfl, rfl, fun K hK x hx => ?_⟩
            rw [y2 K hK x hx]
            constructor
            · rintro (h | ⟨q', h1, h2⟩)
              · exact Or.inl h
              · exact Or.inr ⟨q', by omega, h2⟩
            · rintro (h | ⟨q', h1, h2, h3⟩)
              · exact Or.inl h
              · by_cases e : q' = q
                · subst e; rw [c] at h2; cases h2
                · exact Or.inr ⟨q', by omega, h2, h3⟩
          · obtain ⟨g', e3, hg⟩ := M_spreads7 hn hk hq near g
            rw [ift, e3, Option.bind_some]
            refine ⟨_, rfl, rfl, fun K hK x hx => ?_⟩
            show hasB (g' K) (nI x) = true ↔ _
            rw [hg K hK x hx, y2 K hK x hx]
            constructor
            · rintro ((h | ⟨q', h1, h2⟩) | ⟨h1, h2, h3⟩)
              · exact Or.inl h
              · exact Or.inr ⟨q', by omega, h2⟩
              · exact Or.inr ⟨q, by omega, c, h1, h2, h3⟩
            · rintro (h | ⟨q', h1, h2, h3⟩)
              · exact Or.inl (Or.inl h)
              · by_cases e : q' = q
                · subst e; exact Or.inr h3
                · exact Or.inl (Or.inr ⟨q', by omega, h2, h3⟩))
        (by
          intro s hs
          obtain ⟨z', g⟩ := s
          obtain ⟨y1, y2⟩ := hs
          dsimp only at y1 y2
          subst y1
          exact ⟨g, by show BX7_hoursBy_119 (nI n) near z (nI k) come (nI n) g = _; unfold BX7_hoursBy_119; rw [if_pos (nI_le (Nat.le_refl n) (by omega))], y2⟩)
      rw [e2, Option.bind_some]
      refine ⟨_, rfl, rfl, fun K hK x hx => ?_⟩
      show hasB (r2 K) (nI x) = true ↔ _
      rw [hr2 K hK x hx, z2 K hK x hx]
      constructor
      · rintro (⟨k', q, h1, h2⟩ | ⟨q, h1, h2⟩)
        · exact ⟨k', q, by omega, h2⟩
        · exact ⟨k, q, by omega, h1, h2⟩
      · rintro ⟨k', q, h1, h2, h3⟩
        by_cases e : k' = k
        · subst e; exact Or.inr ⟨q, h2, h3⟩
        · exact Or.inl ⟨k', q, by omega, h2, h3⟩)
    (by
      intro s hs
      obtain ⟨z', g⟩ := s
      obtain ⟨y1, y2⟩ := hs
      dsimp only at y1 y2
      subst y1
      exact ⟨g, by show BX7_hoursBy_109 (nI n) near z come (nI 64) g = _; unfold BX7_hoursBy_109; rw [if_pos (by decide)], y2⟩)
  refine ⟨r, e, fun K hK x hx => ?_⟩
  rw [hr K hK x hx]
  constructor
  · rintro ⟨k, q, h1, h2, h3, h4, h5, h6⟩
    exact ⟨q, bitsP k, ⟨h2, h4, h5⟩, (hc k h1 q (by omega)).mp h3, fun y => by rw [h6]; exact orB_P y⟩
  · rintro ⟨q, K', ⟨h2, h4, h5⟩, h3, h6⟩
    obtain ⟨k, b1, b2⟩ := bits_of K' n hn
    have hfin := Ek_fin (n := n) hp (fun a b h => h.2.1) h K' q h3
    have hK' : ∀ y, K' y ↔ bitsP k y := fun y => ⟨fun hy => (b2 y).mpr ⟨hfin y hy, hy⟩, fun hy => ((b2 y).mp hy).2⟩
    have hk64 : k < 64 := by omega
    refine ⟨k, q, hk64, h2, (hc k hk64 q (by omega)).mpr (Ek_congr hK' h3), h4, h5, ?_⟩
    refine bits_inj hK (orB_all k hk64 x (by omega)).2 (fun y => ?_)
    rw [h6 y, hK' y]
    exact (orB_P y).symm
theorem L_seek7 {n p h s : Nat} (hn : n ≤ 6) (hp : p < n) (hs : s < 64) (near come : AI) (hc : comeP n p near h come) (z : Int32) (cT : AI) : ∃ r, loopN FU (fun s_ => BX7_hoursBy_47 (nI s) z come cT s_) (0 : Int32) = some r ∧ ((r = .inl () ∧ ∃ x, Vk (nearP n near) p h (bitsP s) x) ∨ (r = .inr () ∧ ¬ ∃ x, Vk (nearP n near) p h (bitsP s) x)) := by
  have h64 := pow_le hn
  have nz : ∀ y : Int32, ¬ y = 0 → ∃ i, i < 32 ∧ hasB y (nI i) = true := by
    intro y hy
    by_cases c : ∃ i, i < 32 ∧ hasB y (nI i) = true
    · exact c
    · refine absurd (b_ext (fun i hi => ?_)) hy
      rw [b_0]
      cases hb : bt y i
      · rfl
      · exact absurd ⟨i, hi, by rw [hasB_bt hi]; exact hb⟩ c
  have sub : ∀ k, k < 64 → ((nI s &&& (nI k ^^^ (-1 : Int32))) = 0 ↔ ∀ x, bitsP s x → bitsP k x) := by
    intro k hk
    constructor
    · intro h x hx
      have hx6 := bitsP_lt hs hx
      have h1 : hasB (nI s &&& (nI k ^^^ (-1 : Int32))) (nI x) = false := by rw [h, hasB_0 (by omega)]
      rw [hasB_andn (by omega), hasB_nI (by omega), hasB_nI (by omega)] at h1
      unfold bitsP at hx ⊢
      rw [hx] at h1
      cases hb : k.testBit x
      · rw [hb] at h1; cases h1
      · rfl
    · intro h
      apply b_ext
      intro i hi
      rw [b_0, ← hasB_bt hi, hasB_andn hi, hasB_nI hi, hasB_nI hi]
      cases hb : s.testBit i
      · rfl
      · rw [show k.testBit i = true from h i hb]; rfl
  refine loop_FU (f := fun s_ => BX7_hoursBy_47 (nI s) z come cT s_) (fun i st => st = nI i ∧ ¬ ∃ k x, k < i ∧ Ek (nearP n near) p h (bitsP k) x ∧ ∀ y, bitsP s y → bitsP k y) (fun r => (r = .inl () ∧ ∃ x, Vk (nearP n near) p h (bitsP s) x) ∨ (r = .inr () ∧ ¬ ∃ x, Vk (nearP n near) p h (bitsP s) x)) 64 (by decide) (0 : Int32) ⟨rfl, fun ⟨k, x, hk, _⟩ => absurd hk (Nat.not_lt_zero k)⟩ ?_ ?_
  · intro k st hk hst
    obtain ⟨rfl, h2⟩ := hst
    have next : (¬ ∃ x, Ek (nearP n near) p h (bitsP k) x ∧ ∀ y, bitsP s y → bitsP k y) → ¬ ∃ k' x, k' < k + 1 ∧ Ek (nearP n near) p h (bitsP k') x ∧ ∀ y, bitsP s y → bitsP k' y := by
      rintro hno ⟨k', x, h3, h4⟩
      by_cases e : k' = k
      · subst e; exact hno ⟨x, h4⟩
      · exact h2 ⟨k', x, by omega, h4⟩
    show (∃ s', BX7_hoursBy_47 (nI s) z come cT (nI k) = some (.inl s') ∧ _) ∨ (∃ r, BX7_hoursBy_47 (nI s) z come cT (nI k) = some (.inr r) ∧ _)
    unfold BX7_hoursBy_47
    rw [if_neg (le64 hk), nI_1, gi_nI hk (by decide), nIc (by omega)]
    by_cases c1 : come k = 0
    · rw [if_pos c1]
      refine Or.inl ⟨_, rfl, rfl, next ?_⟩
      rintro ⟨x, h3, -⟩
      have hx : x < 32 := by
        have := Dk_lt hp (fun a b (h : nearP n near a b) => h.2.1) h x (Vk_D _ _ _ (Ek_V _ _ _ h3))
        omega
      have := (hc k hk x hx).mpr h3
      rw [c1, hasB_0 hx] at this; cases this
    · rw [if_neg c1]
      by_cases c2 : (nI s &&& (nI k ^^^ (-1 : Int32))) = 0
      · rw [if_pos c2]
        obtain ⟨i, hi, hb⟩ := nz _ c1
        have he := (hc k hk i hi).mp hb
        exact Or.inr ⟨_, rfl, Or.inl ⟨rfl, i, Vk_mono _ _ _ _ ((sub k hk).mp c2) (Ek_V _ _ _ he)⟩⟩
      · rw [if_neg c2]
        refine Or.inl ⟨_, rfl, rfl, next ?_⟩
        rintro ⟨x, -, h4⟩
        exact c2 ((sub k hk).mpr h4)
  · intro st hst
    obtain ⟨rfl, h2⟩ := hst
    refine ⟨.inr (), ?_, Or.inr ⟨rfl, ?_⟩⟩
    · show BX7_hoursBy_47 (nI s) z come cT (nI 64) = _
      unfold BX7_hoursBy_47
      rw [if_pos (by decide)]
    · rintro ⟨x, hx⟩
      obtain ⟨K, g1, g2⟩ := Vk_E _ _ _ hx
      obtain ⟨k, b1, b2⟩ := bits_of K n hn
      have hfin := Ek_fin (n := n) hp (fun a b h => h.2.1) h K x g2
      have hK' : ∀ y, K y ↔ bitsP k y := fun y => ⟨fun hy => (b2 y).mpr ⟨hfin y hy, hy⟩, fun hy => ((b2 y).mp hy).2⟩
      exact h2 ⟨k, x, by omega, Ek_congr hK' g2, fun y hy => (hK' y).mp (g1 y hy)⟩
theorem M_hoursBy7 {n p s m : Nat} (hn : n ≤ 6) (hp : p < n) (hs : s < 64) (hm : m ≤ 12) (near come cT : AI) : ∃ r, MX7_hoursBy (nI p) (nI s) (nI m) come cT (nI n) near = some r ∧ ((r.1 = 9999 ∧ ¬ ∃ x, Vle (nearP n near) p m (bitsP s) x) ∨ ∃ h, h ≤ m ∧ r.1 = nI h ∧ (∃ x, Vk (nearP n near) p h (bitsP s) x) ∧ ∀ t, t < h → ¬ ∃ x, Vk (nearP n near) p t (bitsP s) x) := by
  have h64 := pow_le hn
  obtain ⟨c0, e0, q0⟩ := L_clear (f := fun s_ : Int32 × AI => BX7_hoursBy_3 s_.1 s_.2) (by
    intro i a hi
    show BX7_hoursBy_3 (nI i) a = _
    unfold BX7_hoursBy_3
    rw [if_neg (le64 hi), nI_1, gi_nI hi (by decide), nIc (by omega)]) (by
    intro a
    show BX7_hoursBy_3 (nI 64) a = _
    unfold BX7_hoursBy_3
    rw [if_pos (by decide)]) come
  have hpw : ((1 : Int32) <<< (nI p &&& 31)) = nI (2 ^ p) := pow_n p (by omega)
  have hp64 : 2 ^ p < 64 := by
    have : ∀ p, p < 6 → 2 ^ p < 64 := by decide
    exact this p (by omega)
  have hc0 : comeP n p near 0 (upd c0 (2 ^ p) (nI (2 ^ p))) := by
    intro K hK x hx
    have hbp : ∀ y, bitsP (2 ^ p) y ↔ y = p := fun y => by
      unfold bitsP
      rw [Nat.testBit_two_pow, decide_eq_true_iff]
      exact eq_comm
    by_cases c : K = 2 ^ p
    · subst c
      rw [pk_us, hasB_nI hx]
      constructor
      · intro h; exact ⟨(hbp x).mp h, hbp⟩
      · intro h; exact (hbp x).mpr h.1
    · rw [pk_un c, q0 K hK, hasB_0 hx]
      constructor
      · intro h; cases h
      · rintro ⟨-, h⟩
        exact absurd (bits_inj hK hp64 (fun y => (h y).trans (hbp y).symm)) c
  obtain ⟨r, e, hr⟩ := loop_FU (f := fun s_ : Int32 × AI × AI => BX7_hoursBy_38 (nI s) (nI m) (nI n) near s_.1 s_.2.1 s_.2.2) (fun i st => st.1 = nI i ∧ comeP n p near i st.2.1 ∧ ∀ t, t < i → ¬ ∃ x, Vk (nearP n near) p t (bitsP s) x)
    (fun r => (∃ z, r = .inl z ∧ ∃ h, h ≤ m ∧ z.1 = nI h ∧ (∃ x, Vk (nearP n near) p h (bitsP s) x) ∧ ∀ t, t < h → ¬ ∃ x, Vk (nearP n near) p t (bitsP s) x) ∨ (∃ z, r = .inr z ∧ ¬ ∃ x, Vle (nearP n near) p m (bitsP s) x)) (m + 1) (by omega) ((0 : Int32), upd c0 (2 ^ p) (nI (2 ^ p)), cT) ⟨rfl, hc0, fun t ht => absurd ht (Nat.not_lt_zero t)⟩
    (by
      intro i st hi hst
      obtain ⟨a, f, g⟩ := st
      obtain ⟨z1, z2, z3⟩ := hst
      dsimp only at z1 z2
      subst z1
      obtain ⟨w, e1, hw⟩ := L_seek7 hn hp hs near f z2 (nI i) g
      show (∃ s', BX7_hoursBy_38 (nI s) (nI m) (nI n) near (nI i) f g = some (.inl s') ∧ _) ∨ (∃ r, BX7_hoursBy_38 (nI s) (nI m) (nI n) near (nI i) f g = some (.inr r) ∧ _)
      unfold BX7_hoursBy_38
      rw [if_neg (nI_nlt (by omega) (by omega)), nI_1, e1, Option.bind_some]
      rcases hw with ⟨rfl, hx⟩ | ⟨rfl, hx⟩
      · exact Or.inr ⟨_, rfl, Or.inl ⟨_, rfl, i, by omega, rfl, hx, z3⟩⟩
      · dsimp only
        obtain ⟨g0, e2, q2⟩ := L_clear (f := fun s_ : Int32 × AI => BX7_hoursBy_85 (nI i) f s_.1 s_.2) (by
          intro i' a hi'
          show BX7_hoursBy_85 (nI i) f (nI i') a = _
          unfold BX7_hoursBy_85
          rw [if_neg (le64 hi'), nI_1, gi_nI hi' (by decide), nIc (by omega)]) (by
          intro a
          show BX7_hoursBy_85 (nI i) f (nI 64) a = _
          unfold BX7_hoursBy_85
          rw [if_pos (by decide)]) g
        obtain ⟨g1, e3, q3⟩ := L_hour7 hn hp near f g0 z2 q2 (nI i)
        obtain ⟨f1, e4, q4⟩ := L_copy64 (f := fun s_ : Int32 × AI => BX7_hoursBy_169 (nI i) g1 s_.1 s_.2) g1 (by
          intro i' a hi'
          show BX7_hoursBy_169 (nI i) g1 (nI i') a = _
          unfold BX7_hoursBy_169
          rw [if_neg (le64 hi'), nI_1, gi_nI hi' (by decide), gi_nI hi' (by decide), nIc (by omega)]) (by
          intro a
          show BX7_hoursBy_169 (nI i) g1 (nI 64) a = _
          unfold BX7_hoursBy_169
          rw [if_pos (by decide)]) f
        rw [e2, Option.bind_some, e3, Option.bind_some, e4, Option.bind_some]
        refine Or.inl ⟨_, rfl, rfl, fun K hK x hx' => ?_, fun t ht => ?_⟩
        · show hasB (f1 K) (nI x) = true ↔ _
          rw [q4 K hK]; exact q3 K hK x hx'
        · by_cases c : t = i
          · subst c; exact hx
          · exact z3 t (by omega))
    (by
      intro st hst
      obtain ⟨a, f, g⟩ := st
      obtain ⟨z1, z2, z3⟩ := hst
      dsimp only at z1 z2
      subst z1
      refine ⟨.inr (f, g), ?_, Or.inr ⟨_, rfl, ?_⟩⟩
      · show BX7_hoursBy_38 (nI s) (nI m) (nI n) near (nI (m + 1)) f g = _
        unfold BX7_hoursBy_38
        rw [if_pos (nI_lt (by omega) (by omega))]
      · rintro ⟨x, k, h1, h2⟩
        exact z3 k (by omega) ⟨x, h2⟩)
  unfold MX7_hoursBy
  rw [e0, Option.bind_some, hpw, gi_nI hp64 (by decide), nIc (by omega), e, Option.bind_some]
  rcases hr with ⟨z, rfl, h⟩ | ⟨z, rfl, h⟩
  · exact ⟨_, rfl, Or.inr h⟩
  · exact ⟨_, rfl, Or.inl ⟨rfl, h⟩⟩
