set_option maxRecDepth 100000
/-! the model's memory: copies of towns -/
theorem loop_copy {f : Int32 × AI → Option ((Int32 × AI) ⊕ AI)} (n b : Nat) (V : Nat → Int32) (hn : n < 100000) (a0 : AI)
    (hs : ∀ i a, i < n → f (nI i, a) = some (.inl (nI (i + 1), upd a (b + i) (V i)))) (he : ∀ a, f (nI n, a) = some (.inr a)) :
    ∃ a', loopN FU f ((0 : Int32), a0) = some a' ∧ (∀ i, i < n → a' (b + i) = V i) ∧ ∀ j, (j < b ∨ b + n ≤ j) → a' j = a0 j := by
  obtain ⟨r, e, h⟩ := loop_FU (f := f) (fun i s => s.1 = nI i ∧ (∀ k, k < i → s.2 (b + k) = V k) ∧ ∀ j, (j < b ∨ b + i ≤ j) → s.2 j = a0 j) (fun r => (∀ i, i < n → r (b + i) = V i) ∧ ∀ j, (j < b ∨ b + n ≤ j) → r j = a0 j) n hn ((0 : Int32), a0) ⟨rfl, fun k hk => absurd hk (Nat.not_lt_zero k), fun _ _ => rfl⟩
    (by
      intro i s hi hs'
      obtain ⟨z, a⟩ := s
      obtain ⟨z1, z2, z3⟩ := hs'
      dsimp only at z1 z2 z3
      subst z1
      refine Or.inl ⟨_, hs i a hi, rfl, ?_, ?_⟩
      · intro k hk
        show upd a (b + i) (V i) (b + k) = V k
        by_cases c : k = i
        · subst c; rw [pk_us]
        · rw [pk_un (by omega)]; exact z2 k (by omega)
      · intro j hj
        show upd a (b + i) (V i) j = a0 j
        rw [pk_un (by omega)]; exact z3 j (by omega))
    (by
      intro s hs'
      obtain ⟨z, a⟩ := s
      obtain ⟨z1, z2, z3⟩ := hs'
      dsimp only at z1 z2 z3
      subst z1
      exact ⟨_, he a, z2, z3⟩)
  exact ⟨r, e, h⟩
theorem idx47 {k i : Nat} : ((47 : Int32) * nI k) + nI i = nI (47 * k + i) := by
  rw [show (47 : Int32) = nI 47 from rfl, pk_mul, nI_add]
theorem le47 {i : Nat} (h : i < 47) : ¬ (47 : Int32) ≤ nI i := nI_ge (b := 47) h (by decide)
theorem M_stays7 (x v : AI) : ∃ v', MX7_stays x v = some v' ∧ (∀ j, j < 47 → v' j = x j) ∧ ∀ j, 47 ≤ j → v' j = v j := by
  obtain ⟨a', e, h1, h2⟩ := loop_copy (f := fun s_ : Int32 × AI => BX7_stays_2 x s_.1 s_.2) 47 0 x (by decide) v (by
    intro i a hi
    show BX7_stays_2 x (nI i) a = _
    unfold BX7_stays_2
    rw [if_neg (le47 hi), nI_1, gi_nI hi (by decide), gi_nI hi (by decide), nIc (by omega), Nat.zero_add]) (by
    intro a
    show BX7_stays_2 x (nI 47) a = _
    unfold BX7_stays_2
    rw [if_pos (by decide)])
  refine ⟨a', by unfold MX7_stays; rw [e, Option.bind_some], fun j hj => by have := h1 j hj; rwa [Nat.zero_add] at this, fun j hj => h2 j (by omega)⟩
theorem M_undo7 {k : Nat} (hk : k < 16) (past v : AI) : ∃ v', MX7_undo (nI (k + 1)) past v = some (true, 0, 0, -1, nI k, v') ∧ (∀ j, j < 47 → v' j = past (47 * k + j)) ∧ ∀ j, 47 ≤ j → v' j = v j := by
  obtain ⟨a', e, h1, h2⟩ := loop_copy (f := fun s_ : Int32 × AI => BX7_undo_38 past (nI k) s_.1 s_.2) 47 0 (fun j => past (47 * k + j)) (by decide) v (by
    intro i a hi
    show BX7_undo_38 past (nI k) (nI i) a = _
    unfold BX7_undo_38
    rw [if_neg (le47 hi), nI_1, idx47, gi_nI (by omega) (by decide), gi_nI hi (by decide), nIc (by omega), nIc (by omega), Nat.zero_add]; rfl) (by
    intro a
    show BX7_undo_38 past (nI k) (nI 47) a = _
    unfold BX7_undo_38
    rw [if_pos (by decide)])
  refine ⟨a', ?_, fun j hj => by have := h1 j hj; rwa [Nat.zero_add] at this, fun j hj => h2 j (by omega)⟩
  unfold MX7_undo MX7_granted MX7_good
  rw [if_neg (show ¬ nI (k + 1) = (0 : Int32) from fun z => absurd ((nI_eq (b := 0) (by omega) (by decide)).mp z) (by omega)), nI_m1 (by omega), Nat.add_sub_cancel, e]
  rfl
theorem M_undo70 (past v : AI) : MX7_undo 0 past v = some (false, 0, 6, -1, 0, v) := by
  unfold MX7_undo MX7_denied MX7_refused
  rw [if_pos rfl]; rfl
theorem M_image7 {k : Nat} (hk : k < 3) (v kept : AI) : ∃ kept', MX7_image (nI k) v kept = some (nI k, 0, 0, -1, nI (k + 1), kept') ∧ (∀ j, j < 47 → kept' (47 * k + j) = v j) ∧ ∀ j, (j < 47 * k ∨ 47 * k + 47 ≤ j) → kept' j = kept j := by
  obtain ⟨a', e, h1, h2⟩ := loop_copy (f := fun s_ : Int32 × AI => BX7_image_34 (nI k) v s_.1 s_.2) 47 (47 * k) v (by decide) kept (by
    intro i a hi
    show BX7_image_34 (nI k) v (nI i) a = _
    unfold BX7_image_34
    rw [if_neg (le47 hi), nI_1, idx47, gi_nI hi (by decide), gi_nI (by omega) (by decide), nIc (by omega), nIc (by omega)]) (by
    intro a
    show BX7_image_34 (nI k) v (nI 47) a = _
    unfold BX7_image_34
    rw [if_pos (by decide)])
  refine ⟨a', ?_, h1, h2⟩
  unfold MX7_image MX7_good
  rw [if_neg (show ¬ nI k = (3 : Int32) from fun z => absurd ((nI_eq (b := 3) (by omega) (by decide)).mp z) (by omega)), e, nI_1, nI_m1 (by omega), Nat.add_sub_cancel]
  rfl
theorem M_image73 (v kept : AI) : MX7_image 3 v kept = some (-1, 0, 3, -1, 3, kept) := by
  unfold MX7_image MX7_refused
  rw [if_pos rfl]; rfl
theorem M_back7 {p many : Nat} (hp : p < many) (hm : many ≤ 3) (acts : Int32) (kept v : AI) : ∃ v', MX7_back (nI p) acts (nI many) kept v = some (true, 0, 0, -1, 0, v') ∧ (∀ j, j < 47 → v' j = kept (47 * p + j)) ∧ ∀ j, 47 ≤ j → v' j = v j := by
  obtain ⟨a', e, h1, h2⟩ := loop_copy (f := fun s_ : Int32 × AI => BX7_back_32 (nI p) kept s_.1 s_.2) 47 0 (fun j => kept (47 * p + j)) (by decide) v (by
    intro i a hi
    show BX7_back_32 (nI p) kept (nI i) a = _
    unfold BX7_back_32
    rw [if_neg (le47 hi), nI_1, idx47, gi_nI (by omega) (by decide), gi_nI hi (by decide), nIc (by omega), nIc (by omega), Nat.zero_add]; rfl) (by
    intro a
    show BX7_back_32 (nI p) kept (nI 47) a = _
    unfold BX7_back_32
    rw [if_pos (by decide)])
  refine ⟨a', ?_, fun j hj => by have := h1 j hj; rwa [Nat.zero_add] at this, fun j hj => h2 j (by omega)⟩
  unfold MX7_back MX7_granted MX7_good
  rw [if_neg (Int32.not_lt.mpr (nI_pos' (n := p) (by omega))), if_pos (nI_lt hp (by omega)), e]
  rfl
theorem M_back7n {p : Int32} {many : Nat} (acts : Int32) (kept v : AI) (h : p < 0 ∨ ¬ p < nI many) : MX7_back p acts (nI many) kept v = some (false, 0, 1, -1, acts, v) := by
  unfold MX7_back MX7_denied MX7_refused
  by_cases c : p < 0
  · rw [if_pos c]; rfl
  · rw [if_neg c]
    rcases h with h | h
    · exact absurd h c
    · rw [if_neg h]; rfl
theorem L_shift7 (past : AI) : ∃ p', loopN FU (fun s_ : Int32 × AI => BX7_remembers_11 s_.1 s_.2) ((0 : Int32), past) = some p' ∧ (∀ j, j < 705 → p' j = past (j + 47)) ∧ ∀ j, 705 ≤ j → p' j = past j := by
  obtain ⟨r, e, h⟩ := loop_FU (f := fun s_ : Int32 × AI => BX7_remembers_11 s_.1 s_.2) (fun i s => s.1 = nI i ∧ (∀ k, k < i → s.2 k = past (k + 47)) ∧ ∀ j, i ≤ j → s.2 j = past j) (fun r => (∀ j, j < 705 → r j = past (j + 47)) ∧ ∀ j, 705 ≤ j → r j = past j) 705 (by decide) ((0 : Int32), past) ⟨rfl, fun k hk => absurd hk (Nat.not_lt_zero k), fun _ _ => rfl⟩
    (by
      intro i s hi hs'
      obtain ⟨z, a⟩ := s
      obtain ⟨z1, z2, z3⟩ := hs'
      dsimp only at z1 z2 z3
      subst z1
      refine Or.inl ?_
      show ∃ s', BX7_remembers_11 (nI i) a = some (.inl s') ∧ _
      unfold BX7_remembers_11
      rw [if_neg (show ¬ (705 : Int32) ≤ nI i from nI_ge (b := 705) hi (by decide)), nI_1, show (nI i + (47 : Int32)) = nI (i + 47) from by rw [show (47 : Int32) = nI 47 from rfl, nI_add], gi_nI (by omega) (by decide), gi_nI (by omega) (by decide), nIc (by omega), nIc (by omega)]
      refine ⟨_, rfl, rfl, ?_, ?_⟩
      · intro k hk
        show upd a i (a (i + 47)) k = _
        by_cases c : k = i
        · subst c; rw [pk_us]; exact z3 _ (by omega)
        · rw [pk_un c]; exact z2 k (by omega)
      · intro j hj
        show upd a i (a (i + 47)) j = _
        rw [pk_un (by omega)]; exact z3 j (by omega))
    (by
      intro s hs'
      obtain ⟨z, a⟩ := s
      obtain ⟨z1, z2, z3⟩ := hs'
      dsimp only at z1 z2 z3
      subst z1
      exact ⟨_, by show BX7_remembers_11 (nI 705) a = _; unfold BX7_remembers_11; rw [if_pos (by decide)], z2, z3⟩)
  exact ⟨r, e, h⟩
theorem L_note7 {k : Nat} (hk : k < 16) (v past : AI) : ∃ p', loopN FU (fun s_ : Int32 × AI => BX7_remembers_51 v (nI k) s_.1 s_.2) ((0 : Int32), past) = some p' ∧ (∀ j, j < 47 → p' (47 * k + j) = v j) ∧ ∀ j, (j < 47 * k ∨ 47 * k + 47 ≤ j) → p' j = past j :=
  loop_copy (f := fun s_ : Int32 × AI => BX7_remembers_51 v (nI k) s_.1 s_.2) 47 (47 * k) v (by decide) past (by
    intro i a hi
    show BX7_remembers_51 v (nI k) (nI i) a = _
    unfold BX7_remembers_51
    rw [if_neg (le47 hi), nI_1, idx47, gi_nI hi (by decide), gi_nI (by omega) (by decide), nIc (by omega), nIc (by omega)]) (by
    intro a
    show BX7_remembers_51 v (nI k) (nI 47) a = _
    unfold BX7_remembers_51
    rw [if_pos (by decide)])
/-- slice k of what is remembered -/
def slice (past : AI) (k : Nat) : AI := fun j => past (47 * k + j)
theorem M_remembers7 {k : Nat} (hk : k ≤ 16) (v past : AI) : ∃ k' p', MX7_remembers (nI k) v past = some (nI k', p') ∧ ((k < 16 ∧ k' = k + 1 ∧ (∀ m, m < k → ∀ j, j < 47 → slice p' m j = slice past m j) ∧ (∀ j, j < 47 → slice p' k j = v j)) ∨ (k = 16 ∧ k' = 16 ∧ (∀ m, m < 15 → ∀ j, j < 47 → slice p' m j = slice past (m + 1) j) ∧ (∀ j, j < 47 → slice p' 15 j = v j))) := by
  unfold MX7_remembers
  by_cases c : k = 16
  · subst c
    obtain ⟨p1, e1, h1, h2⟩ := L_shift7 past
    obtain ⟨p2, e2, h3, h4⟩ := L_note7 (k := 15) (by decide) v p1
    refine ⟨16, p2, ?_, Or.inr ⟨rfl, rfl, ?_, h3⟩⟩
    · rw [if_pos (show nI 16 = (16 : Int32) from rfl), e1, Option.bind_some, nI_m1 (by decide), e2]
      rfl
    · intro m hm j hj
      unfold slice
      rw [h4 _ (by omega), h1 _ (by omega), show 47 * m + j + 47 = 47 * (m + 1) + j by omega]
  · obtain ⟨p2, e2, h3, h4⟩ := L_note7 (k := k) (by omega) v past
    refine ⟨k + 1, p2, ?_, Or.inl ⟨by omega, rfl, ?_, h3⟩⟩
    · rw [if_neg (show ¬ nI k = (16 : Int32) from fun z => c ((nI_eq (b := 16) (by omega) (by decide)).mp z)), e2, Option.bind_some, nI_1]
    · intro m hm j hj
      unfold slice
      rw [h4 _ (by omega)]
