set_option maxRecDepth 100000
/-! op 15: rounds -/
def cr (H : Int32 → Int32) (p : Int32) : Nat → Int32 → Bool
  | 0, _ => false
  | k + 1, z => if z = -2 then false else if z = p then true else cr H p k (H z)
def fin_ (H : Int32 → Int32) (p : Int32) : Nat → Int32 → Int32
  | 0, z => z
  | k + 1, z => if z = -2 then z else if z = p then z else fin_ H p k (H z)
def orb (H : Int32 → Int32) (p : Int32) : Nat → Int32
  | 0 => p
  | k + 1 => H (orb H p k)
theorem pigeon : ∀ (m : Nat) (f : Nat → Nat), (∀ i, i ≤ m → f i < m) → ∃ i j, i < j ∧ j ≤ m ∧ f i = f j := by
  intro m
  induction m with
  | zero => intro f h; exact absurd (h 0 (Nat.le_refl 0)) (Nat.not_lt_zero _)
  | succ m ih =>
    intro f h
    by_cases c : ∃ i, i ≤ m ∧ f i = f (m + 1)
    · obtain ⟨i, hi, e⟩ := c
      exact ⟨i, m + 1, by omega, Nat.le_refl _, e⟩
    · have hne : ∀ i, i ≤ m → f i ≠ f (m + 1) := fun i hi e => c ⟨i, hi, e⟩
      obtain ⟨i, j, hij, hj, e⟩ := ih (fun i => if f (m + 1) < f i then f i - 1 else f i) (by
        intro i hi
        have h1 := h i (by omega)
        have h2 := h (m + 1) (Nat.le_refl _)
        have h3 := hne i hi
        split <;> omega)
      refine ⟨i, j, hij, by omega, ?_⟩
      have h1 := hne i (by omega)
      have h2 := hne j hj
      split at e <;> split at e <;> omega
theorem cr_fin {H : Int32 → Int32} {p : Int32} (hp : p ≠ -2) : ∀ k z, cr H p k z = true → fin_ H p k z = p := by
  intro k
  induction k with
  | zero => intro z h; exact absurd h (by unfold cr; decide)
  | succ k ih =>
    intro z h
    unfold cr at h
    unfold fin_
    by_cases c : z = -2
    · rw [if_pos c] at h; exact absurd h (by decide)
    · rw [if_neg c] at h ⊢
      by_cases d : z = p
      · rw [if_pos d]; exact d
      · rw [if_neg d] at h ⊢
        exact ih _ h
theorem fin_cr {H : Int32 → Int32} {p : Int32} (hp : p ≠ -2) : ∀ k a, (∀ i, 1 ≤ i → i ≤ a → orb H p i ≠ p ∧ orb H p i ≠ -2) → fin_ H p k (orb H p (a + 1)) = p → cr H p k (orb H p (a + 1)) = true ∨ (∀ i, 1 ≤ i → i ≤ a + k → orb H p i ≠ p ∧ orb H p i ≠ -2) ∧ orb H p (a + k + 1) = p := by
  intro k
  induction k with
  | zero =>
    intro a ha h
    unfold fin_ at h
    exact Or.inr ⟨ha, h⟩
  | succ k ih =>
    intro a ha h
    unfold fin_ at h
    unfold cr
    by_cases c : orb H p (a + 1) = -2
    · rw [if_pos c] at h; exact absurd (c.symm.trans h).symm hp
    · rw [if_neg c] at h ⊢
      by_cases d : orb H p (a + 1) = p
      · rw [if_pos d]; exact Or.inl rfl
      · rw [if_neg d] at h ⊢
        have := ih (a + 1) (by
          intro i h1 h2
          by_cases q : i = a + 1
          · subst q; exact ⟨d, c⟩
          · exact ha i h1 (by omega)) h
        rw [show a + (k + 1) = a + 1 + k by omega]
        exact this
theorem orb_add {H : Int32 → Int32} {p : Int32} {i j : Nat} (h : orb H p i = orb H p j) : ∀ k, orb H p (i + k) = orb H p (j + k) := by
  intro k
  induction k with
  | zero => exact h
  | succ k ih => show H (orb H p (i + k)) = H (orb H p (j + k)); rw [ih]
theorem fin_iff {H : Int32 → Int32} {n k : Nat} (hn : n ≤ 6) (hk : k < n) (hH : ∀ j, j < n → pers n (H (nI j))) : fin_ H (nI k) 6 (H (nI k)) = nI k ↔ cr H (nI k) 6 (H (nI k)) = true := by
  have hp : nI k ≠ -2 := nI_ne_m2 (by omega)
  constructor
  · intro h
    rcases fin_cr hp 6 0 (by intro i h1 h2; omega) h with h | ⟨h1, h2⟩
    · exact h
    · exfalso
      have hpers : ∀ i, i ≤ 6 → ∃ j, j < n ∧ orb H (nI k) i = nI j := by
        intro i
        induction i with
        | zero => intro _; exact ⟨k, hk, rfl⟩
        | succ i ih =>
          intro hi
          obtain ⟨j, hj, e⟩ := ih (by omega)
          rcases hH j hj with q | q
          · exact absurd (show orb H (nI k) (i + 1) = -2 by show H (orb H (nI k) i) = -2; rw [e]; exact q) (h1 (i + 1) (by omega) (by omega)).2
          · obtain ⟨j', hj', e'⟩ := q
            exact ⟨j', hj', by show H (orb H (nI k) i) = _; rw [e]; exact e'⟩
      obtain ⟨i, j, hij, hj, e⟩ := pigeon 6 (fun i => (orb H (nI k) i).toNatClampNeg) (by
        intro i hi
        obtain ⟨j, hj, e⟩ := hpers i hi
        rw [e, nIc (by omega)]
        omega)
      obtain ⟨a, ha, ea⟩ := hpers i (by omega)
      obtain ⟨b, hb, eb⟩ := hpers j hj
      rw [ea, eb, nIc (by omega), nIc (by omega)] at e
      subst e
      have := orb_add (ea.trans eb.symm) (7 - j)
      rw [show j + (7 - j) = 0 + 6 + 1 by omega, h2] at this
      exact (h1 (i + (7 - j)) (by omega) (by omega)).1 this
  · exact cr_fin hp 6 _
theorem M_comesRound1 {n k : Nat} (hn : n ≤ 6) (hk : k < n) (liv : Int32) (a : AI) : MX1_comesRound (nI k) liv a (nI n) = some (cr (HX liv a n) (nI k) 6 (HX liv a n (nI k))) := by
  obtain ⟨r, e, h⟩ := loop_FU (f := fun s_ : Int32 × Int32 => BX1_comesRound_11 (nI k) liv a (nI n) s_.1 s_.2)
    (fun i s => s.2 = nI i ∧ pers n s.1 ∧ ∀ m, i + m = 6 → cr (HX liv a n) (nI k) 6 (HX liv a n (nI k)) = cr (HX liv a n) (nI k) m s.1)
    (fun r => r = if cr (HX liv a n) (nI k) 6 (HX liv a n (nI k)) = true then Sum.inl () else Sum.inr ()) 6 (by decide) (HX liv a n (nI k), (0 : Int32)) ⟨rfl, HX_pers hn k hk, fun m hm => by rw [show m = 6 by omega]⟩
    (by
      intro i s hi hs
      obtain ⟨z, y⟩ := s
      obtain ⟨z1, z2, z3⟩ := hs
      dsimp only at z1 z2 z3
      subst z1
      have z4 : cr (HX liv a n) (nI k) 6 (HX liv a n (nI k)) = (if z = -2 then false else if z = nI k then true else cr (HX liv a n) (nI k) (5 - i) (HX liv a n z)) := z3 (5 - i + 1) (by omega)
      show (∃ s', BX1_comesRound_11 (nI k) liv a (nI n) z (nI i) = some (.inl s') ∧ _) ∨ (∃ r, BX1_comesRound_11 (nI k) liv a (nI n) z (nI i) = some (.inr r) ∧ _)
      unfold BX1_comesRound_11
      rw [if_neg (show ¬ (6 : Int32) ≤ nI i from nI_ge (b := 6) hi (by decide)), nI_1]
      rcases z2 with c | ⟨j, hj, rfl⟩
      · rw [if_pos c]
        rw [if_pos c] at z4
        exact Or.inr ⟨_, rfl, by rw [show cr (HX liv a n) (nI k) 6 (HX liv a n (nI k)) = false from z4]; rfl⟩
      · rw [if_neg (nI_ne_m2 (by omega))]
        rw [if_neg (nI_ne_m2 (by omega))] at z4
        by_cases d : nI j = nI k
        · rw [if_pos d]
          rw [if_pos d] at z4
          exact Or.inr ⟨_, rfl, by rw [show cr (HX liv a n) (nI k) 6 (HX liv a n (nI k)) = true from z4]; rfl⟩
        · rw [if_neg d, M_heir4 hn (by omega), Option.bind_some]
          rw [if_neg d] at z4
          refine Or.inl ⟨_, rfl, rfl, ?_, ?_⟩
          · rw [← HX_at (liv := liv) (a := a) (n := n) (j := j) (by omega)]; exact HX_pers hn j hj
          · intro m hm
            show _ = cr (HX liv a n) (nI k) m (heirF liv (hX a) j n)
            rw [show m = 5 - i by omega, ← HX_at (liv := liv) (a := a) (n := n) (j := j) (by omega)]; exact z4)
    (by
      intro s hs
      obtain ⟨z, y⟩ := s
      obtain ⟨z1, z2, z3⟩ := hs
      dsimp only at z1 z2 z3
      subst z1
      have z4 : cr (HX liv a n) (nI k) 6 (HX liv a n (nI k)) = false := z3 0 (by omega)
      exact ⟨_, by show BX1_comesRound_11 (nI k) liv a (nI n) z (nI 6) = _; unfold BX1_comesRound_11; rw [if_pos (by decide)], by rw [show cr (HX liv a n) (nI k) 6 (HX liv a n (nI k)) = false from z4]; rfl⟩)
  unfold MX1_comesRound
  rw [M_heir4 hn (by omega), Option.bind_some, ← HX_at (liv := liv) (a := a) (n := n) (j := k) (by omega), e, Option.bind_some, h]
  cases cr (HX liv a n) (nI k) 6 (HX liv a n (nI k)) <;> rfl
theorem L_rounds7 {n k : Nat} (hn : n ≤ 6) (hk : k < n) (liv acc : Int32) (a x heir : AI) (hh : ∀ j, j < n → heir j = heirF liv (hX a) j n) : loopN FU (fun s_ : Int32 × Int32 => BX7_rounds_58 acc (nI k) x heir s_.1 s_.2) (HX liv a n (nI k), (0 : Int32)) = some (fin_ (HX liv a n) (nI k) 6 (HX liv a n (nI k))) := by
  obtain ⟨r, e, h⟩ := loop_FU (f := fun s_ : Int32 × Int32 => BX7_rounds_58 acc (nI k) x heir s_.1 s_.2)
    (fun i s => s.2 = nI i ∧ pers n s.1 ∧ ∀ m, i + m = 6 → fin_ (HX liv a n) (nI k) 6 (HX liv a n (nI k)) = fin_ (HX liv a n) (nI k) m s.1)
    (fun r => r = fin_ (HX liv a n) (nI k) 6 (HX liv a n (nI k))) 6 (by decide) (HX liv a n (nI k), (0 : Int32)) ⟨rfl, HX_pers hn k hk, fun m hm => by rw [show m = 6 by omega]⟩
    (by
      intro i s hi hs
      obtain ⟨z, y⟩ := s
      obtain ⟨z1, z2, z3⟩ := hs
      dsimp only at z1 z2 z3
      subst z1
      have z4 : fin_ (HX liv a n) (nI k) 6 (HX liv a n (nI k)) = (if z = -2 then z else if z = nI k then z else fin_ (HX liv a n) (nI k) (5 - i) (HX liv a n z)) := z3 (5 - i + 1) (by omega)
      show (∃ s', BX7_rounds_58 acc (nI k) x heir z (nI i) = some (.inl s') ∧ _) ∨ (∃ r, BX7_rounds_58 acc (nI k) x heir z (nI i) = some (.inr r) ∧ _)
      unfold BX7_rounds_58
      rw [if_neg (show ¬ (6 : Int32) ≤ nI i from nI_ge (b := 6) hi (by decide)), nI_1]
      rcases z2 with c | ⟨j, hj, rfl⟩
      · rw [if_pos c]
        rw [if_pos c] at z4
        exact Or.inr ⟨_, rfl, z4.symm⟩
      · rw [if_neg (nI_ne_m2 (by omega))]
        rw [if_neg (nI_ne_m2 (by omega))] at z4
        by_cases d : nI j = nI k
        · rw [if_pos d]
          rw [if_pos d] at z4
          exact Or.inr ⟨_, rfl, z4.symm⟩
        · rw [if_neg d, gi_nI (by omega) (by decide), nIc (by omega), hh j hj]
          rw [if_neg d] at z4
          refine Or.inl ⟨_, rfl, rfl, ?_, ?_⟩
          · rw [← HX_at (liv := liv) (a := a) (n := n) (j := j) (by omega)]; exact HX_pers hn j hj
          · intro m hm
            show _ = fin_ (HX liv a n) (nI k) m (heirF liv (hX a) j n)
            rw [show m = 5 - i by omega, ← HX_at (liv := liv) (a := a) (n := n) (j := j) (by omega)]; exact z4)
    (by
      intro s hs
      obtain ⟨z, y⟩ := s
      obtain ⟨z1, z2, z3⟩ := hs
      dsimp only at z1 z2 z3
      subst z1
      have z4 : fin_ (HX liv a n) (nI k) 6 (HX liv a n (nI k)) = z := z3 0 (by omega)
      exact ⟨_, by show BX7_rounds_58 acc (nI k) x heir z (nI 6) = _; unfold BX7_rounds_58; rw [if_pos (by decide)], z4.symm⟩)
  rw [e, h]
def roundP (liv : Int32) (a : AI) (n : Nat) : Nat → Bool := fun i => hasB liv (nI i) && cr (HX liv a n) (nI i) 6 (HX liv a n (nI i))
theorem op_rounds {n : Nat} (hn : n ≤ 6) {liv hour cat nights seed : Int32} {has hours v : AI} (hR : townR n liv hour cat nights seed has hours v) (x heir : AI) :
    ∃ a rM, MX1_rounds (nI n) liv hours = some (a, 0, -1) ∧ MX7_rounds (nI n) v x heir = some (a, 0, 0, -1, rM) := by
  obtain ⟨x', heir', ew, hR', hh⟩ := M_wwh7 hn hR x heir
  have hh' : ∀ j, j < n → heir' j = heirF liv (hX hours) j n := by intro j hj; rw [hh j hj, hR'.1]
  refine ⟨setF (roundP liv hours n) n, (x', heir'), ?_, ?_⟩
  · unfold MX1_rounds MX1_anew
    simp only [Option.bind_some]
    rw [loop_set (f := fun s_ : Int32 × Int32 => BX1_rounds_21 (nI n) liv hours 0 (-1) s_.1 s_.2) (roundP liv hours n) n (by omega) (by
      intro i acc hi
      show BX1_rounds_21 (nI n) liv hours 0 (-1) acc (nI i) = _
      unfold BX1_rounds_21 roundP
      rw [if_neg (nI_ge hi (by omega)), nI_1, M_isLiving4, Option.bind_some]
      cases c1 : hasB liv (nI i)
      · rw [iff_]; rfl
      · rw [ift, M_comesRound1 hn hi, Option.bind_some]
        cases c2 : cr (HX liv hours n) (nI i) 6 (HX liv hours n (nI i))
        · rw [iff_]; rfl
        · rw [ift]; rfl) (by
      intro acc
      show BX1_rounds_21 (nI n) liv hours 0 (-1) acc (nI n) = _
      unfold BX1_rounds_21
      rw [if_pos (nI_le (Nat.le_refl n) (by omega))])]
    rfl
  · unfold MX7_rounds MX7_good
    rw [ew, Option.bind_some]
    dsimp only
    rw [loop_set (f := fun s_ : Int32 × Int32 => BX7_rounds_26 (nI n) x' heir' s_.1 s_.2) (roundP liv hours n) n (by omega) (by
      intro i acc hi
      show BX7_rounds_26 (nI n) x' heir' acc (nI i) = _
      unfold BX7_rounds_26 roundP
      rw [if_neg (nI_ge hi (by omega)), nI_1, M_isLiving7, Option.bind_some, hR'.1]
      cases c1 : hasB liv (nI i)
      · rw [iff_, Bool.false_and, if_neg (by decide), or_0]
      · rw [ift, gi_nI (by omega) (by decide), nIc (by omega), hh' i hi, ← HX_at (liv := liv) (a := hours) (n := n) (j := i) (by omega), L_rounds7 hn hi liv acc hours x' heir' hh', Option.bind_some, Bool.true_and]
        have q := fin_iff (H := HX liv hours n) hn hi (fun j hj => HX_pers hn j hj)
        by_cases c2 : cr (HX liv hours n) (nI i) 6 (HX liv hours n (nI i)) = true
        · rw [if_pos c2, if_pos (q.mpr c2)]
        · rw [if_neg c2, if_neg (fun z => c2 (q.mp z))]) (by
      intro acc
      show BX7_rounds_26 (nI n) x' heir' acc (nI n) = _
      unfold BX7_rounds_26
      rw [if_pos (nI_le (Nat.le_refl n) (by omega))])]
    rfl
/-! op 16: plot -/
theorem sub_le {s L : Nat} (hs : s < 2 ^ 31) (hL : L < 2 ^ 31) (h : (nI s &&& (nI L ^^^ (-1 : Int32))) = 0) : s ≤ L := by
  have hb : ∀ i, i < 32 → s.testBit i = true → L.testBit i = true := by
    intro i hi hsi
    have h1 : bt (nI s &&& (nI L ^^^ (-1 : Int32))) i = false := by rw [h, b_0]
    rw [b_and, b_xor, bt_nI, bt_nI, b_m1 i hi, hsi] at h1
    simpa [hi] using h1
  have he : s &&& L = s := by
    apply Nat.eq_of_testBit_eq
    intro i
    rw [Nat.testBit_and]
    by_cases hi : i < 32
    · cases q : s.testBit i
      · rfl
      · rw [hb i hi q]; rfl
    · rw [Nat.testBit_lt_two_pow (x := s) (i := i) (Nat.lt_of_lt_of_le hs (Nat.pow_le_pow_right (by decide) (by omega)))]; rfl
  rw [← he]
  exact Nat.and_le_right
def popc (s : Nat) : Nat := ((List.range 6).filter (fun j => s.testBit j)).length
theorem ones_8 : ∀ s, s < 64 → loopN 8 (fun s_ : Int32 × Int32 => BX1_ones_4 s_.1 s_.2) ((0 : Int32), nI s) = some (nI (popc s)) := by decide +kernel
theorem bits_8 : ∀ s, s < 64 → loopN 8 (fun s_ : Int32 × Int32 => BX7_bits_4 s_.1 s_.2) ((0 : Int32), nI s) = some (nI (popc s)) := by decide +kernel
theorem M_ones1 {s : Nat} (h : s < 64) : MX1_ones (nI s) = some (nI (popc s)) := by
  unfold MX1_ones
  rw [loopN_mono 8 FU _ (by decide) (ones_8 s h), Option.bind_some]
theorem M_bits7 {s : Nat} (h : s < 64) : MX7_bits (nI s) = some (nI (popc s)) := by
  unfold MX7_bits
  rw [loopN_mono 8 FU _ (by decide) (bits_8 s h), Option.bind_some]
theorem popc_le (s : Nat) : popc s ≤ 6 := by unfold popc; exact Nat.le_trans (List.length_filter_le _ _) (by decide)
theorem foldF_stop {α : Type} {step : α → Nat → α} {a0 : α} {m : Nat} : ∀ k, (∀ i a, m ≤ i → i < m + k → step a i = a) → foldF step a0 (m + k) = foldF step a0 m := by
  intro k
  induction k with
  | zero => intro _; rfl
  | succ k ih =>
    intro h
    show step (foldF step a0 (m + k)) (m + k) = _
    rw [h (m + k) _ (by omega) (by omega)]
    exact ih (fun i a h1 h2 => h i a h1 (by omega))
def plotStep (L : Nat) (p q : Int32) (goes : Int32 → Int32) (best : Int32) (i : Nat) : Int32 :=
  if (nI i &&& (nI L ^^^ (-1 : Int32))) = 0 then
    (if hasB (nI i) p = false then best else if hasB (nI i) q = true then best else if best = -2 then (if goes (nI i) = q then nI i else best)
      else if nI (popc i) < nI (popc best.toNatClampNeg) then (if goes (nI i) = q then nI i else best) else best)
  else best
theorem plotStep_in {L i : Nat} {p q a : Int32} {g : Int32 → Int32} (ha : pers i a) : pers (i + 1) (plotStep L p q g a i) := by
  unfold plotStep
  repeat' split
  all_goals first | exact pers_up ha | exact pers_new i
theorem op_plot {n : Nat} (h0 : 0 < n) (hn : n ≤ 6) {liv hour cat nights seed : Int32} {has hours v : AI} (hR : townR n liv hour cat nights seed has hours v) (hI : townI n liv hour cat nights seed has) (p q : Int32) (x heir : AI) :
    ∃ a tr rM, MX1_plot p q (nI n) liv hours = some (a, tr, -1) ∧ MX7_plot p q (nI n) v x heir = some (a, 0, tr, -1, rM) ∧ ¬ tr = 4 := by
  obtain ⟨L, hN, cN, hr, nN, sN, hL, hL2, -⟩ := hI
  have hp2 := pow_le hn
  unfold MX1_plot MX7_plot MX1_anew MX1_no MX7_refused MX7_good
  rw [M_areTwo1 h0 hn, M_areTwo7, M_isLiving4, M_isLiving4, M_bit, M_bit, hR.1]
  simp only [Option.bind_some]
  cases c : (isP n p && (isP n q && decide (p ≠ q)))
  · rw [iff_, iff_]
    exact ⟨_, _, _, rfl, rfl, by decide⟩
  · rw [ift, ift]
    cases c1 : hasB liv p
    · rw [iff_, iff_]
      exact ⟨_, _, _, rfl, rfl, by decide⟩
    · rw [ift, ift]
      cases c2 : hasB liv q
      · rw [iff_, iff_]
        exact ⟨_, _, _, rfl, rfl, by decide⟩
      · rw [ift, ift]
        have c' : isP n p = true ∧ isP n q = true := by
          cases h1 : isP n p <;> cases h2 : isP n q <;> simp [h1, h2] at c ⊢
        obtain ⟨k, hk, rfl⟩ := isP_of hn c'.1
        obtain ⟨m, hm, rfl⟩ := isP_of hn c'.2
        obtain ⟨x', heir', ew, hR', hh⟩ := M_wwh7 hn hR x heir
        have hh' : ∀ j, j < n → heir' j = heirF liv (hX hours) j n := by intro j hj; rw [hh j hj, hR'.1]
        subst hL
        refine ⟨foldF (plotStep L (nI k) (nI m) (fun s => goesS (nI L) hours n s k)) (-2) (L + 1), 0, (x', heir'), ?_, ?_, by decide⟩
        · rw [(loop_acc (f := fun s_ : Int32 × Int32 => BX1_plot_47 (nI k) (nI m) (nI n) (nI L) hours 0 (-1) s_.1 s_.2) (plotStep L (nI k) (nI m) (fun s => goesS (nI L) hours n s k)) pers (2 ^ n) (by omega) (-2) (Or.inl rfl) (by
            intro i a hi ha
            refine ⟨?_, plotStep_in ha⟩
            show BX1_plot_47 (nI k) (nI m) (nI n) (nI L) hours 0 (-1) a (nI i) = _
            unfold BX1_plot_47 plotStep MX8_all
            rw [Option.bind_some, pow_n n (by omega), nI_m1 hp2.2, if_neg (nI_nlt (by omega) (by omega)), nI_1, M_isSet1 hn, Option.bind_some]
            have es : setL n (nI L) (nI i) = decide ((nI i &&& (nI L ^^^ (-1 : Int32))) = 0) := by
              unfold setL
              rw [decide_eq_true (nI_pos' (n := i) (by omega)), decide_eq_true (nI_lt hi (by omega))]; rfl
            rw [es]
            by_cases d : (nI i &&& (nI L ^^^ (-1 : Int32))) = 0
            · rw [decide_eq_true d, ift, if_pos d, M_has, Option.bind_some]
              cases e1 : hasB (nI i) (nI k)
              · rw [iff_, if_pos (show false = false from rfl)]
              · rw [ift, if_neg (show ¬ true = false by decide), M_has, Option.bind_some]
                cases e2 : hasB (nI i) (nI m)
                · rw [iff_, if_neg (show ¬ false = true by decide)]
                  rcases ha with e3 | ⟨j, hj, rfl⟩
                  · rw [if_pos e3, if_pos e3, M_goes4 hn hk, Option.bind_some]
                    by_cases e4 : goesS (nI L) hours n (nI i) k = nI m
                    · rw [if_pos e4, if_pos e4]
                    · rw [if_neg e4, if_neg e4]
                  · rw [if_neg (nI_ne_m2 (by omega)), if_neg (nI_ne_m2 (by omega)), M_ones1 (by omega), M_ones1 (by omega), Option.bind_some, Option.bind_some, nIc (by omega)]
                    by_cases e5 : nI (popc i) < nI (popc j)
                    · rw [if_pos e5, if_neg (Int32.not_le.mpr e5), M_goes4 hn hk, Option.bind_some]
                      by_cases e4 : goesS (nI L) hours n (nI i) k = nI m
                      · rw [if_pos e4, if_pos e4]
                      · rw [if_neg e4, if_neg e4]
                    · rw [if_neg e5, if_pos (Int32.not_lt.mp e5)]
                · rw [ift, if_pos (show true = true from rfl)]
            · rw [decide_eq_false d, iff_, if_neg d]) (by
            intro a _
            show BX1_plot_47 (nI k) (nI m) (nI n) (nI L) hours 0 (-1) a (nI (2 ^ n)) = _
            unfold BX1_plot_47 MX8_all
            rw [Option.bind_some, pow_n n (by omega), nI_m1 hp2.2, if_pos (nI_lt (by omega) (by omega))])).1, Option.bind_some]
          rw [show 2 ^ n = (L + 1) + (2 ^ n - (L + 1)) by omega, foldF_stop]
          intro i a h1 h2
          unfold plotStep
          rw [if_neg (fun z => absurd (sub_le (by omega) (by omega) z) (by omega))]
        · rw [ew, Option.bind_some]
          dsimp only
          rw [(loop_acc (f := fun s_ : Int32 × Int32 => BX7_plot_58 (nI k) (nI m) v x' heir' s_.1 s_.2) (plotStep L (nI k) (nI m) (fun s => goesS (nI L) hours n s k)) pers (L + 1) (by omega) (-2) (Or.inl rfl) (by
            intro i a hi ha
            refine ⟨?_, plotStep_in ha⟩
            show BX7_plot_58 (nI k) (nI m) v x' heir' a (nI i) = _
            unfold BX7_plot_58 plotStep
            rw [hR.1, if_neg (nI_nlt (by omega) (by omega)), nI_1]
            by_cases d : (nI i &&& (nI L ^^^ (-1 : Int32))) = 0
            · rw [if_pos d, if_pos d, M_bit, Option.bind_some]
              cases e1 : hasB (nI i) (nI k)
              · rw [iff_, if_pos (show false = false from rfl)]
              · rw [ift, if_neg (show ¬ true = false by decide), M_bit, Option.bind_some]
                cases e2 : hasB (nI i) (nI m)
                · rw [iff_, if_neg (show ¬ false = true by decide)]
                  rcases ha with e3 | ⟨j, hj, rfl⟩
                  · rw [if_pos e3, if_pos e3, M_goes7 hn hk (nI i) e1 heir' hh', Option.bind_some]
                    by_cases e4 : goesS (nI L) hours n (nI i) k = nI m
                    · rw [if_pos e4, if_pos e4]
                    · rw [if_neg e4, if_neg e4]
                  · rw [if_neg (nI_ne_m2 (by omega)), if_neg (nI_ne_m2 (by omega)), M_bits7 (by omega), M_bits7 (by omega), Option.bind_some, Option.bind_some, nIc (by omega)]
                    by_cases e5 : nI (popc i) < nI (popc j)
                    · rw [if_pos e5, if_pos e5, M_goes7 hn hk (nI i) e1 heir' hh', Option.bind_some]
                      by_cases e4 : goesS (nI L) hours n (nI i) k = nI m
                      · rw [if_pos e4, if_pos e4]
                      · rw [if_neg e4, if_neg e4]
                    · rw [if_neg e5, if_neg e5]
                · rw [ift, if_pos (show true = true from rfl)]
            · rw [if_neg d, if_neg d]) (by
            intro a _
            show BX7_plot_58 (nI k) (nI m) v x' heir' a (nI (L + 1)) = _
            unfold BX7_plot_58
            rw [hR.1, if_pos (nI_lt (by omega) (by omega))])).1, Option.bind_some]
