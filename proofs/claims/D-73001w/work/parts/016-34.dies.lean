set_option maxRecDepth 100000
/-! some die at once: what each has then, what the cat gets; to p: to whom all of p goes -/
def dieH (set : Int32) (to_ : Nat → Int32) (has : Nat → Int32) (base : Nat → Int32) : Nat → Nat → Int32
  | 0 => base
  | i + 1 => fun j => if hasB set (nI i) = true ∧ to_ i = nI j then dieH set to_ has base i j + has i else dieH set to_ has base i j
def dieC (set : Int32) (to_ : Nat → Int32) (has : Nat → Int32) : Nat → Int32
  | 0 => 0
  | i + 1 => if hasB set (nI i) = true ∧ to_ i = -2 then dieC set to_ has i + has i else dieC set to_ has i
/-- what is left to one at first -/
def dieB (liv set : Int32) (has : Nat → Int32) : Nat → Int32 := fun j => if hasB set (nI j) = true ∨ hasB liv (nI j) = false then 0 else has j
theorem dieH_in {set : Int32} {to_ : Nat → Int32} {has base : Nat → Int32} {n j : Nat} (hn : n ≤ 6) (hj : hasB set (nI j) = true) (hj6 : j < 2 ^ 31) (ht : ∀ p, p < n → hasB set (nI p) = true → to_ p = -2 ∨ ∃ i, i < n ∧ to_ p = nI i ∧ hasB set (nI i) = false) : ∀ i, i ≤ n → dieH set to_ has base i j = base j := by
  intro i
  induction i with
  | zero => intro _; rfl
  | succ i ih =>
    intro hi
    show (if hasB set (nI i) = true ∧ to_ i = nI j then _ else dieH set to_ has base i j) = _
    rw [if_neg, ih (by omega)]
    rintro ⟨h1, h2⟩
    rcases ht i (by omega) h1 with e | ⟨q, hq, e, h3⟩
    · rw [e] at h2; exact nI_ne_m2 hj6 h2.symm
    · rw [h2] at e
      have := (nI_eq hj6 (by omega)).mp e
      subst this
      rw [hj] at h3; cases h3
theorem up_s {f : AI} {k : Nat} {x : Int32} : upd f k x k = x := pk_us
theorem up_n {f : AI} {k j : Nat} {x : Int32} (h : j ≠ k) : upd f k x j = f j := pk_un h
/-- the component's dying -/
theorem M_dies4 {n : Nat} (hn : n ≤ 6) (set fl fh fc fn fs : Int32) (th tr ph pr : AI) (hdead : ∀ j, j < n → hasB fl (nI j) = false → ph j = 0) :
    ∃ has' hours', MX4_dies set fl fh fc fn fs th tr ph pr (nI n) = some (fl &&& (set ^^^ (-1)), fh, fc + dieC set (goesS fl pr n set) ph n, fn, fs, has', hours') ∧
      (∀ j, j < n → has' j = dieH set (goesS fl pr n set) ph (dieB fl set ph) n j) ∧ (∀ j, j < 36 → hours' j = pr j) := by
  have ht : ∀ p, p < n → hasB set (nI p) = true → goesS fl pr n set p = -2 ∨ ∃ i, i < n ∧ goesS fl pr n set p = nI i ∧ hasB set (nI i) = false := fun p hp _ => goesS_in hn set hp
  obtain ⟨r, e, h1, h2⟩ := loop_FU (f := fun s_ : Int32 × Int32 × AI => BX4_dies_8 set fl ph pr (nI n) fl fh fn fs (va_cpy pr tr 0 0 36) s_.1 s_.2.1 s_.2.2)
    (fun i s => s.1 = nI i ∧ s.2.1 = fc + dieC set (goesS fl pr n set) ph i ∧ ∀ j, j < n → s.2.2 j = if hasB set (nI j) = true then (if j < i then 0 else ph j) else dieH set (goesS fl pr n set) ph (dieB fl set ph) i j)
    (fun r => r.2 = fc + dieC set (goesS fl pr n set) ph n ∧ ∀ j, j < n → r.1 j = dieH set (goesS fl pr n set) ph (dieB fl set ph) n j) n (by omega) ((0 : Int32), fc, va_cpy ph th 0 0 6)
    (by
      refine ⟨rfl, by show fc = fc + 0; rw [Int32.add_zero], fun j hj => ?_⟩
      show va_cpy ph th 0 0 6 j = _
      rw [sb_cpy0 (by omega)]
      by_cases c : hasB set (nI j) = true
      · rw [if_pos c, if_neg (by omega)]
      · rw [if_neg c]
        show ph j = dieB fl set ph j
        unfold dieB
        by_cases c2 : hasB fl (nI j) = false
        · rw [if_pos (Or.inr c2)]; exact hdead j hj c2
        · rw [if_neg (by intro z; rcases z with z | z; exact c z; exact c2 z)])
    (by
      intro i s hi hs
      obtain ⟨a, b, f⟩ := s
      obtain ⟨e1, e2, e3⟩ := hs
      dsimp only at e1 e2 e3
      subst e1
      refine Or.inl ?_
      show ∃ s', BX4_dies_8 set fl ph pr (nI n) fl fh fn fs (va_cpy pr tr 0 0 36) (nI i) b f = some (.inl s') ∧ _
      unfold BX4_dies_8
      rw [if_neg (nI_ge hi (by omega)), nI_1, M_has, Option.bind_some]
      by_cases c1 : hasB set (nI i) = false
      · rw [if_pos (b2i_f c1)]
        refine ⟨_, rfl, rfl, ?_, fun j hj => ?_⟩
        · show b = fc + (if _ ∧ _ then _ else _)
          rw [if_neg (by rw [c1]; rintro ⟨z, -⟩; cases z), e2]
        · show f j = _
          rw [e3 j hj]
          by_cases c : hasB set (nI j) = true
          · rw [if_pos c, if_pos c]
            have : j ≠ i := by intro z; rw [z, c1] at c; cases c
            by_cases c2 : j < i
            · rw [if_pos c2, if_pos (by omega)]
            · rw [if_neg c2, if_neg (by omega)]
          · rw [if_neg c, if_neg c]
            show _ = (if _ ∧ _ then _ else _)
            rw [if_neg (by rw [c1]; rintro ⟨z, -⟩; cases z)]
      · have c1' : hasB set (nI i) = true := by simpa using c1
        rw [if_neg (b2i_t c1'), M_goes4 hn hi, Option.bind_some, gi_nI (by omega) (by decide), nIc (by omega)]
        rcases goesS_in (liv := fl) (a := pr) hn set hi with g | ⟨q, hq, g, hq2⟩
        · rw [if_pos g, gi_nI (by omega) (by decide)]
          refine ⟨_, rfl, rfl, ?_, fun j hj => ?_⟩
          · show b + ph i = fc + (if _ ∧ _ then _ else _)
            rw [if_pos ⟨c1', g⟩, e2, Int32.add_assoc]
          · show upd f i 0 j = _
            by_cases c2 : j = i
            · subst c2; rw [up_s, if_pos c1', if_pos (by omega)]
            · rw [up_n c2, e3 j hj]
              by_cases c : hasB set (nI j) = true
              · rw [if_pos c, if_pos c]
                by_cases c3 : j < i
                · rw [if_pos c3, if_pos (by omega)]
                · rw [if_neg c3, if_neg (by omega)]
              · rw [if_neg c, if_neg c]
                show _ = (if _ ∧ _ then _ else _)
                rw [if_neg (by rw [g]; rintro ⟨-, z⟩; exact nI_ne_m2 (by omega) z.symm)]
        · rw [g, if_neg (nI_ne_m2 (by omega)), gi_nI (by omega) (by decide), gi_nI (by omega) (by decide), gi_nI (by omega) (by decide), nIc (by omega)]
          refine ⟨_, rfl, rfl, ?_, fun j hj => ?_⟩
          · show b = fc + (if _ ∧ _ then _ else _)
            rw [if_neg (by rw [g]; rintro ⟨-, z⟩; exact nI_ne_m2 (by omega) z), e2]
          · show upd (upd f i 0) q (upd f i 0 q + ph i) j = _
            have hqi : q ≠ i := by intro z; rw [z, c1'] at hq2; cases hq2
            by_cases c2 : j = q
            · subst c2
              rw [up_s, up_n hqi, e3 _ hj, if_neg (by rw [hq2]; decide), if_neg (by rw [hq2]; decide)]
              show _ = (if _ ∧ _ then _ else _)
              rw [if_pos ⟨c1', g⟩]
            · rw [up_n c2]
              by_cases c3 : j = i
              · subst c3; rw [up_s, if_pos c1', if_pos (by omega)]
              · rw [up_n c3, e3 j hj]
                by_cases c : hasB set (nI j) = true
                · rw [if_pos c, if_pos c]
                  by_cases c4 : j < i
                  · rw [if_pos c4, if_pos (by omega)]
                  · rw [if_neg c4, if_neg (by omega)]
                · rw [if_neg c, if_neg c]
                  show _ = (if _ ∧ _ then _ else _)
                  rw [if_neg (by rw [g]; rintro ⟨-, z⟩; exact c2 ((nI_eq (by omega) (by omega)).mp z).symm)])
    (by
      intro s hs
      obtain ⟨a, b, f⟩ := s
      obtain ⟨e1, e2, e3⟩ := hs
      dsimp only at e1 e2 e3
      subst e1
      refine ⟨(f, b), ?_, e2, fun j hj => ?_⟩
      · show BX4_dies_8 set fl ph pr (nI n) fl fh fn fs (va_cpy pr tr 0 0 36) (nI n) b f = _
        unfold BX4_dies_8
        rw [if_pos (nI_le (Nat.le_refl n) (by omega))]
      · show f j = _
        rw [e3 j hj]
        by_cases c : hasB set (nI j) = true
        · rw [if_pos c, if_pos hj, dieH_in hn c (by omega) ht n (Nat.le_refl n)]
          unfold dieB
          rw [if_pos (Or.inl c)]
        · rw [if_neg c])
  refine ⟨r.1, va_cpy pr tr 0 0 36, ?_, h2, fun j hj => sb_cpy0 hj⟩
  unfold MX4_dies MX4_become
  rw [Option.bind_some]
  show (loopN FU (fun s_ : Int32 × Int32 × AI => BX4_dies_8 set fl ph pr (nI n) fl fh fn fs (va_cpy pr tr 0 0 36) s_.1 s_.2.1 s_.2.2) ((0 : Int32), fc, va_cpy ph th 0 0 6)).bind _ = _
  rw [e, Option.bind_some, h1]
/-- the model's dying: the heirs found, what is worked on being x -/
theorem M_dying7 {n : Nat} (hn : n ≤ 6) (set : Int32) (th x heir : AI) (a : AI) (has : Nat → Int32) (hx : ∀ j, j < n → x j = has j) (hh : ∀ j, j < n → heir j = heirF (x 42) (hX a) j n) :
    ∃ th', MX7_dying set (nI n) th x heir = some (dieC set (goesS (x 42) a n set) has n, th') ∧ ∀ j, j < n → th' j = dieH set (goesS (x 42) a n set) has (dieB (x 42) set has) n j := by
  obtain ⟨f1, e1, h1⟩ := loop_FU (f := fun s_ : Int32 × AI => BX7_dying_7 set (nI n) x s_.1 s_.2)
    (fun i s => s.1 = nI i ∧ ∀ j, j < i → s.2 j = dieB (x 42) set has j) (fun r => ∀ j, j < n → r j = dieB (x 42) set has j) n (by omega) ((0 : Int32), th) ⟨rfl, fun j hj => by omega⟩
    (by
      intro i s hi hs
      obtain ⟨z, f⟩ := s
      obtain ⟨z1, z2⟩ := hs
      dsimp only at z1 z2
      subst z1
      refine Or.inl ⟨(nI (i + 1), upd f i (dieB (x 42) set has i)), ?_, rfl, fun j hj => ?_⟩
      · show BX7_dying_7 set (nI n) x (nI i) f = _
        unfold BX7_dying_7
        rw [if_neg (nI_ge hi (by omega)), nI_1, M_bit, Option.bind_some]
        by_cases c1 : hasB set (nI i) = false
        · rw [if_pos (b2i_f c1), M_isLiving7, Option.bind_some]
          by_cases c2 : hasB (x 42) (nI i) = false
          · rw [if_pos (b2i_f c2), gi_nI (by omega) (by decide), nIc (by omega)]
            unfold dieB
            rw [if_pos (Or.inr c2)]
          · rw [if_neg (b2i_t (by simpa using c2)), gi_nI (by omega) (by decide), gi_nI (by omega) (by decide), nIc (by omega), hx i hi]
            unfold dieB
            rw [if_neg (by rw [c1]; rintro (z | z); cases z; exact c2 z)]
        · rw [if_neg (b2i_t (by simpa using c1)), gi_nI (by omega) (by decide), nIc (by omega)]
          unfold dieB
          rw [if_pos (Or.inl (by simpa using c1))]
      · show upd f i _ j = _
        by_cases c : j = i
        · subst c; rw [up_s]
        · rw [up_n c, z2 j (by omega)])
    (by
      intro s hs
      obtain ⟨z, f⟩ := s
      obtain ⟨z1, z2⟩ := hs
      dsimp only at z1 z2
      subst z1
      exact ⟨f, by show BX7_dying_7 set (nI n) x (nI n) f = _; unfold BX7_dying_7; rw [if_pos (nI_le (Nat.le_refl n) (by omega))], z2⟩)
  obtain ⟨r, e2, h2, h3⟩ := loop_FU (f := fun s_ : Int32 × Int32 × AI => BX7_dying_58 set (nI n) x heir s_.1 s_.2.1 s_.2.2)
    (fun i s => s.1 = nI i ∧ s.2.1 = dieC set (goesS (x 42) a n set) has i ∧ ∀ j, j < n → s.2.2 j = dieH set (goesS (x 42) a n set) has (dieB (x 42) set has) i j)
    (fun r => r.2 = dieC set (goesS (x 42) a n set) has n ∧ ∀ j, j < n → r.1 j = dieH set (goesS (x 42) a n set) has (dieB (x 42) set has) n j) n (by omega) ((0 : Int32), (0 : Int32), f1) ⟨rfl, rfl, h1⟩
    (by
      intro i s hi hs
      obtain ⟨z, b, f⟩ := s
      obtain ⟨z1, z2, z3⟩ := hs
      dsimp only at z1 z2 z3
      subst z1
      refine Or.inl ?_
      show ∃ s', BX7_dying_58 set (nI n) x heir (nI i) b f = some (.inl s') ∧ _
      unfold BX7_dying_58
      rw [if_neg (nI_ge hi (by omega)), nI_1, M_bit, Option.bind_some]
      by_cases c1 : hasB set (nI i) = false
      · rw [if_pos (b2i_f c1)]
        refine ⟨_, rfl, rfl, ?_, fun j hj => ?_⟩
        · show b = (if _ ∧ _ then _ else _)
          rw [if_neg (by rw [c1]; rintro ⟨z, -⟩; cases z), z2]
        · show f j = (if _ ∧ _ then _ else _)
          rw [if_neg (by rw [c1]; rintro ⟨z, -⟩; cases z), z3 j hj]
      · have c1' : hasB set (nI i) = true := by simpa using c1
        rw [if_neg (b2i_t c1'), M_goes7 hn hi set c1' heir hh, Option.bind_some]
        rcases goesS_in (liv := x 42) (a := a) hn set hi with g | ⟨q, hq, g, hq2⟩
        · rw [if_pos g, gi_nI (by omega) (by decide), nIc (by omega), hx i hi]
          refine ⟨_, rfl, rfl, ?_, fun j hj => ?_⟩
          · show b + has i = (if _ ∧ _ then _ else _)
            rw [if_pos ⟨c1', g⟩, z2]
          · show f j = (if _ ∧ _ then _ else _)
            rw [if_neg (by rw [g]; rintro ⟨-, z⟩; exact nI_ne_m2 (by omega) z.symm), z3 j hj]
        · rw [g, if_neg (nI_ne_m2 (by omega)), gi_nI (by omega) (by decide), gi_nI (by omega) (by decide), gi_nI (by omega) (by decide), nIc (by omega), nIc (by omega), hx i hi]
          refine ⟨_, rfl, rfl, ?_, fun j hj => ?_⟩
          · show b = (if _ ∧ _ then _ else _)
            rw [if_neg (by rw [g]; rintro ⟨-, z⟩; exact nI_ne_m2 (by omega) z), z2]
          · show upd f q (f q + has i) j = (if _ ∧ _ then _ else _)
            by_cases c2 : j = q
            · subst c2
              rw [up_s, z3 _ hj, if_pos ⟨c1', g⟩]
            · rw [up_n c2, z3 j hj, if_neg (by rw [g]; rintro ⟨-, z⟩; exact c2 ((nI_eq (by omega) (by omega)).mp z).symm)])
    (by
      intro s hs
      obtain ⟨z, b, f⟩ := s
      obtain ⟨z1, z2, z3⟩ := hs
      dsimp only at z1 z2 z3
      subst z1
      exact ⟨(f, b), by show BX7_dying_58 set (nI n) x heir (nI n) b f = _; unfold BX7_dying_58; rw [if_pos (nI_le (Nat.le_refl n) (by omega))], z2, z3⟩)
  refine ⟨r.1, ?_, h3⟩
  unfold MX7_dying
  rw [e1, Option.bind_some, e2, Option.bind_some, h2]
/-- the heirs found -/
theorem M_heirs7 {n : Nat} (hn : n ≤ 6) (x heir a : AI) (hr : hrel a x) : ∃ heir', MX7_heirs (nI n) x heir = some heir' ∧ ∀ j, j < n → heir' j = heirF (x 42) (hX a) j n := by
  obtain ⟨r, e, h⟩ := loop_FU (f := fun s_ : Int32 × AI => BX7_heirs_2 (nI n) x s_.1 s_.2)
    (fun i s => s.1 = nI i ∧ ∀ j, j < i → s.2 j = heirF (x 42) (hX a) j n) (fun r => ∀ j, j < n → r j = heirF (x 42) (hX a) j n) n (by omega) ((0 : Int32), heir) ⟨rfl, fun j hj => by omega⟩
    (by
      intro i s hi hs
      obtain ⟨z, f⟩ := s
      obtain ⟨z1, z2⟩ := hs
      dsimp only at z1 z2
      subst z1
      refine Or.inl ⟨(nI (i + 1), upd f i (heirF (x 42) (hX a) i n)), ?_, rfl, fun j hj => ?_⟩
      · show BX7_heirs_2 (nI n) x (nI i) f = _
        unfold BX7_heirs_2
        rw [if_neg (nI_ge hi (by omega)), nI_1, M_heir7 hn (by omega) a x hr, Option.bind_some, gi_nI (by omega) (by decide), nIc (by omega)]
      · show upd f i _ j = _
        by_cases c : j = i
        · subst c; rw [up_s]
        · rw [up_n c, z2 j (by omega)])
    (by
      intro s hs
      obtain ⟨z, f⟩ := s
      obtain ⟨z1, z2⟩ := hs
      dsimp only at z1 z2
      subst z1
      exact ⟨f, by show BX7_heirs_2 (nI n) x (nI n) f = _; unfold BX7_heirs_2; rw [if_pos (nI_le (Nat.le_refl n) (by omega))], z2⟩)
  exact ⟨r, by unfold MX7_heirs; rw [e]; rfl, h⟩
/-- v is copied to x -/
theorem M_works7 (v x : AI) : ∃ x', MX7_works v x = some x' ∧ ∀ j, j < 47 → x' j = v j := by
  obtain ⟨r, e, h⟩ := loop_FU (f := fun s_ : Int32 × AI => BX7_works_2 v s_.1 s_.2)
    (fun i s => s.1 = nI i ∧ ∀ j, j < i → s.2 j = v j) (fun r => ∀ j, j < 47 → r j = v j) 47 (by omega) ((0 : Int32), x) ⟨rfl, fun j hj => by omega⟩
    (by
      intro i s hi hs
      obtain ⟨z, f⟩ := s
      obtain ⟨z1, z2⟩ := hs
      dsimp only at z1 z2
      subst z1
      refine Or.inl ⟨(nI (i + 1), upd f i (v i)), ?_, rfl, fun j hj => ?_⟩
      · show BX7_works_2 v (nI i) f = _
        unfold BX7_works_2
        rw [if_neg (show ¬ (47 : Int32) ≤ nI i from nI_ge (b := 47) hi (by decide)), nI_1, gi_nI (by omega) (by decide), gi_nI (by omega) (by decide), nIc (by omega)]
      · show upd f i _ j = _
        by_cases c : j = i
        · subst c; rw [up_s]
        · rw [up_n c, z2 j (by omega)])
    (by
      intro s hs
      obtain ⟨z, f⟩ := s
      obtain ⟨z1, z2⟩ := hs
      dsimp only at z1 z2
      subst z1
      exact ⟨f, by show BX7_works_2 v (nI 47) f = _; unfold BX7_works_2; rw [if_pos (by decide)], z2⟩)
  exact ⟨r, by unfold MX7_works; rw [e]; rfl, h⟩
