set_option maxRecDepth 100000
/-! the best row of asks on the model's side: all numbers of so many digits, one by one -/
theorem foldF_ext {α : Type} {f g : α → Nat → α} {a : α} : ∀ n, (∀ i x, i < n → f x i = g x i) → foldF f a n = foldF g a n := by
  intro n
  induction n with
  | zero => intro _; rfl
  | succ n ih => intro h; rw [foldF, foldF, ih (fun i x hi => h i x (by omega)), h n _ (by omega)]
theorem foldF_add {α : Type} {f : α → Nat → α} {a : α} {m : Nat} : ∀ k, foldF f a (m + k) = foldF (fun x r => f x (m + r)) (foldF f a m) k := by
  intro k
  induction k with
  | zero => rfl
  | succ k ih => rw [← Nat.add_assoc, foldF, foldF, ih]
theorem foldF_blocks {α : Type} {f : α → Nat → α} {a : α} {B : Nat} : ∀ m, foldF f a (m * B) = foldF (fun x c => foldF (fun y r => f y (c * B + r)) x B) a m := by
  intro m
  induction m with
  | zero => rw [Nat.zero_mul]; rfl
  | succ m ih => rw [Nat.succ_mul, foldF_add, ih, foldF]
def pathS (S : Nat → AI → Option AI) (D : Nat) : Nat → Int32 → AI → Nat → Option (Int32 × AI)
  | 0, row, x, _ => some (row, x)
  | d + 1, row, x, k => match S (k / D ^ d % D) x with
    | none => none
    | some x' => pathS S D d ((10 : Int32) * row + nI (k / D ^ d % D)) x' k
theorem digit_mod {D d e c r : Nat} (h : e < d) (h0 : 0 < D) : (c * D ^ d + r) / D ^ e % D = r / D ^ e % D := by
  obtain ⟨t, rfl⟩ : ∃ t, d = e + 1 + t := ⟨d - e - 1, by omega⟩
  have e1 : c * D ^ (e + 1 + t) + r = D ^ e * (D * (D ^ t * c)) + r := by
    rw [Nat.pow_add, Nat.pow_succ, Nat.mul_comm c, Nat.mul_assoc, Nat.mul_assoc]
  rw [e1, Nat.mul_add_div (Nat.pow_pos h0), Nat.mul_add_mod]
theorem path_mod {S : Nat → AI → Option AI} {D d c r : Nat} (h0 : 0 < D) : ∀ e row x, e ≤ d → pathS S D e row x (c * D ^ d + r) = pathS S D e row x r := by
  intro e
  induction e with
  | zero => intro row x _; rfl
  | succ e ih =>
    intro row x h
    rw [pathS, pathS, digit_mod (by omega) h0]
    cases S (r / D ^ e % D) x with
    | none => rfl
    | some x' => exact ih _ _ (by omega)
def rowG (S : Nat → AI → Option AI) (V : AI → Int64) (D d : Nat) (row : Int32) (x : AI) (acc : Int32 × Int64) (k : Nat) : Int32 × Int64 := match pathS S D d row x k with
  | none => acc
  | some z => leafS (V z.2) z.1 acc
theorem foldF_id {α : Type} {a : α} : ∀ n, foldF (fun (x : α) (_ : Nat) => x) a n = a := by
  intro n
  induction n with
  | zero => rfl
  | succ n ih => rw [foldF, ih]
theorem rows_spec {S : Nat → AI → Option AI} {V : AI → Int64} {D : Nat} (h0 : 0 < D) : ∀ d row x acc, foldF (rowG S V D d row x) acc (D ^ d) = specT S V D d row x acc := by
  intro d
  induction d with
  | zero => intro row x acc; rfl
  | succ d ih =>
    intro row x acc
    rw [show D ^ (d + 1) = D * D ^ d by rw [Nat.pow_succ, Nat.mul_comm], foldF_blocks, specT]
    apply foldF_ext
    intro c y hc
    have key : ∀ r, r < D ^ d → (c * D ^ d + r) / D ^ d % D = c := by
      intro r hr
      rw [Nat.mul_comm c, Nat.mul_add_div (Nat.pow_pos h0), Nat.div_eq_of_lt hr, Nat.add_zero, Nat.mod_eq_of_lt hc]
    cases e : S c x with
    | none =>
      show foldF _ y (D ^ d) = y
      rw [foldF_ext (g := fun y _ => y) (D ^ d) (fun r z hr => by unfold rowG; rw [pathS, key r hr, e]), foldF_id]
    | some x' =>
      show foldF _ y (D ^ d) = specT S V D d ((10 : Int32) * row + nI c) x' y
      rw [← ih]
      apply foldF_ext
      intro r z hr
      unfold rowG
      rw [pathS, key r hr, e]
      dsimp only
      rw [path_mod h0 d _ _ (Nat.le_refl d)]
/-- the same town, told twice -/
def simR (n L : Nat) (cat nights seed : Int32) (B : Nat) (x y : AI) : Prop := ∃ hr has hours, townR n (nI L) (nI hr) cat nights seed has hours x ∧ townR n (nI L) (nI hr) cat nights seed has hours y ∧ moneyI n (nI L) cat has ∧ hr < B
theorem simR.val {n L p B : Nat} (hn : n ≤ 6) (hp : p < n) (hL : L < 64) {cat nights seed : Int32} {x y pd : AI} (h : simR n L cat nights seed B x y) : valV n L p pd x = valV n L p pd y := by
  obtain ⟨hr, has, hours, h1, h2, -, -⟩ := h
  rw [← val_eq hn hp hL (x := x) (a := hours) (has := has) h1.1 h1.2.2.2.2.2.1 h1.2.2.2.2.2.2, ← val_eq hn hp hL (x := y) (a := hours) (has := has) h2.1 h2.2.2.2.2.2.1 h2.2.2.2.2.2.2]
theorem simR.asks {n L p q g B : Nat} (hn : n ≤ 6) (hp : p < n) (hq : q < n) (hpq : p ≠ q) (hg : g < 2 ^ 20) (hB : B < 2 ^ 20) {cat nights seed : Int32} {x y : AI} (hlp : hasB (nI L) (nI p) = true) (hlq : hasB (nI L) (nI q) = true) (h : simR n L cat nights seed B x y) :
    ∃ x' y', MX7_asks (nI p) (nI q) x (nI g) = some x' ∧ MX7_asks (nI p) (nI q) y (nI g) = some y' ∧ simR n L cat nights seed (B + 1) x' y' := by
  obtain ⟨hr, has, hours, h1, h2, h3, h4⟩ := h
  obtain ⟨m, has', x', a1, a2, a3, a4, -, -⟩ := asks_R hn hp hq hpq hg (hr := hr) (by omega) h1 h3 hlp hlq
  obtain ⟨m2, has2, y', b1, b2, b3, b4, -, -⟩ := asks_R hn hp hq hpq hg (hr := hr) (by omega) h2 h3 hlp hlq
  have e := Option.some.inj (a1.symm.trans b1)
  have e2 : has' = has2 := by
    have := congrArg (fun z => z.2.2.1) e
    exact this
  subst e2
  exact ⟨x', y', a2, b2, hr + 1, has', _, a3, b3, a4, by omega⟩
theorem L_pow7 {D many : Nat} (hD : D ≤ 7) (hm : many ≤ 3) (a : Int32) : loopN FU (fun s_ : Int32 × Int32 => BX7_bestRow_33 (nI many) (nI D) a s_.1 s_.2) ((1 : Int32), (0 : Int32)) = some (nI (D ^ many)) := by
  obtain ⟨r, e, h⟩ := loop_FU (f := fun s_ : Int32 × Int32 => BX7_bestRow_33 (nI many) (nI D) a s_.1 s_.2) (fun i s => s.1 = nI (D ^ i) ∧ s.2 = nI i) (fun r => r = nI (D ^ many)) many (by omega) ((1 : Int32), (0 : Int32)) ⟨rfl, rfl⟩
    (by
      intro i s hi hs
      obtain ⟨z, y⟩ := s
      obtain ⟨z1, z2⟩ := hs
      dsimp only at z1 z2
      subst z1; subst z2
      exact Or.inl ⟨_, by show BX7_bestRow_33 (nI many) (nI D) a (nI (D ^ i)) (nI i) = _; unfold BX7_bestRow_33; rw [if_neg (nI_ge hi (by omega)), nI_1, pk_mul, ← Nat.pow_succ], rfl, rfl⟩)
    (by
      intro s hs
      obtain ⟨z, y⟩ := s
      obtain ⟨z1, z2⟩ := hs
      dsimp only at z1 z2
      subst z1; subst z2
      exact ⟨_, by show BX7_bestRow_33 (nI many) (nI D) a (nI (D ^ many)) (nI many) = _; unfold BX7_bestRow_33; rw [if_pos (nI_le (Nat.le_refl _) (by omega))], rfl⟩)
  rw [e, h]
theorem pow7 {D many : Nat} (hD : D ≤ 7) (hm : many ≤ 3) : D ^ many ≤ 343 := Nat.le_trans (Nat.pow_le_pow_left hD many) (Nat.le_trans (Nat.pow_le_pow_right (by decide) hm) (by decide))
theorem L_digits7 {n p g L many k B : Nat} (hn : n ≤ 6) (hp : p < n) (hg : g < 2 ^ 20) (hB : B + many < 2 ^ 20) (hm : many ≤ 3) (hk : k < (n + 1) ^ many) {cat nights seed : Int32} {pk : Nat → Nat} {pr v x : AI} (hR : simR n L cat nights seed B x v) (row0 cg : Int32) (wh bs : Int64) (heir th : AI) :
    ∃ row ok x', loopN FU (fun s_ : Int32 × Int32 × Bool × Int32 × AI => BX7_bestRow_78 (nI p) (nI many) (nI g) (nI (n + 1)) (nI ((n + 1) ^ many)) (setF (fun j => canA (nI L) pk pr p j) n) row0 (nI k) cg wh bs heir th s_.1 s_.2.1 s_.2.2.1 s_.2.2.2.1 s_.2.2.2.2) (nI ((n + 1) ^ many), (0 : Int32), true, (0 : Int32), x) = some (row, ok, x') ∧
      ((ok = true ∧ ∃ y, pathS (stepS p g L pk pr) (n + 1) many 0 v k = some (row, y) ∧ simR n L cat nights seed (B + many) x' y) ∨ (ok = false ∧ pathS (stepS p g L pk pr) (n + 1) many 0 v k = none)) := by
  have hD : 0 < n + 1 := by omega
  have hP := pow7 (D := n + 1) (many := many) (by omega) hm
  obtain ⟨r, e, h⟩ := loop_FU (f := fun s_ : Int32 × Int32 × Bool × Int32 × AI => BX7_bestRow_78 (nI p) (nI many) (nI g) (nI (n + 1)) (nI ((n + 1) ^ many)) (setF (fun j => canA (nI L) pk pr p j) n) row0 (nI k) cg wh bs heir th s_.1 s_.2.1 s_.2.2.1 s_.2.2.2.1 s_.2.2.2.2)
    (fun i s => s.1 = nI ((n + 1) ^ (many - i)) ∧ s.2.2.2.1 = nI i ∧ ((s.2.2.1 = true ∧ ∃ y, pathS (stepS p g L pk pr) (n + 1) many 0 v k = pathS (stepS p g L pk pr) (n + 1) (many - i) s.2.1 y k ∧ simR n L cat nights seed (B + i) s.2.2.2.2 y) ∨ (s.2.2.1 = false ∧ pathS (stepS p g L pk pr) (n + 1) many 0 v k = none)))
    (fun r => (r.2.1 = true ∧ ∃ y, pathS (stepS p g L pk pr) (n + 1) many 0 v k = some (r.1, y) ∧ simR n L cat nights seed (B + many) r.2.2 y) ∨ (r.2.1 = false ∧ pathS (stepS p g L pk pr) (n + 1) many 0 v k = none)) many (by omega) (nI ((n + 1) ^ many), (0 : Int32), true, (0 : Int32), x) ⟨rfl, rfl, Or.inl ⟨rfl, v, rfl, hR⟩⟩
    (by
      intro i s hi hs
      obtain ⟨s1, row, ok, s4, mx⟩ := s
      obtain ⟨z1, z2, z3⟩ := hs
      dsimp only at z1 z2 z3
      subst z1; subst z2
      show (∃ s', BX7_bestRow_78 (nI p) (nI many) (nI g) (nI (n + 1)) (nI ((n + 1) ^ many)) (setF (fun j => canA (nI L) pk pr p j) n) row0 (nI k) cg wh bs heir th (nI ((n + 1) ^ (many - i))) row ok (nI i) mx = some (.inl s') ∧ _) ∨ (∃ r, BX7_bestRow_78 (nI p) (nI many) (nI g) (nI (n + 1)) (nI ((n + 1) ^ many)) (setF (fun j => canA (nI L) pk pr p j) n) row0 (nI k) cg wh bs heir th (nI ((n + 1) ^ (many - i))) row ok (nI i) mx = some (.inr r) ∧ _)
      unfold BX7_bestRow_78
      rw [if_neg (nI_ge hi (by omega)), nI_1]
      rcases z3 with ⟨rfl, y, z4, z5⟩ | ⟨rfl, z4⟩
      · obtain ⟨t, ht⟩ : ∃ t, many - i = t + 1 := ⟨many - i - 1, by omega⟩
        have ht2 : many - (i + 1) = t := by omega
        have hPt := pow7 (D := n + 1) (many := t) (by omega) (by omega)
        have hPt1 := pow7 (D := n + 1) (many := t + 1) (by omega) (by omega)
        have hPp : 0 < (n + 1) ^ t := Nat.pow_pos hD
        have q1 : nI ((n + 1) ^ (t + 1)) / nI (n + 1) = nI ((n + 1) ^ t) := by
          rw [pk_div (by omega) (by omega) (by omega), Nat.pow_succ, Nat.mul_div_cancel _ hD]
        have nz : ∀ m : Nat, 0 < m → m < 2 ^ 31 → ¬ nI m = 0 := fun m h1 h2 z => absurd ((nI_eq (b := 0) h2 (by decide)).mp z) (by omega)
        rw [ift, ht, q1, gz_of (nz _ hD (by omega)), gz_of (nz _ hPp (by omega)), gz_of (nz _ hD (by omega))]
        simp only [lt_]
        have q2 : (nI k / nI ((n + 1) ^ t)) - (nI k / nI ((n + 1) ^ t)) / nI (n + 1) * nI (n + 1) = nI (k / (n + 1) ^ t % (n + 1)) := by
          rw [pk_div (by omega) hPp (by omega)]
          have : k / (n + 1) ^ t ≤ k := Nat.div_le_self _ _
          exact pk_rem (by omega) hD (by omega)
        have hc : k / (n + 1) ^ t % (n + 1) < n + 1 := Nat.mod_lt _ hD
        rw [q2]
        have hp2 : pathS (stepS p g L pk pr) (n + 1) many 0 v k = (match stepS p g L pk pr (k / (n + 1) ^ t % (n + 1)) y with | none => none | some x' => pathS (stepS p g L pk pr) (n + 1) t ((10 : Int32) * row + nI (k / (n + 1) ^ t % (n + 1))) x' k) := by rw [z4, ht, pathS]
        generalize k / (n + 1) ^ t % (n + 1) = c at hc hp2 ⊢
        refine Or.inl ?_
        by_cases c0 : c = 0
        · subst c0
          rw [if_pos (show nI 0 = 0 from rfl)]
          refine ⟨_, rfl, by rw [ht2], rfl, Or.inl ⟨rfl, y, ?_, ?_⟩⟩
          · rw [ht2, hp2, stepS_0]
          · obtain ⟨hr, has, hours, a1, a2, a3, a4⟩ := z5
            exact ⟨hr, has, hours, a1, a2, a3, by omega⟩
        · obtain ⟨j, rfl⟩ : ∃ j, c = j + 1 := ⟨c - 1, by omega⟩
          rw [if_neg (nz _ (by omega) (by omega)), nI_m1 (by omega), Nat.add_sub_cancel, M_bit, Option.bind_some, setF_has n j (by omega) (by omega), decide_eq_true (show j < n by omega), Bool.true_and]
          cases c1 : canA (nI L) pk pr p j
          · rw [iff_]
            exact ⟨_, rfl, by rw [ht2], rfl, Or.inr ⟨rfl, by rw [hp2, stepS_n c1]⟩⟩
          · obtain ⟨d1, d2, d3⟩ := canA_of c1
            obtain ⟨x', y', a1, a2, a3⟩ := z5.asks (B := B + i) hn hp (show j < n by omega) d1 hg (by omega) d2 d3
            rw [ift, a1, Option.bind_some]
            exact ⟨_, rfl, by rw [ht2], rfl, Or.inl ⟨rfl, y', by rw [ht2, hp2, stepS_s c1, a2], a3⟩⟩
      · rw [iff_]
        exact Or.inr ⟨_, rfl, Or.inr ⟨rfl, z4⟩⟩)
    (by
      intro s hs
      obtain ⟨s1, row, ok, s4, mx⟩ := s
      obtain ⟨z1, z2, z3⟩ := hs
      dsimp only at z1 z2 z3
      subst z1; subst z2
      refine ⟨_, by show BX7_bestRow_78 (nI p) (nI many) (nI g) (nI (n + 1)) (nI ((n + 1) ^ many)) (setF (fun j => canA (nI L) pk pr p j) n) row0 (nI k) cg wh bs heir th _ row ok (nI many) mx = _; unfold BX7_bestRow_78; rw [if_pos (nI_le (Nat.le_refl _) (by omega))], ?_⟩
      rcases z3 with ⟨rfl, y, z4, z5⟩ | ⟨rfl, z4⟩
      · exact Or.inl ⟨rfl, y, by rw [z4, Nat.sub_self, pathS], z5⟩
      · exact Or.inr ⟨rfl, z4⟩)
  obtain ⟨r1, r2, r3⟩ := r
  exact ⟨r1, r2, r3, e, h⟩
