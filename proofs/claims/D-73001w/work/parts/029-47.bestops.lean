set_option maxRecDepth 100000
/-! the rows again: what is found first does not matter, and is a number -/
def isL (v : Int64) : Prop := ∃ m, m < 2 ^ 63 ∧ v = lN m
theorem isL_gt {v : Int64} (h : isL v) : (-1 : Int64) < v := by
  obtain ⟨m, hm, rfl⟩ := h
  have h0 : ¬ lN m < lN 0 := fun z => absurd ((pk_lLT hm (by decide)).mp z) (by omega)
  exact Int64.lt_of_lt_of_le (by decide : (-1 : Int64) < lN 0) (Int64.not_lt.mp h0)
theorem isL_max {a b : Int64} (h : isL b) (h2 : ¬ a < b) (h3 : isL a ∨ a = -1) : isL a := by
  rcases h3 with h3 | h3
  · exact h3
  · subst h3; exact absurd (isL_gt h) h2
theorem specT_L {S : Nat → AI → Option AI} {V : AI → Int64} {D : Nat} (P : Nat → AI → Prop) (h0 : ∀ x, S 0 x = some x) (hS : ∀ d x c x', c < D + 1 → P (d + 1) x → S c x = some x' → P d x') (hV : ∀ x, P 0 x → isL (V x)) : ∀ d row x acc, P d x → (isL acc.2 ∨ acc.2 = -1) → isL (specT S V (D + 1) d row x acc).2 := by
  intro d
  induction d with
  | zero =>
    intro row x acc hP ha
    rw [specT]; unfold leafS
    by_cases c : acc.2 < V x
    · rw [if_pos c]; exact hV x hP
    · rw [if_neg c]; exact isL_max (hV x hP) c ha
  | succ d ih =>
    intro row x acc hP ha
    rw [specT]
    have hJ : ∀ m, m ≤ D → isL (foldF (fun acc c => match S c x with | none => acc | some x' => specT S V (D + 1) d ((10 : Int32) * row + nI c) x' acc) acc (m + 1)).2 := by
      intro m
      induction m with
      | zero =>
        intro _
        show isL (match S 0 x with | none => acc | some x' => specT S V (D + 1) d ((10 : Int32) * row + nI 0) x' acc).2
        rw [h0]
        exact ih _ x acc (hS d x 0 x (by omega) hP (h0 x)) ha
      | succ m ihm =>
        intro hm
        have h := ihm (by omega)
        rw [foldF]
        cases e : S (m + 1) x with
        | none => exact h
        | some x' => exact ih _ x' _ (hS d x (m + 1) x' (by omega) hP e) (Or.inl h)
    exact hJ D (Nat.le_refl D)
theorem specT_row {S : Nat → AI → Option AI} {V : AI → Int64} {D : Nat} (h0 : ∀ x, S 0 x = some x) (r0 r1 : Int32) : ∀ d row x, isL (V x) → specT S V (D + 1) d row x (r0, -1) = specT S V (D + 1) d row x (r1, -1) := by
  intro d
  induction d with
  | zero =>
    intro row x h
    rw [specT, specT]; unfold leafS
    rw [if_pos (isL_gt h), if_pos (isL_gt h)]
  | succ d ih =>
    intro row x h
    have hstart : ∀ (F : Int32 × Int64 → Nat → Int32 × Int64), F (r0, -1) 0 = F (r1, -1) 0 → foldF F (r0, -1) (D + 1) = foldF F (r1, -1) (D + 1) := by
      intro F hF
      rw [Nat.add_comm D 1, foldF_add, foldF_add (a := (r1, -1))]
      show foldF _ (F (r0, -1) 0) D = foldF _ (F (r1, -1) 0) D
      rw [hF]
    rw [specT, specT]
    apply hstart
    simp only [h0]
    exact ih _ x h
/-- the sum is a number -/
theorem val_isL {n p L : Nat} (hn : n ≤ 6) (hp : p < n) (hL : L < 64) {hour cat nights seed : Int32} {has hours x pd : AI} {dN : Nat → Nat} (hd : ∀ j, j < n → pd j = nI (dN j) ∧ dN j ≤ 100) (hR : townR n (nI L) hour cat nights seed has hours x) (hM : moneyI n (nI L) cat has) : isL (valV n L p pd x) := by
  obtain ⟨L', hN, cN, g1, g2, g3, g4, g5, g6⟩ := hM
  have hp2 := pow_le hn
  rw [← val_eq hn hp hL (pd := pd) (x := x) (a := hours) (has := has) hR.1 hR.2.2.2.2.2.1 hR.2.2.2.2.2.2]
  have hw : ∀ s, weightF (nI L) s pd n = lN (weightN (nI L) s dN n) ∧ weightN (nI L) s dN n < 2 ^ 63 := fun s => ⟨weight_lN n hd, Nat.lt_of_le_of_lt (Nat.le_trans (weightN_le n (fun j hj => (hd j hj).2)) (pow100 hn)) (by decide)⟩
  have hle : ∀ s, thenN (nI L) hours n hN s p ≤ 594 := fun s => by have h1 := thenN_le (a := hours) hn g6 s; have h2 := sumTo_get (f := thenN (nI L) hours n hN s) n p hp; omega
  have hv : ∀ s, Int32.toInt64 (thenH (nI L) hours n has s p) = lN (thenN (nI L) hours n hN s p) := fun s => by rw [thenH_nI g3 s hp, i2l (by have := hle s; omega)]
  exact ⟨_, sum_small (liv := nI L) (L := L) (V := fun s => thenN (nI L) hours n hN s p) hn hL (fun j hj => (hd j hj).2) hle, sum_lN (liv := nI L) hw hv (L + 1)⟩
/-- a town on the way -/
def nodeP (n L B : Nat) (cat nights seed : Int32) (d : Nat) (x : AI) : Prop := ∃ hr has hours, townR n (nI L) (nI hr) cat nights seed has hours x ∧ moneyI n (nI L) cat has ∧ hr + d < B
theorem nodeP_step {n L B p g : Nat} (hn : n ≤ 6) (hp : p < n) (hg : g < 2 ^ 20) (hB : B < 2 ^ 20) {cat nights seed : Int32} {pk : Nat → Nat} {pr : AI} : ∀ d x c x', c < n + 1 → nodeP n L B cat nights seed (d + 1) x → stepS p g L pk pr c x = some x' → nodeP n L B cat nights seed d x' := by
  intro d x c x' hc hP h
  obtain ⟨hr, has, hours, h1, h2, h3⟩ := hP
  cases c with
  | zero =>
    have h : some x = some x' := h
    have h := Option.some.inj h
    subst h
    exact ⟨hr, has, hours, h1, h2, by omega⟩
  | succ i =>
    cases c1 : canA (nI L) pk pr p i
    · rw [stepS_n c1] at h; cases h
    · rw [stepS_s c1] at h
      obtain ⟨d1, d2, d3⟩ := canA_of c1
      obtain ⟨m, has', y, a1, a2, a3, a4, -, -⟩ := asks_R hn hp (show i < n by omega) d1 hg (hr := hr) (by omega) h1 h2 d2 d3
      rw [a2] at h
      have h := Option.some.inj h
      subst h
      exact ⟨hr + 1, has', _, a3, a4, by omega⟩
theorem M_bestRow7 {n p g L many hr : Nat} (hn : n ≤ 6) (hp : p < n) (hg : g < 2 ^ 20) (hL : L < 64) (hm : many ≤ 3) (hhr : hr < 2000) {cat nights seed : Int32} {pk : Nat → Nat} {pr kind near pd dies has hours v : AI} (hk : kindR n pk pr kind near) (hds : ∀ j, j < n → dies j = pd j) (hR : townR n (nI L) (nI hr) cat nights seed has hours v) (hM : moneyI n (nI L) cat has) (cg : Int32) (wh : Int64) (x heir th : AI) :
    ∃ r, MX7_bestRow (nI p) (nI many) cg wh (nI g) (nI n) v kind near x heir th dies = some r ∧ (r.1, r.2.2.2.1) = specT (stepS p g L pk pr) (valV n L p pd) (n + 1) many 0 v (0, -1) := by
  have hP := pow7 (D := n + 1) (many := many) (by omega) hm
  obtain ⟨r, e, h⟩ := loop_FU (f := fun s_ : Int32 × Int32 × Int32 × Int64 × Int64 × AI × AI × AI => BX7_bestRow_54 (nI p) (nI many) (nI g) (nI n) v dies (nI (n + 1)) (nI ((n + 1) ^ many)) (setF (fun j => canA (nI L) pk pr p j) n) s_.1 s_.2.1 s_.2.2.1 s_.2.2.2.1 s_.2.2.2.2.1 s_.2.2.2.2.2.1 s_.2.2.2.2.2.2.1 s_.2.2.2.2.2.2.2)
    (fun i s => s.2.1 = nI i ∧ (s.1, s.2.2.2.2.1) = foldF (rowG (stepS p g L pk pr) (valV n L p pd) (n + 1) many 0 v) (0, -1) i)
    (fun r => (r.1, r.2.2.2.2.2.2) = foldF (rowG (stepS p g L pk pr) (valV n L p pd) (n + 1) many 0 v) (0, -1) ((n + 1) ^ many)) ((n + 1) ^ many) (by omega) ((0 : Int32), (0 : Int32), cg, wh, (-1 : Int64), x, heir, th) ⟨rfl, rfl⟩
    (by
      intro i s hi hs
      obtain ⟨row, s2, cg', wh', bs, mx, he, th'⟩ := s
      obtain ⟨z1, z2⟩ := hs
      dsimp only at z1 z2
      subst z1
      refine Or.inl ?_
      show ∃ s', BX7_bestRow_54 (nI p) (nI many) (nI g) (nI n) v dies (nI (n + 1)) (nI ((n + 1) ^ many)) (setF (fun j => canA (nI L) pk pr p j) n) row (nI i) cg' wh' bs mx he th' = some (.inl s') ∧ _
      unfold BX7_bestRow_54
      obtain ⟨x', ex, hx⟩ := M_works7 v mx
      obtain ⟨row', ok, x2, e1, e2⟩ := L_digits7 (k := i) (B := hr + 1) (pk := pk) (pr := pr) hn hp hg (by omega) hm hi ⟨hr, has, hours, hR.copy hn hx, hR, hM, by omega⟩ row cg' wh' bs he th'
      rw [if_neg (nI_ge hi (by omega)), nI_1, ex, Option.bind_some, e1, Option.bind_some]
      dsimp only
      rcases e2 with ⟨rfl, y, e3, e4⟩ | ⟨rfl, e3⟩
      · have e5 := e4.val (pd := pd) hn hp hL
        obtain ⟨hr', has', hours', t1, t2, t3, t4⟩ := e4
        obtain ⟨r7, f1, f2, -⟩ := M_mean7 hn hp hL cg' x2 he dies th' hours' has' t1.1 t1.2.2.2.2.2.1 t1.2.2.2.2.2.2
        have hw' : (fun set => weightF (nI L) set dies n) = (fun set => weightF (nI L) set pd n) := funext (fun s => weightF_congr n hds)
        have f3 : r7.1 = valV n L p pd y := by rw [f2, hw', val_eq hn hp hL t1.1 t1.2.2.2.2.2.1 t1.2.2.2.2.2.2, e5]
        rw [ift, f1, Option.bind_some, f3]
        have hG : foldF (rowG (stepS p g L pk pr) (valV n L p pd) (n + 1) many 0 v) (0, -1) (i + 1) = leafS (valV n L p pd y) row' (row, bs) := by
          show rowG _ _ _ _ _ _ (foldF _ _ i) i = _
          rw [← z2]; unfold rowG; rw [e3]
        by_cases c : 0 < lg_cmp (valV n L p pd y) bs
        · rw [if_pos c]
          exact ⟨_, rfl, rfl, by rw [hG]; unfold leafS; rw [if_pos (show bs < valV n L p pd y from (lg_cmp_gt _ _).mp c)]⟩
        · rw [if_neg c]
          exact ⟨_, rfl, rfl, by rw [hG]; unfold leafS; rw [if_neg (show ¬ bs < valV n L p pd y from fun z => c ((lg_cmp_gt _ _).mpr z))]⟩
      · rw [iff_]
        refine ⟨_, rfl, rfl, ?_⟩
        show (row, bs) = rowG _ _ _ _ _ _ (foldF _ _ i) i
        rw [← z2]; unfold rowG; rw [e3])
    (by
      intro s hs
      obtain ⟨row, s2, cg', wh', bs, mx, he, th'⟩ := s
      obtain ⟨z1, z2⟩ := hs
      dsimp only at z1 z2
      subst z1
      exact ⟨_, by show BX7_bestRow_54 (nI p) (nI many) (nI g) (nI n) v dies (nI (n + 1)) (nI ((n + 1) ^ many)) (setF (fun j => canA (nI L) pk pr p j) n) row (nI ((n + 1) ^ many)) cg' wh' bs mx he th' = _; unfold BX7_bestRow_54; rw [if_pos (nI_le (Nat.le_refl _) (by omega))], z2⟩)
  unfold MX7_bestRow
  rw [M_canAsk7 hn hp v hk, Option.bind_some, hR.1, nI_1, L_pow7 (D := n + 1) (by omega) hm, Option.bind_some, e, Option.bind_some]
  exact ⟨_, rfl, by rw [← rows_spec (by omega)]; exact h⟩
/-! why not -/
def whyN (n : Nat) (liv p : Int32) (ok : Bool) : Int32 := if isP n p = false then 1 else if ok = false then 2 else if hasB liv p = false then 5 else 0
theorem M_planWhy1 {n : Nat} (h0 : 0 < n) (hn : n ≤ 6) (p liv : Int32) (ok : Bool) : MX1_planWhy p ok (nI n) liv = some (whyN n liv p ok) := by
  unfold MX1_planWhy whyN
  rw [M_isP1 h0 hn, Option.bind_some, M_isLiving4, Option.bind_some]
  cases isP n p
  · rw [iff_]; rfl
  · cases ok
    · rw [ift, iff_]; rfl
    · cases hasB liv p
      · rw [ift, ift, iff_]; rfl
      · rw [ift, ift, ift]; rfl
theorem M_refNum7 {n : Nat} (p q lo hi : Int32) (v : AI) : MX7_refusesNumber p q lo hi (nI n) v = some (whyN n (v 42) p (inB q lo hi)) := by
  unfold MX7_refusesNumber whyN
  rw [M_isP7, Option.bind_some, M_in7, Option.bind_some, M_bit, Option.bind_some]
  cases isP n p
  · rw [iff_]; rfl
  · cases inB q lo hi
    · rw [ift, iff_]; rfl
    · cases hasB (v 42) p
      · rw [ift, ift, iff_]; rfl
      · rw [ift, ift, ift]; rfl
theorem whyN_cases (n : Nat) (liv p : Int32) (ok : Bool) : (whyN n liv p ok = 0 ∧ isP n p = true ∧ ok = true ∧ hasB liv p = true) ∨ (whyN n liv p ok = 1 ∨ whyN n liv p ok = 2 ∨ whyN n liv p ok = 5) := by
  unfold whyN
  cases isP n p
  · exact Or.inr (Or.inl rfl)
  · cases ok
    · exact Or.inr (Or.inr (Or.inl rfl))
    · cases hasB liv p
      · exact Or.inr (Or.inr (Or.inr rfl))
      · exact Or.inl ⟨rfl, rfl, rfl, rfl⟩
theorem in13 {q : Int32} (h : inB q 1 3 = true) : ∃ m, m ≤ 3 ∧ 0 < m ∧ q = nI m := by
  unfold inB at h
  simp only [Bool.and_eq_true, decide_eq_true_eq] at h
  obtain ⟨j, hj, rfl⟩ := nI_of (x := q) (fun z => absurd (Int32.lt_of_lt_of_le z (by decide : (0 : Int32) ≤ 1)) (Int32.not_lt.mpr h.1))
  have h1 := (nI_leI (a := 1) (by decide) hj).mp h.1
  exact ⟨j, (nI_leI hj (by decide)).mp h.2, h1, rfl⟩

theorem M_best6 {n p g L hr many : Nat} (hn : n ≤ 6) (hp : p < n) (hg : g < 2 ^ 20) (hL : L < 64) (hm : many ≤ 3) (hm0 : 0 < many) (hhr : hr < 2000) {cat nights seed : Int32} {has hours v pr pd : AI} {pk : Nat → Nat} (hR : townR n (nI L) (nI hr) cat nights seed has hours v) (hM : moneyI n (nI L) cat has) (k_row : Int32) (k_towns0_has_ : AI) (k_towns0_hours_ : AI) (k_towns1_living : Int32) (k_towns1_hour : Int32) (k_towns1_cat : Int32) (k_towns1_nights : Int32) (k_towns1_seed : Int32) (k_towns2_living : Int32) (k_towns2_hour : Int32) (k_towns2_cat : Int32) (k_towns2_nights : Int32) (k_towns2_seed : Int32) (k_towns3_living : Int32) (k_towns3_hour : Int32) (k_towns3_cat : Int32) (k_towns3_nights : Int32) (k_towns3_seed : Int32) (k_night_then_living : Int32) (k_night_then_hour : Int32) (k_night_then_cat : Int32) (k_night_then_nights : Int32) (k_night_then_seed : Int32) (k_towns1_has_ : AI) (k_towns1_hours_ : AI) (k_towns2_has_ : AI) (k_towns2_hours_ : AI) (k_towns3_has_ : AI) (k_towns3_hours_ : AI) (k_night_then_has_ : AI) (k_night_then_hours_ : AI) :
    ∃ r, MX6_best (nI p) (nI many) k_row (nI L) (nI hr) cat nights seed k_towns0_has_ k_towns0_hours_ has hours (nI g) (nI n) k_towns1_living k_towns1_hour k_towns1_cat k_towns1_nights k_towns1_seed k_towns2_living k_towns2_hour k_towns2_cat k_towns2_nights k_towns2_seed k_towns3_living k_towns3_hour k_towns3_cat k_towns3_nights k_towns3_seed k_night_then_living k_night_then_hour k_night_then_cat k_night_then_nights k_night_then_seed k_towns1_has_ k_towns1_hours_ k_towns2_has_ k_towns2_hours_ k_towns3_has_ k_towns3_hours_ k_night_then_has_ k_night_then_hours_ n pk pd pr = some r ∧ (r.2.2.1, r.2.2.2.1) = specT (stepS p g L pk pr) (valV n L p pd) (n + 1) many 0 v (k_row, -1) ∧ r.2.2.2.2.2.2.2.2.2.2.2.1 = wholeF (nI L) n := by
  unfold MX6_best MX4_become
  rw [Option.bind_some]
  dsimp only
  obtain ⟨r, e1, e2, e3⟩ := M_tries0 (many := many) (g := g) (pk := pk) (pr := pr) (pd := pd) hn hp hg hL (d := many) (by omega) hm hm0 (by omega) 0 k_row (-1) k_towns1_living k_towns1_hour k_towns1_cat k_towns1_nights k_towns1_seed k_towns1_has_ k_towns1_hours_ k_towns2_living k_towns2_hour k_towns2_cat k_towns2_nights k_towns2_seed k_towns3_living k_towns3_hour k_towns3_cat k_towns3_nights k_towns3_seed k_night_then_living k_night_then_hour k_night_then_cat k_night_then_nights k_night_then_seed k_towns2_has_ k_towns2_hours_ k_towns3_has_ k_towns3_hours_ k_night_then_has_ k_night_then_hours_ (become_R (t := k_towns0_has_) (u := k_towns0_hours_) hn hR) (become_M (t := k_towns0_has_) hn hM)
  rw [e1, Option.bind_some]
  exact ⟨_, rfl, e2, e3⟩
theorem op_best {n g : Nat} (h0 : 0 < n) (hn : n ≤ 6) (hg : g < 2 ^ 20) {liv hour cat nights seed : Int32} {has hours v : AI} (hR : townR n liv hour cat nights seed has hours v) (hI : townI n liv hour cat nights seed has) {pk : Nat → Nat} {pr kind near pd dies : AI} (hk : kindR n pk pr kind near) {dN : Nat → Nat} (hd : ∀ j, j < n → pd j = nI (dN j) ∧ dN j ≤ 100) (hds : ∀ j, j < n → dies j = pd j) (p q : Int32) (o_plans_person : Int32) (o_plans_many : Int32) (o_plans_row : Int32) (o_plans_most : Int64) (o_plans_night_all : Int64) (o_plans_towns0_living : Int32) (o_plans_towns0_hour : Int32) (o_plans_towns0_cat : Int32) (o_plans_towns0_nights : Int32) (o_plans_towns0_seed : Int32) (o_plans_towns1_living : Int32) (o_plans_towns1_hour : Int32) (o_plans_towns1_cat : Int32) (o_plans_towns1_nights : Int32) (o_plans_towns1_seed : Int32) (o_plans_towns2_living : Int32) (o_plans_towns2_hour : Int32) (o_plans_towns2_cat : Int32) (o_plans_towns2_nights : Int32) (o_plans_towns2_seed : Int32) (o_plans_towns3_living : Int32) (o_plans_towns3_hour : Int32) (o_plans_towns3_cat : Int32) (o_plans_towns3_nights : Int32) (o_plans_towns3_seed : Int32) (o_plans_night_then_living : Int32) (o_plans_night_then_hour : Int32) (o_plans_night_then_cat : Int32) (o_plans_night_then_nights : Int32) (o_plans_night_then_seed : Int32) (o_plans_towns0_has_ : AI) (o_plans_towns0_hours_ : AI) (o_plans_towns1_has_ : AI) (o_plans_towns1_hours_ : AI) (o_plans_towns2_has_ : AI) (o_plans_towns2_hours_ : AI) (o_plans_towns3_has_ : AI) (o_plans_towns3_hours_ : AI) (o_plans_night_then_has_ : AI) (o_plans_night_then_hours_ : AI) (m_catGets : Int32) (m_whole : Int64) (m_bestSum : Int64) (m_x_ : AI) (m_heir_ : AI) (m_then_ : AI) :
    ∃ a tr rX rM, MX1_best p q (nI g) (nI n) liv hour cat nights seed o_plans_person o_plans_many o_plans_row o_plans_most o_plans_night_all has hours o_plans_towns0_living o_plans_towns0_hour o_plans_towns0_cat o_plans_towns0_nights o_plans_towns0_seed o_plans_towns1_living o_plans_towns1_hour o_plans_towns1_cat o_plans_towns1_nights o_plans_towns1_seed o_plans_towns2_living o_plans_towns2_hour o_plans_towns2_cat o_plans_towns2_nights o_plans_towns2_seed o_plans_towns3_living o_plans_towns3_hour o_plans_towns3_cat o_plans_towns3_nights o_plans_towns3_seed o_plans_night_then_living o_plans_night_then_hour o_plans_night_then_cat o_plans_night_then_nights o_plans_night_then_seed o_plans_towns0_has_ o_plans_towns0_hours_ o_plans_towns1_has_ o_plans_towns1_hours_ o_plans_towns2_has_ o_plans_towns2_hours_ o_plans_towns3_has_ o_plans_towns3_hours_ o_plans_night_then_has_ o_plans_night_then_hours_ n pk pd pr = some (a, tr, -1, rX) ∧ MX7_best p q m_catGets m_whole m_bestSum (nI g) (nI n) v m_x_ m_heir_ m_then_ kind dies near = some (a, 0, tr, -1, rM) ∧ ¬ tr = 4 := by
  have hM := hI.money
  obtain ⟨L, hN, cN, hr, nN, sN, hL, hL2, -, -, -, -, hhr, hhr2, -⟩ := hI
  have hp2 := pow_le hn
  subst hL; subst hhr
  unfold MX1_best MX7_best MX1_anew MX1_no MX7_refused MX7_good
  rw [M_in]
  simp only [Option.bind_some]
  rw [M_planWhy1 h0 hn, M_refNum7, hR.1]
  simp only [Option.bind_some]
  rcases whyN_cases n (nI L) p (inB q 1 3) with ⟨e, e1, e2, -⟩ | e
  · obtain ⟨k, hk6, rfl⟩ := isP_of hn e1
    obtain ⟨m, hm, hm0, rfl⟩ := in13 e2
    obtain ⟨r1, a1, a2, a3⟩ := M_best6 (g := g) (pk := pk) (pr := pr) (pd := pd) hn hk6 hg (show L < 64 by omega) hm hm0 (show hr < 2000 by omega) hR hM o_plans_row o_plans_towns0_has_ o_plans_towns0_hours_ o_plans_towns1_living o_plans_towns1_hour o_plans_towns1_cat o_plans_towns1_nights o_plans_towns1_seed o_plans_towns2_living o_plans_towns2_hour o_plans_towns2_cat o_plans_towns2_nights o_plans_towns2_seed o_plans_towns3_living o_plans_towns3_hour o_plans_towns3_cat o_plans_towns3_nights o_plans_towns3_seed o_plans_night_then_living o_plans_night_then_hour o_plans_night_then_cat o_plans_night_then_nights o_plans_night_then_seed o_plans_towns1_has_ o_plans_towns1_hours_ o_plans_towns2_has_ o_plans_towns2_hours_ o_plans_towns3_has_ o_plans_towns3_hours_ o_plans_night_then_has_ o_plans_night_then_hours_
    obtain ⟨r7, b1, b2⟩ := M_bestRow7 (g := g) (many := m) hn hk6 hg (show L < 64 by omega) hm (show hr < 2000 by omega) hk hds hR hM m_catGets m_whole m_x_ m_heir_ m_then_
    have hV : isL (valV n L k pd v) := val_isL hn hk6 (by omega) hd hR hM
    rw [specT_row (S := stepS k g L pk pr) (D := n) (fun _ => rfl) o_plans_row 0 m 0 v hV, ← b2] at a2
    have a4 : r1.2.2.1 = r7.1 := congrArg Prod.fst a2
    have a5 : r1.2.2.2.1 = r7.2.2.2.1 := congrArg Prod.snd a2
    rw [e, if00, if_pos (show (0 : Int32) ≤ 0 by decide), a1, Option.bind_some, b1, Option.bind_some]
    rw [a4]
    exact ⟨_, _, _, _, rfl, rfl, by decide⟩
  · rcases e with e | e | e <;> rw [e, if_neg (by decide), if_neg (by decide)] <;> exact ⟨_, _, _, _, rfl, rfl, by decide⟩
theorem op_bestMean {n g : Nat} (h0 : 0 < n) (hn : n ≤ 6) (hg : g < 2 ^ 20) {liv hour cat nights seed : Int32} {has hours v : AI} (hR : townR n liv hour cat nights seed has hours v) (hI : townI n liv hour cat nights seed has) {pk : Nat → Nat} {pr kind near pd dies : AI} (hk : kindR n pk pr kind near) {dN : Nat → Nat} (hd : ∀ j, j < n → pd j = nI (dN j) ∧ dN j ≤ 100) (hds : ∀ j, j < n → dies j = pd j) (p q : Int32) (lower : Bool) (o_plans_person : Int32) (o_plans_many : Int32) (o_plans_row : Int32) (o_plans_most : Int64) (o_plans_night_all : Int64) (o_plans_towns0_living : Int32) (o_plans_towns0_hour : Int32) (o_plans_towns0_cat : Int32) (o_plans_towns0_nights : Int32) (o_plans_towns0_seed : Int32) (o_plans_towns1_living : Int32) (o_plans_towns1_hour : Int32) (o_plans_towns1_cat : Int32) (o_plans_towns1_nights : Int32) (o_plans_towns1_seed : Int32) (o_plans_towns2_living : Int32) (o_plans_towns2_hour : Int32) (o_plans_towns2_cat : Int32) (o_plans_towns2_nights : Int32) (o_plans_towns2_seed : Int32) (o_plans_towns3_living : Int32) (o_plans_towns3_hour : Int32) (o_plans_towns3_cat : Int32) (o_plans_towns3_nights : Int32) (o_plans_towns3_seed : Int32) (o_plans_night_then_living : Int32) (o_plans_night_then_hour : Int32) (o_plans_night_then_cat : Int32) (o_plans_night_then_nights : Int32) (o_plans_night_then_seed : Int32) (o_plans_towns0_has_ : AI) (o_plans_towns0_hours_ : AI) (o_plans_towns1_has_ : AI) (o_plans_towns1_hours_ : AI) (o_plans_towns2_has_ : AI) (o_plans_towns2_hours_ : AI) (o_plans_towns3_has_ : AI) (o_plans_towns3_hours_ : AI) (o_plans_night_then_has_ : AI) (o_plans_night_then_hours_ : AI) (m_catGets : Int32) (m_whole : Int64) (m_bestSum : Int64) (m_x_ : AI) (m_heir_ : AI) (m_then_ : AI) :
    ∃ a tr rX rM, MX1_bestMean p q lower (nI g) (nI n) liv hour cat nights seed o_plans_person o_plans_many o_plans_row o_plans_most o_plans_night_all has hours o_plans_towns0_living o_plans_towns0_hour o_plans_towns0_cat o_plans_towns0_nights o_plans_towns0_seed o_plans_towns1_living o_plans_towns1_hour o_plans_towns1_cat o_plans_towns1_nights o_plans_towns1_seed o_plans_towns2_living o_plans_towns2_hour o_plans_towns2_cat o_plans_towns2_nights o_plans_towns2_seed o_plans_towns3_living o_plans_towns3_hour o_plans_towns3_cat o_plans_towns3_nights o_plans_towns3_seed o_plans_night_then_living o_plans_night_then_hour o_plans_night_then_cat o_plans_night_then_nights o_plans_night_then_seed o_plans_towns0_has_ o_plans_towns0_hours_ o_plans_towns1_has_ o_plans_towns1_hours_ o_plans_towns2_has_ o_plans_towns2_hours_ o_plans_towns3_has_ o_plans_towns3_hours_ o_plans_night_then_has_ o_plans_night_then_hours_ n pk pd pr = some (a, tr, -1, rX) ∧ MX7_bestMean p q lower m_catGets m_whole m_bestSum (nI g) (nI n) v m_x_ m_heir_ m_then_ kind dies near = some (a, 0, tr, -1, rM) ∧ ¬ tr = 4 := by
  have hM := hI.money
  obtain ⟨L, hN, cN, hr, nN, sN, hL, hL2, -, -, -, -, hhr, hhr2, -⟩ := hI
  have hp2 := pow_le hn
  subst hL; subst hhr
  unfold MX1_bestMean MX7_bestMean MX1_anew MX1_no MX7_refused
  rw [M_in]
  simp only [Option.bind_some]
  rw [M_planWhy1 h0 hn, M_refNum7, hR.1]
  simp only [Option.bind_some]
  rcases whyN_cases n (nI L) p (inB q 1 3) with ⟨e, e1, e2, -⟩ | e
  · obtain ⟨k, hk6, rfl⟩ := isP_of hn e1
    obtain ⟨m, hm, hm0, rfl⟩ := in13 e2
    obtain ⟨r1, a1, a2, a3⟩ := M_best6 (g := g) (pk := pk) (pr := pr) (pd := pd) hn hk6 hg (show L < 64 by omega) hm hm0 (show hr < 2000 by omega) hR hM o_plans_row o_plans_towns0_has_ o_plans_towns0_hours_ o_plans_towns1_living o_plans_towns1_hour o_plans_towns1_cat o_plans_towns1_nights o_plans_towns1_seed o_plans_towns2_living o_plans_towns2_hour o_plans_towns2_cat o_plans_towns2_nights o_plans_towns2_seed o_plans_towns3_living o_plans_towns3_hour o_plans_towns3_cat o_plans_towns3_nights o_plans_towns3_seed o_plans_night_then_living o_plans_night_then_hour o_plans_night_then_cat o_plans_night_then_nights o_plans_night_then_seed o_plans_towns1_has_ o_plans_towns1_hours_ o_plans_towns2_has_ o_plans_towns2_hours_ o_plans_towns3_has_ o_plans_towns3_hours_ o_plans_night_then_has_ o_plans_night_then_hours_
    obtain ⟨r7, b1, b2⟩ := M_bestRow7 (g := g) (many := m) hn hk6 hg (show L < 64 by omega) hm (show hr < 2000 by omega) hk hds hR hM m_catGets m_whole m_x_ m_heir_ m_then_
    have hV : isL (valV n L k pd v) := val_isL hn hk6 (by omega) hd hR hM
    rw [specT_row (S := stepS k g L pk pr) (D := n) (fun _ => rfl) o_plans_row 0 m 0 v hV, ← b2] at a2
    have a4 : r1.2.2.1 = r7.1 := congrArg Prod.fst a2
    have a5 : r1.2.2.2.1 = r7.2.2.2.1 := congrArg Prod.snd a2
    rw [e, if00, if_pos (show (0 : Int32) ≤ 0 by decide), a1, Option.bind_some, b1, Option.bind_some]
    have hQ := specT_L (S := stepS k g L pk pr) (V := valV n L k pd) (D := n) (nodeP n L (2 ^ 19) cat nights seed) (fun _ => rfl) (nodeP_step (pk := pk) (pr := pr) hn hk6 hg (by decide)) (fun y hy => by obtain ⟨hr', has', hours', y1, y2, -⟩ := hy; exact val_isL hn hk6 (by omega) hd y1 y2) m 0 v (0, -1) ⟨hr, has, hours, hR, hM, by omega⟩ (Or.inr rfl)
    rw [← b2] at hQ
    obtain ⟨up, hup, hQ⟩ := hQ
    have hQ : r7.2.2.2.1 = lN up := hQ
    obtain ⟨w1, w2, w3⟩ := whole_lN (nI L) n
    have w4 := pow100 hn
    obtain ⟨x', ex, hx⟩ := M_works7 v r7.2.2.2.2.1
    rw [a5, hQ, a3, w1, M_lowest1 hup (by omega) w2, Option.bind_some, ex, Option.bind_some, M_whole7 hn, Option.bind_some, hx 42 (by decide), hR.1, w1, M_fraction7 hup (by omega) w2, Option.bind_some]
    exact ⟨_, _, _, _, rfl, rfl, by decide⟩
  · rcases e with e | e | e <;> rw [e, if_neg (by decide), if_neg (by decide)] <;> exact ⟨_, _, _, _, rfl, rfl, by decide⟩
