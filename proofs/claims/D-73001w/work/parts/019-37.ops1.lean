set_option maxRecDepth 100000
/-! one town on both sides -/
def townR (n : Nat) (liv hour cat nights seed : Int32) (has hours v : AI) : Prop := v 42 = liv ∧ v 43 = cat ∧ v 44 = hour ∧ v 45 = nights ∧ v 46 = seed ∧ (∀ j, j < n → v j = has j) ∧ hrel hours v
/-- what is always so of a town of n people -/
def townI (n : Nat) (liv hour cat nights seed : Int32) (has : AI) : Prop := ∃ (L : Nat) (hN : Nat → Nat) (cN hr nN sN : Nat), liv = nI L ∧ L < 2 ^ n ∧ (∀ j, j < n → has j = nI (hN j)) ∧ cat = nI cN ∧ sumTo hN n + cN ≤ 594 ∧ (∀ j, j < n → hasB liv (nI j) = false → hN j = 0) ∧ hour = nI hr ∧ hr ≤ 999 ∧ nights = nI nN ∧ nN ≤ 999 ∧ seed = nI sN ∧ sN < 65537
theorem townI.dead {n : Nat} {liv hour cat nights seed : Int32} {has : AI} (h : townI n liv hour cat nights seed has) : deadO n liv has := by
  obtain ⟨L, hN, cN, hr, nN, sN, -, -, h3, -, -, h6, -⟩ := h
  intro j hj hl
  rw [h3 j hj, h6 j hj hl]; rfl
theorem townR.copy {n : Nat} (hn : n ≤ 6) {liv hour cat nights seed : Int32} {has hours v x : AI} (h : townR n liv hour cat nights seed has hours v) (hx : ∀ j, j < 47 → x j = v j) : townR n liv hour cat nights seed has hours x := by
  obtain ⟨h1, h2, h3, h4, h5, h6, h7⟩ := h
  exact ⟨by rw [hx 42 (by decide)]; exact h1, by rw [hx 43 (by decide)]; exact h2, by rw [hx 44 (by decide)]; exact h3, by rw [hx 45 (by decide)]; exact h4, by rw [hx 46 (by decide)]; exact h5, fun j hj => by rw [hx j (by omega)]; exact h6 j hj, fun j hj => by rw [hx (6 + j) (by omega)]; exact h7 j hj⟩
/-! who is a person -/
def isP (n : Nat) (p : Int32) : Bool := decide (0 ≤ p) && decide (p < nI n)
theorem isP_of {n : Nat} (hn : n ≤ 6) {p : Int32} (h : isP n p = true) : ∃ k, k < n ∧ p = nI k := by
  unfold isP at h
  simp only [Bool.and_eq_true, decide_eq_true_eq] at h
  obtain ⟨j, hj, rfl⟩ := nI_of (x := p) (Int32.not_lt.mpr h.1)
  exact ⟨j, (nI_ltI hj (by omega)).mp h.2, rfl⟩
theorem isP_nI {n k : Nat} (hn : n ≤ 6) (hk : k < n) : isP n (nI k) = true := by
  unfold isP
  simp [nI_pos' (n := k) (by omega), nI_lt hk (by omega)]
theorem nI_m1 {n : Nat} (h : 0 < n) : nI n - 1 = nI (n - 1) := by
  rw [show (1 : Int32) = nI 1 from rfl, pk_sub (by omega)]
theorem M_isP1 {n : Nat} (h0 : 0 < n) (hn : n ≤ 6) (p : Int32) : MX1_isPerson p (nI n) = some (isP n p) := by
  unfold MX1_isPerson
  rw [M_in, Option.bind_some, nI_m1 h0]
  have e : inB p 0 (nI (n - 1)) = isP n p := by
    unfold inB isP
    by_cases c : 0 ≤ p
    · obtain ⟨j, hj, rfl⟩ := nI_of (x := p) (Int32.not_lt.mpr c)
      have : nI j ≤ nI (n - 1) ↔ nI j < nI n := by rw [nI_leI hj (by omega), nI_ltI hj (by omega)]; omega
      simp [this]
    · simp [c]
  rw [e]
  cases isP n p
  · rw [if_pos (show b2i false = 0 from rfl)]
  · rw [if_neg (show ¬ b2i true = 0 by decide)]
theorem M_isP7 {n : Nat} (p : Int32) : MX7_isPerson p (nI n) = some (isP n p) := by
  unfold MX7_isPerson isP
  by_cases c : p < 0
  · rw [if_pos c]; simp [Int32.not_le.mpr c]
  · rw [if_neg c]
    by_cases c2 : nI n ≤ p
    · rw [if_pos c2]; simp [Int32.not_lt.mpr c2]
    · rw [if_neg c2]; simp [Int32.not_lt.mp c, Int32.not_le.mp c2]
/-- no such one, or dead -/
def whyL (n : Nat) (liv p : Int32) : Int32 := if isP n p = false then 1 else if hasB liv p = false then 5 else 0
theorem M_whyL1 {n : Nat} (h0 : 0 < n) (hn : n ≤ 6) (p liv : Int32) : MX1_livesWhy p (nI n) liv = some (whyL n liv p) := by
  unfold MX1_livesWhy whyL
  rw [M_isP1 h0 hn, Option.bind_some]
  by_cases c : isP n p = false
  · rw [if_pos (b2i_f c), if_pos c]
  · rw [if_neg (b2i_t (by simpa using c)), if_neg c, M_isLiving4, Option.bind_some]
    by_cases c2 : hasB liv p = false
    · rw [if_pos (b2i_f c2), if_pos c2]
    · rw [if_neg (b2i_t (by simpa using c2)), if_neg c2]
theorem M_whyL7 {n : Nat} (p : Int32) (v : AI) : MX7_refusesLiving p (nI n) v = some (whyL n (v 42) p) := by
  unfold MX7_refusesLiving whyL
  rw [M_isP7, Option.bind_some]
  by_cases c : isP n p = false
  · rw [if_pos (b2i_f c), if_pos c]
  · rw [if_neg (b2i_t (by simpa using c)), if_neg c, M_bit, Option.bind_some]
    by_cases c2 : hasB (v 42) p = false
    · rw [if_pos (b2i_f c2), if_pos c2]
    · rw [if_neg (b2i_t (by simpa using c2)), if_neg c2]
theorem whyL_cases (n : Nat) (liv p : Int32) : (whyL n liv p = 0 ∧ isP n p = true ∧ hasB liv p = true) ∨ (whyL n liv p = 1 ∨ whyL n liv p = 5) := by
  unfold whyL
  by_cases c : isP n p = false
  · rw [if_pos c]; exact Or.inr (Or.inl rfl)
  · rw [if_neg c]
    by_cases c2 : hasB liv p = false
    · rw [if_pos c2]; exact Or.inr (Or.inr rfl)
    · rw [if_neg c2]; exact Or.inl ⟨rfl, by simpa using c, by simpa using c2⟩
/-! op 6: heir -/
theorem op_heir {n : Nat} (h0 : 0 < n) (hn : n ≤ 6) {liv hour cat nights seed : Int32} {has hours v : AI} (hR : townR n liv hour cat nights seed has hours v) (p : Int32) (x : AI) :
    ∃ a tr x', MX1_heir p (nI n) liv hours = some (a, tr, -1) ∧ MX7_heir p (nI n) v x = some (a, 0, tr, -1, x') ∧ ¬ tr = 4 := by
  unfold MX1_heir MX7_heir MX1_anew MX1_no MX7_refused MX7_good
  rw [M_whyL1 h0 hn, M_whyL7, hR.1]
  simp only [Option.bind_some]
  rcases whyL_cases n liv p with ⟨e, e1, -⟩ | e
  · obtain ⟨k, hk, rfl⟩ := isP_of hn e1
    obtain ⟨x', ex, hx⟩ := M_works7 v x
    have hR' := hR.copy hn hx
    rw [e, if_pos rfl, if_pos (by decide), M_heir4 hn (by omega), ex, Option.bind_some, Option.bind_some, M_heir7 hn (by omega) hours x' hR'.2.2.2.2.2.2, hR'.1]
    exact ⟨_, _, _, rfl, rfl, by decide⟩
  · rcases e with e | e <;> rw [e, if_neg (by decide), if_neg (by decide)] <;> exact ⟨_, _, _, rfl, rfl, by decide⟩
/-! op 5: register -/
theorem M_areTwo1 {n : Nat} (h0 : 0 < n) (hn : n ≤ 6) (p q : Int32) : MX1_areTwo p q (nI n) = some (isP n p && (isP n q && decide (p ≠ q))) := by
  unfold MX1_areTwo
  rw [M_isP1 h0 hn, M_isP1 h0 hn]
  simp only [Option.bind_some]
  cases isP n p
  · rw [if_pos (show b2i false = 0 from rfl)]; rfl
  · rw [if_neg (show ¬ b2i true = 0 by decide)]
    cases isP n q
    · rw [if_pos (show b2i false = 0 from rfl)]; rfl
    · rw [if_neg (show ¬ b2i true = 0 by decide)]
      by_cases c : p = q
      · rw [if_pos c]; simp [c]
      · rw [if_neg c]; simp [c]
theorem M_areTwo7 {n : Nat} (p q : Int32) : MX7_areTwo p q (nI n) = some (isP n p && (isP n q && decide (p ≠ q))) := by
  unfold MX7_areTwo
  rw [M_isP7, M_isP7]
  simp only [Option.bind_some]
  cases isP n p
  · rw [if_pos (show b2i false = 0 from rfl)]; rfl
  · rw [if_neg (show ¬ b2i true = 0 by decide)]
    cases isP n q
    · rw [if_pos (show b2i false = 0 from rfl)]; rfl
    · rw [if_neg (show ¬ b2i true = 0 by decide)]
      by_cases c : p = q
      · rw [if_pos c]; simp [c]
      · rw [if_neg c]; simp [c]
theorem op_register {n : Nat} (h0 : 0 < n) (hn : n ≤ 6) {hours v : AI} (hR : hrel hours v) (p q : Int32) :
    ∃ a tr, MX1_register p q (nI n) hours = some (a, tr, -1) ∧ MX7_register p q (nI n) v = some (a, 0, tr, -1) ∧ ¬ tr = 4 := by
  unfold MX1_register MX7_register MX1_anew MX1_no MX7_refused MX7_good
  rw [M_areTwo1 h0 hn, M_areTwo7]
  simp only [Option.bind_some]
  by_cases c : (isP n p && (isP n q && decide (p ≠ q))) = false
  · rw [if_pos (b2i_f c), if_pos (b2i_f c)]
    exact ⟨_, _, rfl, rfl, by decide⟩
  · rw [if_neg (b2i_t (by simpa using c)), if_neg (b2i_t (by simpa using c))]
    have c' : isP n p = true ∧ isP n q = true := by
      cases h1 : isP n p <;> cases h2 : isP n q <;> simp [h1, h2] at c ⊢
    obtain ⟨i, hi, rfl⟩ := isP_of hn c'.1
    obtain ⟨j, hj, rfl⟩ := isP_of hn c'.2
    rw [M_hourOf (by omega) (by omega), Option.bind_some, show (6 : Int32) = nI 6 from rfl, pk_mul, nI_add, nI_add, gi_nI (by omega) (by decide), nIc (by omega)]
    simp only [lt_]
    by_cases c2 : hX hours i j < 0
    · rw [if_pos ((hrel_never hR (by omega) (by omega)).mpr c2)]
      have e := hR (6 * i + j) (by omega)
      have e2 : hours (6 * i + j) = -2 := by
        rcases e with ⟨e, -⟩ | ⟨-, e⟩
        · exact e
        · exact absurd c2 e
      rw [e2]
      exact ⟨_, _, rfl, rfl, by decide⟩
    · rw [if_neg (fun z => c2 ((hrel_never hR (by omega) (by omega)).mp z)), hrel_hour hR (by omega) (by omega) c2]
      exact ⟨_, _, rfl, rfl, by decide⟩
/-! sets made one by one, and other loops over people -/
def setF (P : Nat → Bool) : Nat → Int32
  | 0 => 0
  | i + 1 => if P i = true then setF P i ||| ((1 : Int32) <<< (nI i &&& 31)) else setF P i ||| 0
theorem setF_has {P : Nat → Bool} : ∀ n j, n ≤ 32 → j < 32 → hasB (setF P n) (nI j) = (decide (j < n) && P j) := by
  intro n
  induction n with
  | zero => intro j _ hj; rw [setF, hasB_0 hj]; simp
  | succ n ih =>
    intro j hn hj
    rw [setF]
    by_cases c : P n = true
    · rw [if_pos c, hasB_or_one (by omega) hj, ih j (by omega) hj]
      by_cases h : j = n
      · subst h; simp [c]
      · have : (j < n + 1) ↔ j < n := by omega
        simp [h, this]
    · rw [if_neg c, or_0, ih j (by omega) hj]
      by_cases h : j = n
      · subst h; simp [c]
      · have : (j < n + 1) ↔ j < n := by omega
        simp [this]
theorem setF_congr {P Q : Nat → Bool} : ∀ n, (∀ i, i < n → P i = Q i) → setF P n = setF Q n := by
  intro n
  induction n with
  | zero => intro _; rfl
  | succ n ih => intro h; rw [setF, setF, ih (fun i hi => h i (by omega)), h n (by omega)]
theorem loop_acc {α : Type} {f : α × Int32 → Option ((α × Int32) ⊕ α)} (step : α → Nat → α) (J : Nat → α → Prop) (n : Nat) (hn : n < 100000) (a0 : α) (h0 : J 0 a0)
    (hs : ∀ i a, i < n → J i a → f (a, nI i) = some (.inl (step a i, nI (i + 1))) ∧ J (i + 1) (step a i)) (he : ∀ a, J n a → f (a, nI n) = some (.inr a)) : loopN FU f (a0, (0 : Int32)) = some (foldF step a0 n) ∧ J n (foldF step a0 n) :=
  loop_fold (fun a i => (a, nI i)) id step J n hn a0 h0 hs he
theorem loop_set {f : Int32 × Int32 → Option ((Int32 × Int32) ⊕ Int32)} (P : Nat → Bool) (n : Nat) (hn : n < 100000)
    (hs : ∀ i a, i < n → f (a, nI i) = some (.inl (if P i = true then a ||| ((1 : Int32) <<< (nI i &&& 31)) else a ||| 0, nI (i + 1)))) (he : ∀ a, f (a, nI n) = some (.inr a)) : loopN FU f ((0 : Int32), (0 : Int32)) = some (setF P n) := by
  have h := (loop_acc (f := f) (fun a i => if P i = true then a ||| ((1 : Int32) <<< (nI i &&& 31)) else a ||| 0) (fun _ _ => True) n hn 0 trivial (fun i a hi _ => ⟨hs i a hi, trivial⟩) (fun a _ => he a)).1
  rw [h]
  congr 1
  clear h hs he hn
  induction n with
  | zero => rfl
  | succ n ih => rw [foldF, setF, ih]
/-! op 7: heirTo -/
def heirP (liv : Int32) (a : AI) (n : Nat) (p : Int32) : Nat → Bool := fun q => hasB liv (nI q) && decide (heirF liv (hX a) q n = p)
theorem M_heirTos1 {n : Nat} (hn : n ≤ 6) (p liv : Int32) (a : AI) : MX1_heirTos p (nI n) liv a = some (setF (heirP liv a n p) n) := by
  unfold MX1_heirTos
  rw [loop_set (f := fun s_ : Int32 × Int32 => BX1_heirTos_4 p (nI n) liv a s_.1 s_.2) (heirP liv a n p) n (by omega) (by
    intro i acc hi
    show BX1_heirTos_4 p (nI n) liv a acc (nI i) = _
    unfold BX1_heirTos_4 heirP
    rw [if_neg (nI_ge hi (by omega)), nI_1, M_isLiving4, Option.bind_some]
    by_cases c1 : hasB liv (nI i) = false
    · rw [if_pos (b2i_f c1), c1]; rfl
    · have c1' : hasB liv (nI i) = true := by simpa using c1
      rw [if_neg (b2i_t c1'), M_heir4 hn (by omega), Option.bind_some, c1']
      by_cases c2 : heirF liv (hX a) i n = p
      · rw [if_pos c2]; simp [c2]
      · rw [if_neg c2]; simp [c2]) (by
    intro acc
    show BX1_heirTos_4 p (nI n) liv a acc (nI n) = _
    unfold BX1_heirTos_4
    rw [if_pos (nI_le (Nat.le_refl n) (by omega))])]
  rfl
theorem M_inherits7 {n : Nat} (hn : n ≤ 6) (p : Int32) (x heir a : AI) (hh : ∀ j, j < n → heir j = heirF (x 42) (hX a) j n) : MX7_inheritsOf p (nI n) x heir = some (setF (heirP (x 42) a n p) n) := by
  unfold MX7_inheritsOf
  rw [loop_set (f := fun s_ : Int32 × Int32 => BX7_inheritsOf_4 p (nI n) x heir s_.1 s_.2) (heirP (x 42) a n p) n (by omega) (by
    intro i acc hi
    show BX7_inheritsOf_4 p (nI n) x heir acc (nI i) = _
    unfold BX7_inheritsOf_4 heirP
    rw [if_neg (nI_ge hi (by omega)), nI_1, M_isLiving7, Option.bind_some]
    by_cases c1 : hasB (x 42) (nI i) = false
    · rw [if_pos (b2i_f c1), c1]; rfl
    · have c1' : hasB (x 42) (nI i) = true := by simpa using c1
      rw [if_neg (b2i_t c1'), gi_nI (by omega) (by decide), nIc (by omega), hh i hi, c1']
      by_cases c2 : heirF (x 42) (hX a) i n = p
      · rw [if_pos c2]; simp [c2]
      · rw [if_neg c2]; simp [c2]) (by
    intro acc
    show BX7_inheritsOf_4 p (nI n) x heir acc (nI n) = _
    unfold BX7_inheritsOf_4
    rw [if_pos (nI_le (Nat.le_refl n) (by omega))])]
  rfl
/-- x is v, the heirs are found -/
theorem M_wwh7 {n : Nat} (hn : n ≤ 6) {liv hour cat nights seed : Int32} {has hours v : AI} (hR : townR n liv hour cat nights seed has hours v) (x heir : AI) : ∃ x' heir', MX7_worksWithHeirs v x (nI n) heir = some (x', heir') ∧ townR n liv hour cat nights seed has hours x' ∧ ∀ j, j < n → heir' j = heirF (x' 42) (hX hours) j n := by
  obtain ⟨x', ex, hx⟩ := M_works7 v x
  have hR' := hR.copy hn hx
  obtain ⟨heir', eh, hh⟩ := M_heirs7 hn x' heir hours hR'.2.2.2.2.2.2
  exact ⟨x', heir', by unfold MX7_worksWithHeirs; rw [ex, Option.bind_some, eh, Option.bind_some], hR', hh⟩
theorem op_heirTo {n : Nat} (h0 : 0 < n) (hn : n ≤ 6) {liv hour cat nights seed : Int32} {has hours v : AI} (hR : townR n liv hour cat nights seed has hours v) (p : Int32) (x heir : AI) :
    ∃ a tr x' heir', MX1_heirTo p (nI n) liv hours = some (a, tr, -1) ∧ MX7_heirTo p (nI n) v x heir = some (a, 0, tr, -1, x', heir') ∧ ¬ tr = 4 := by
  unfold MX1_heirTo MX7_heirTo MX1_anew MX1_no MX7_refused MX7_good
  rw [M_isP1 h0 hn, M_isP7]
  simp only [Option.bind_some]
  by_cases c : isP n p = false
  · rw [if_pos (b2i_f c), if_pos (b2i_f c)]
    exact ⟨_, _, _, _, rfl, rfl, by decide⟩
  · rw [if_neg (b2i_t (by simpa using c)), if_neg (b2i_t (by simpa using c))]
    obtain ⟨x', heir', e, hR', hh⟩ := M_wwh7 hn hR x heir
    rw [M_heirTos1 hn, e, Option.bind_some, Option.bind_some]
    dsimp only
    rw [M_inherits7 hn p x' heir' hours hh, Option.bind_some, hR'.1]
    exact ⟨_, _, _, _, rfl, rfl, by decide⟩
/-! op 8: hopes -/
theorem op_hopes {n : Nat} (h0 : 0 < n) (hn : n ≤ 6) {liv hour cat nights seed : Int32} {has hours v : AI} (hR : townR n liv hour cat nights seed has hours v) (hI : townI n liv hour cat nights seed has) (p tl th tc tn ts cg : Int32) (thas thours x heir then_ : AI) :
    ∃ a tr rX rM, MX1_hopes p (nI n) liv hour cat nights seed hours tl th tc tn ts thas thours has = some (a, tr, -1, rX) ∧ MX7_hopes p cg (nI n) v x heir then_ = some (a, 0, tr, -1, rM) ∧ ¬ tr = 4 := by
  unfold MX1_hopes MX7_hopes MX1_anew MX1_no MX7_refused MX7_good
  rw [M_whyL1 h0 hn, M_whyL7, hR.1]
  simp only [Option.bind_some]
  rcases whyL_cases n liv p with ⟨e, e1, -⟩ | e
  · obtain ⟨k, hk, rfl⟩ := isP_of hn e1
    obtain ⟨x', heir', ew, hR', hh⟩ := M_wwh7 hn hR x heir
    rw [e, if_pos rfl, if_pos (by decide), M_heirTos1 hn, ew, Option.bind_some, Option.bind_some]
    dsimp only
    rw [M_inherits7 hn (nI k) x' heir' hours hh, Option.bind_some, hR'.1]
    obtain ⟨has', hours', e2, e3, -⟩ := M_dies4 hn (setF (heirP liv hours n (nI k)) n) liv hour cat nights seed thas thours has hours hI.dead
    obtain ⟨th', e4, e5⟩ := M_dying7 hn (setF (heirP liv hours n (nI k)) n) then_ x' heir' hours has hR'.2.2.2.2.2.1 hh
    rw [e2, e4, Option.bind_some, Option.bind_some, gi_nI (by omega) (by decide), gi_nI (by omega) (by decide), nIc (by omega)]
    dsimp only
    rw [e3 k hk, e5 k hk, hR'.1]
    exact ⟨_, _, _, _, rfl, rfl, by decide⟩
  · rcases e with e | e <;> rw [e, if_neg (by decide), if_neg (by decide)] <;> exact ⟨_, _, _, _, rfl, rfl, by decide⟩
/-! op 9: cat; op 10: richest -/
theorem op_cat {n : Nat} {liv hour cat nights seed : Int32} {has hours v : AI} (hR : townR n liv hour cat nights seed has hours v) : MX1_cat cat = some (cat, 0, -1) ∧ MX7_cat v = some (cat, 0, 0, -1) := by
  unfold MX1_cat MX7_cat MX1_anew MX7_good
  rw [hR.2.1]
  exact ⟨rfl, rfl⟩
def richStep (liv : Int32) (has : Nat → Int32) (best : Int32) (i : Nat) : Int32 := if hasB liv (nI i) = false then best else if best = -2 then nI i else if has i ≤ has best.toNatClampNeg then best else nI i
theorem pers_up {i : Nat} {b : Int32} (h : pers i b) : pers (i + 1) b := by
  rcases h with h | ⟨j, hj, h⟩
  · exact Or.inl h
  · exact Or.inr ⟨j, by omega, h⟩
theorem pers_new (i : Nat) : pers (i + 1) (nI i) := Or.inr ⟨i, by omega, rfl⟩
theorem op_richest {n : Nat} (hn : n ≤ 6) {liv hour cat nights seed : Int32} {has hours v : AI} (hR : townR n liv hour cat nights seed has hours v) :
    ∃ a, MX1_richest (nI n) liv has = some (a, 0, -1) ∧ MX7_richest (nI n) v = some (a, 0, 0, -1) := by
  have hJ : ∀ i a, i < n → pers i a → pers (i + 1) (richStep liv has a i) := by
    intro i a hi ha
    unfold richStep
    split
    · exact pers_up ha
    · split
      · exact pers_new i
      · split
        · exact pers_up ha
        · exact pers_new i
  refine ⟨foldF (richStep liv has) (-2) n, ?_, ?_⟩
  · unfold MX1_richest MX1_anew
    simp only [Option.bind_some]
    rw [(loop_acc (f := fun s_ : Int32 × Int32 => BX1_richest_22 (nI n) liv has 0 (-1) s_.1 s_.2) (richStep liv has) pers n (by omega) (-2) (Or.inl rfl) (by
      intro i a hi ha
      refine ⟨?_, hJ i a hi ha⟩
      show BX1_richest_22 (nI n) liv has 0 (-1) a (nI i) = _
      unfold BX1_richest_22 richStep
      rw [if_neg (nI_ge hi (by omega)), nI_1, M_isLiving4, Option.bind_some]
      by_cases c1 : hasB liv (nI i) = false
      · rw [if_pos (b2i_f c1), if_pos c1]
      · rw [if_neg (b2i_t (by simpa using c1)), if_neg c1]
        rcases ha with c2 | ⟨j, hj, rfl⟩
        · rw [if_pos c2, if_pos c2]
        · rw [if_neg (nI_ne_m2 (by omega)), if_neg (nI_ne_m2 (by omega)), gi_nI (by omega) (by decide), gi_nI (by omega) (by decide), nIc (by omega), nIc (by omega)]
          by_cases c3 : has i ≤ has j
          · rw [if_pos c3, if_pos c3]
          · rw [if_neg c3, if_neg c3]) (by
      intro a _
      show BX1_richest_22 (nI n) liv has 0 (-1) a (nI n) = _
      unfold BX1_richest_22
      rw [if_pos (nI_le (Nat.le_refl n) (by omega))])).1]
    rfl
  · unfold MX7_richest MX7_good
    rw [(loop_acc (f := fun s_ : Int32 × Int32 => BX7_richest_23 (nI n) v s_.1 s_.2) (richStep liv has) pers n (by omega) (-2) (Or.inl rfl) (by
      intro i a hi ha
      refine ⟨?_, hJ i a hi ha⟩
      show BX7_richest_23 (nI n) v a (nI i) = _
      unfold BX7_richest_23 richStep
      rw [if_neg (nI_ge hi (by omega)), nI_1, M_bit, Option.bind_some, hR.1]
      by_cases c1 : hasB liv (nI i) = false
      · rw [if_pos (b2i_f c1), if_pos c1]
      · rw [if_neg (b2i_t (by simpa using c1)), if_neg c1]
        rcases ha with c2 | ⟨j, hj, rfl⟩
        · rw [if_pos c2, if_pos c2]
        · rw [if_neg (nI_ne_m2 (by omega)), if_neg (nI_ne_m2 (by omega)), gi_nI (by omega) (by decide), gi_nI (by omega) (by decide), nIc (by omega), nIc (by omega), hR.2.2.2.2.2.1 i hi, hR.2.2.2.2.2.1 j (by omega)]
          by_cases c3 : has i ≤ has j
          · rw [if_pos c3, if_pos c3]
          · rw [if_neg c3, if_neg c3]) (by
      intro a _
      show BX7_richest_23 (nI n) v a (nI n) = _
      unfold BX7_richest_23
      rw [if_pos (nI_le (Nat.le_refl n) (by omega))])).1]
    rfl
