set_option maxRecDepth 100000
/-! numbers behind the Int32s and Int64s: what all have never grows; sums over sets are small; fractions -/
def sumTo (f : Nat → Nat) : Nat → Nat
  | 0 => 0
  | n + 1 => sumTo f n + f n
theorem sumTo_congr {f g : Nat → Nat} : ∀ n, (∀ j, j < n → f j = g j) → sumTo f n = sumTo g n := by
  intro n
  induction n with
  | zero => intro _; rfl
  | succ n ih => intro h; rw [sumTo, sumTo, ih (fun j hj => h j (by omega)), h n (by omega)]
theorem sumTo_le {f g : Nat → Nat} : ∀ n, (∀ j, j < n → f j ≤ g j) → sumTo f n ≤ sumTo g n := by
  intro n
  induction n with
  | zero => intro _; exact Nat.le_refl _
  | succ n ih => intro h; exact Nat.add_le_add (ih (fun j hj => h j (by omega))) (h n (by omega))
theorem sumTo_get {f : Nat → Nat} : ∀ n j, j < n → f j ≤ sumTo f n := by
  intro n
  induction n with
  | zero => intro j h; omega
  | succ n ih =>
    intro j h
    rw [sumTo]
    by_cases c : j = n
    · subst c; omega
    · have := ih j (by omega); omega
theorem sumTo_add {f g : Nat → Nat} : ∀ n, sumTo (fun j => f j + g j) n = sumTo f n + sumTo g n := by
  intro n
  induction n with
  | zero => rfl
  | succ n ih => rw [sumTo, sumTo, sumTo, ih]; omega
theorem sumTo_one {q c : Nat} : ∀ n, sumTo (fun j => if j = q then c else 0) n = if q < n then c else 0 := by
  intro n
  induction n with
  | zero => rfl
  | succ n ih =>
    rw [sumTo, ih]
    by_cases h : n = q
    · subst h; rw [if_neg (by omega), if_pos rfl, if_pos (by omega)]; omega
    · rw [if_neg h]
      by_cases h2 : q < n
      · rw [if_pos h2, if_pos (by omega), Nat.add_zero]
      · rw [if_neg h2, if_neg (by omega)]
def dieHN (set : Int32) (to_ : Nat → Int32) (has base : Nat → Nat) : Nat → Nat → Nat
  | 0 => base
  | i + 1 => fun j => if hasB set (nI i) = true ∧ to_ i = nI j then dieHN set to_ has base i j + has i else dieHN set to_ has base i j
def dieCN (set : Int32) (to_ : Nat → Int32) (has : Nat → Nat) : Nat → Nat
  | 0 => 0
  | i + 1 => if hasB set (nI i) = true ∧ to_ i = -2 then dieCN set to_ has i + has i else dieCN set to_ has i
def dieBN (liv set : Int32) (has : Nat → Nat) : Nat → Nat := fun j => if hasB set (nI j) = true ∨ hasB liv (nI j) = false then 0 else has j
theorem dieB_nI {liv set : Int32} {h : Nat → Int32} {hN : Nat → Nat} {j : Nat} (e : h j = nI (hN j)) : dieB liv set h j = nI (dieBN liv set hN j) := by
  unfold dieB dieBN
  split
  · rfl
  · exact e
theorem dieH_nI {set : Int32} {to_ : Nat → Int32} {h b : Nat → Int32} {hN bN : Nat → Nat} {n j : Nat} (e : ∀ k, k < n → h k = nI (hN k)) (eb : b j = nI (bN j)) : ∀ i, i ≤ n → dieH set to_ h b i j = nI (dieHN set to_ hN bN i j) := by
  intro i
  induction i with
  | zero => intro _; exact eb
  | succ i ih =>
    intro hi
    show (if _ ∧ _ then dieH set to_ h b i j + h i else dieH set to_ h b i j) = nI (if _ ∧ _ then dieHN set to_ hN bN i j + hN i else dieHN set to_ hN bN i j)
    rw [ih (by omega), e i (by omega), nI_add]
    split <;> rfl
theorem dieC_nI {set : Int32} {to_ : Nat → Int32} {h : Nat → Int32} {hN : Nat → Nat} {n : Nat} (e : ∀ k, k < n → h k = nI (hN k)) : ∀ i, i ≤ n → dieC set to_ h i = nI (dieCN set to_ hN i) := by
  intro i
  induction i with
  | zero => intro _; rfl
  | succ i ih =>
    intro hi
    show (if _ ∧ _ then dieC set to_ h i + h i else dieC set to_ h i) = nI (if _ ∧ _ then dieCN set to_ hN i + hN i else dieCN set to_ hN i)
    rw [ih (by omega), e i (by omega), nI_add]
    split <;> rfl
/-- nothing is lost: what all have and the cat gets is what was there -/
theorem die_sum {set : Int32} {to_ : Nat → Int32} {hN bN : Nat → Nat} {n : Nat} (hn : n ≤ 6) (ht : ∀ k, k < n → hasB set (nI k) = true → pers n (to_ k)) : ∀ i, i ≤ n → sumTo (dieHN set to_ hN bN i) n + dieCN set to_ hN i = sumTo bN n + sumTo (fun k => if hasB set (nI k) = true then hN k else 0) i := by
  intro i
  induction i with
  | zero => intro _; rfl
  | succ i ih =>
    intro hi
    have ih := ih (by omega)
    rw [sumTo]
    by_cases c : hasB set (nI i) = true
    · rw [if_pos c]
      rcases ht i (by omega) c with e | ⟨q, hq, e⟩
      · have e1 : dieCN set to_ hN (i + 1) = dieCN set to_ hN i + hN i := if_pos ⟨c, e⟩
        have e2 : sumTo (dieHN set to_ hN bN (i + 1)) n = sumTo (dieHN set to_ hN bN i) n := sumTo_congr n (fun j hj => if_neg (by rw [e]; rintro ⟨-, z⟩; exact nI_ne_m2 (by omega) z.symm))
        omega
      · have e1 : dieCN set to_ hN (i + 1) = dieCN set to_ hN i := if_neg (by rw [e]; rintro ⟨-, z⟩; exact nI_ne_m2 (by omega) z)
        have e2 : sumTo (dieHN set to_ hN bN (i + 1)) n = sumTo (fun j => dieHN set to_ hN bN i j + (if j = q then hN i else 0)) n := sumTo_congr n (fun j hj => by
          show (if _ ∧ _ then _ else _) = _
          by_cases hjq : j = q
          · rw [if_pos ⟨c, by rw [e, hjq]⟩, if_pos hjq]
          · rw [if_neg (by rw [e]; rintro ⟨-, z⟩; exact hjq ((nI_eq (by omega) (by omega)).mp z).symm), if_neg hjq]; rfl)
        rw [e1, e2, sumTo_add, sumTo_one, if_pos hq]
        omega
    · rw [if_neg c]
      have e1 : dieCN set to_ hN (i + 1) = dieCN set to_ hN i := if_neg (fun z => c z.1)
      have e2 : sumTo (dieHN set to_ hN bN (i + 1)) n = sumTo (dieHN set to_ hN bN i) n := sumTo_congr n (fun j hj => if_neg (fun z => c z.1))
      omega
/-- what all have, the cat's gain, after some died: the same sum -/
theorem die_keep {liv set : Int32} {to_ : Nat → Int32} {hN : Nat → Nat} {n : Nat} (hn : n ≤ 6) (ht : ∀ k, k < n → hasB set (nI k) = true → pers n (to_ k)) (hd : ∀ j, j < n → hasB liv (nI j) = false → hN j = 0) : sumTo (dieHN set to_ hN (dieBN liv set hN) n) n + dieCN set to_ hN n = sumTo hN n := by
  rw [die_sum hn ht n (Nat.le_refl n), ← sumTo_add]
  apply sumTo_congr
  intro j hj
  unfold dieBN
  by_cases c : hasB set (nI j) = true
  · rw [if_pos (Or.inl c), if_pos c]; omega
  · rw [if_neg c]
    by_cases c2 : hasB liv (nI j) = false
    · rw [if_pos (Or.inr c2), hd j hj c2]
    · rw [if_neg (by rintro (z | z); exact c z; exact c2 z)]; omega
/-! fractions -/
theorem M_div1 : ∀ (m a b k : Nat), a < 2 ^ 63 → b < 2 ^ 63 → b < 2 ^ m → 2 * m + 1 ≤ k → MX1_dividingF k (lN a) (lN b) = some (lN (Nat.gcd a b)) := by
  intro m
  induction m with
  | zero =>
    intro a b k ha hb h hk
    obtain ⟨k, rfl⟩ : ∃ j, k = j + 1 := ⟨k - 1, by omega⟩
    obtain rfl : b = 0 := by omega
    rw [MX1_dividingF, if_pos (show lg_cmp (lN 0) 0 = 0 from (lg_cmp_eq _ _).mpr rfl), Nat.gcd_zero_right]
  | succ m ih =>
    intro a b k ha hb h hk
    obtain ⟨k, rfl⟩ : ∃ j, k = j + 2 := ⟨k - 2, by omega⟩
    rw [MX1_dividingF]
    by_cases c : b = 0
    · subst c
      rw [if_pos (show lg_cmp (lN 0) 0 = 0 from (lg_cmp_eq _ _).mpr rfl), Nat.gcd_zero_right]
    · have hb0 : ¬ lN b = 0 := fun z => c ((pk_lEQ hb (by decide : 0 < 2 ^ 63)).mp z)
      rw [if_neg (fun z => hb0 ((lg_cmp_eq _ _).mp z)), gzl_of hb0, pk_lRem ha (by omega) hb]
      have hc : a % b < b := Nat.mod_lt _ (by omega)
      have hg : Nat.gcd a b = Nat.gcd b (a % b) := by rw [Nat.gcd_comm a b, Nat.gcd_rec b a, Nat.gcd_comm]
      rw [MX1_dividingF]
      by_cases c2 : a % b = 0
      · rw [if_pos ((lg_cmp_eq _ _).mpr (by rw [c2]; rfl)), Option.bind_some, hg, c2, Nat.gcd_zero_right]
      · have hc0 : ¬ lN (a % b) = 0 := fun z => c2 ((pk_lEQ (by omega) (by decide : 0 < 2 ^ 63)).mp z)
        rw [if_neg (fun z => hc0 ((lg_cmp_eq _ _).mp z)), gzl_of hc0, pk_lRem hb (by omega) (by omega)]
        have hd : b % (a % b) < 2 ^ m := by
          have h1 : b % (a % b) < a % b := Nat.mod_lt _ (by omega)
          have h2 := Nat.div_add_mod b (a % b)
          have h3 : 1 ≤ b / (a % b) := (Nat.one_le_div_iff (by omega)).mpr (by omega)
          have h4 : (a % b) * 1 ≤ (a % b) * (b / (a % b)) := Nat.mul_le_mul_left _ h3
          have h5 : 2 ^ (m + 1) = 2 * 2 ^ m := by rw [Nat.pow_succ]; omega
          omega
        have h1 : b % (a % b) < a % b := Nat.mod_lt _ (by omega)
        rw [ih (a % b) (b % (a % b)) k (by omega) (by omega) hd (by omega), Option.bind_some, Option.bind_some, hg]
        have hg2 : Nat.gcd b (a % b) = Nat.gcd (a % b) (b % (a % b)) := by rw [Nat.gcd_comm b, Nat.gcd_rec (a % b) b, Nat.gcd_comm]
        rw [hg2]
theorem M_com7 : ∀ (m a b k : Nat), a < 2 ^ 63 → b < 2 ^ 63 → b < 2 ^ m → 2 * m + 1 ≤ k → loopN k (fun s_ : Int64 × Int64 => BX7_common_6 s_.1 s_.2) (lN a, lN b) = some (lN (Nat.gcd a b)) := by
  have step : ∀ (a b : Nat), a < 2 ^ 63 → b < 2 ^ 63 → ¬ b = 0 → BX7_common_6 (lN a) (lN b) = some (.inl (lN b, lN (a % b))) := by
    intro a b ha hb c
    have hb0 : ¬ lN b = 0 := fun z => c ((pk_lEQ hb (by decide : 0 < 2 ^ 63)).mp z)
    unfold BX7_common_6
    rw [if_neg (fun z => hb0 ((lg_cmp_eq _ _).mp z)), gzl_of hb0, pk_lRem ha (by omega) hb]
  have stop : ∀ (a : Nat), BX7_common_6 (lN a) (lN 0) = some (.inr (lN a)) := by
    intro a
    unfold BX7_common_6
    rw [if_pos (show lg_cmp (lN 0) 0 = 0 from (lg_cmp_eq _ _).mpr rfl)]
  intro m
  induction m with
  | zero =>
    intro a b k ha hb h hk
    obtain ⟨k, rfl⟩ : ∃ j, k = j + 1 := ⟨k - 1, by omega⟩
    obtain rfl : b = 0 := by omega
    rw [loopN]
    show (BX7_common_6 (lN a) (lN 0)).bind _ = _
    rw [stop, Nat.gcd_zero_right]; rfl
  | succ m ih =>
    intro a b k ha hb h hk
    obtain ⟨k, rfl⟩ : ∃ j, k = j + 2 := ⟨k - 2, by omega⟩
    rw [loopN]
    show (BX7_common_6 (lN a) (lN b)).bind _ = _
    by_cases c : b = 0
    · subst c
      rw [stop, Nat.gcd_zero_right]; rfl
    · rw [step a b ha hb c, Option.bind_some]
      have hc : a % b < b := Nat.mod_lt _ (by omega)
      have hg : Nat.gcd a b = Nat.gcd b (a % b) := by rw [Nat.gcd_comm a b, Nat.gcd_rec b a, Nat.gcd_comm]
      show loopN (k + 1) _ (lN b, lN (a % b)) = _
      rw [loopN]
      show (BX7_common_6 (lN b) (lN (a % b))).bind _ = _
      by_cases c2 : a % b = 0
      · rw [c2, stop, hg, c2, Nat.gcd_zero_right]; rfl
      · rw [step b (a % b) hb (by omega) c2, Option.bind_some]
        have hd : b % (a % b) < 2 ^ m := by
          have h1 : b % (a % b) < a % b := Nat.mod_lt _ (by omega)
          have h2 := Nat.div_add_mod b (a % b)
          have h3 : 1 ≤ b / (a % b) := (Nat.one_le_div_iff (by omega)).mpr (by omega)
          have h4 : (a % b) * 1 ≤ (a % b) * (b / (a % b)) := Nat.mul_le_mul_left _ h3
          have h5 : 2 ^ (m + 1) = 2 * 2 ^ m := by rw [Nat.pow_succ]; omega
          omega
        have h1 : b % (a % b) < a % b := Nat.mod_lt _ (by omega)
        have hg2 : Nat.gcd b (a % b) = Nat.gcd (a % b) (b % (a % b)) := by rw [Nat.gcd_comm b, Nat.gcd_rec (a % b) b, Nat.gcd_comm]
        rw [hg, hg2]
        exact ih (a % b) (b % (a % b)) k (by omega) (by omega) hd (by omega)
/-- both sides' lowest terms -/
def fracN (up down : Nat) (lower : Bool) : Int64 := if lower = false then lN up / lN (Nat.gcd up down) else lN down / lN (Nat.gcd up down)
theorem M_lowest1 {up down : Nat} (hu : up < 2 ^ 63) (hd : down < 2 ^ 63) (h0 : 0 < down) (lower : Bool) : MX1_lowest (lN up) (lN down) lower = some (fracN up down lower) := by
  unfold MX1_lowest MX1_dividing fracN
  rw [M_div1 63 down up 200 hd hu hu (by omega)]
  simp only [Option.bind_some]
  have hg : 0 < Nat.gcd down up := Nat.gcd_pos_of_pos_left _ h0
  have hl : Nat.gcd down up ≤ down := Nat.gcd_le_left _ h0
  have hn : ¬ lN (Nat.gcd down up) = 0 := fun z => by
    have := (pk_lEQ (by omega) (by decide : 0 < 2 ^ 63)).mp z
    omega
  rw [gzl_of hn, gzl_of hn, Nat.gcd_comm down up]
  cases lower
  · rw [if_pos (show b2i false = 0 from rfl), if_pos rfl]
  · rw [if_neg (show ¬ b2i true = 0 by decide), if_neg (by decide)]
theorem M_fraction7 {up down : Nat} (hu : up < 2 ^ 63) (hd : down < 2 ^ 63) (h0 : 0 < down) (lower : Bool) : MX7_fraction (lN up) (lN down) lower = some (fracN up down lower, 0, -1) := by
  unfold MX7_fraction MX7_good MX7_common fracN
  rw [M_com7 63 up down FU hu hd hd (Nat.le_of_ble_eq_true rfl)]
  simp only [Option.bind_some]
  have hg : 0 < Nat.gcd up down := Nat.gcd_pos_of_pos_right _ h0
  have hl : Nat.gcd up down ≤ down := Nat.gcd_le_right _ h0
  have hn : ¬ lN (Nat.gcd up down) = 0 := fun z => by
    have := (pk_lEQ (by omega) (by decide : 0 < 2 ^ 63)).mp z
    omega
  rw [gzl_of hn, gzl_of hn]
  cases lower
  · rw [if_pos (show b2i false = 0 from rfl), if_pos rfl]
  · rw [if_neg (show ¬ b2i true = 0 by decide), if_neg (by decide)]
