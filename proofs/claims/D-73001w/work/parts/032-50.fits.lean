set_option maxRecDepth 100000
/-! hours that aren't sure -/
def heardI (n m : Nat) (b o t g : Nat → Nat) : Prop := m ≤ 3 ∧ (∀ k, k < m → b k < n ∧ o k < n ∧ t k ≤ 99 ∧ g k ≤ 3) ∧ ∀ k l, k < m → l < m → 6 * b k + o k = 6 * b l + o l → k = l
def heardX (m : Nat) (b o t g : Nat → Nat) (hby hof hat hgive : AI) : Prop := ∀ k, k < m → hby k = nI (b k) ∧ hof k = nI (o k) ∧ hat k = nI (t k) ∧ hgive k = nI (g k)
def heardM (m : Nat) (b o t g : Nat → Nat) (by_ of_ give asked : AI) : Prop := ∀ k, k < m → by_ k = nI (b k) ∧ of_ k = nI (o k) ∧ give k = nI (g k) ∧ asked (6 * b k + o k) = nI (t k)
def loN (t g : Nat → Nat) (k : Nat) : Nat := t k - g k
def maN (t g : Nat → Nat) (k : Nat) : Nat := t k + g k - (t k - g k) + 1
theorem maN_le {t g : Nat → Nat} {k : Nat} (ht : t k ≤ 99) (hg : g k ≤ 3) : maN t g k ≤ 7 ∧ 0 < maN t g k := by unfold maN; omega
theorem M_earliest8 {m k : Nat} (hm : m ≤ 3) (hk : k < m) {b o t g : Nat → Nat} {hby hof hat hgive : AI} (ht : t k ≤ 99) (hg : g k ≤ 3) (h : heardX m b o t g hby hof hat hgive) : MX8_earliest (nI k) hat hgive = some (nI (loN t g k)) := by
  obtain ⟨-, -, h3, h4⟩ := h k hk
  unfold MX8_earliest
  rw [gi_nI (by omega) (by decide), gi_nI (by omega) (by decide), nIc (by omega), h3, h4]
  congr 1
  unfold maxI loN
  by_cases c : g k ≤ t k
  · rw [pk_sub c]
    by_cases c2 : t k - g k = 0
    · rw [c2, if_neg (by decide)]; rfl
    · rw [if_pos (show (0 : Int32) < nI (t k - g k) from nI_lt (a := 0) (by omega) (by omega))]
  · rw [if_neg (Int32.not_lt.mpr (Int32.le_of_lt (pk_sneg (by omega) (by omega)))), show t k - g k = 0 by omega]; rfl
theorem M_mayBe8 {m k : Nat} (hm : m ≤ 3) (hk : k < m) {b o t g : Nat → Nat} {hby hof hat hgive : AI} (ht : t k ≤ 99) (hg : g k ≤ 3) (h : heardX m b o t g hby hof hat hgive) : MX8_mayBe (nI k) hat hgive = some (nI (maN t g k)) := by
  have e := M_earliest8 hm hk ht hg h
  obtain ⟨-, -, h3, h4⟩ := h k hk
  unfold MX8_mayBe
  rw [gi_nI (by omega) (by decide), gi_nI (by omega) (by decide), e, Option.bind_some, nIc (by omega), h3, h4, nI_add, pk_sub (by unfold loN; omega), nI_1]
  rfl
theorem M_low7 {n m k : Nat} (hn : n ≤ 6) (hk : k < m) {b o t g : Nat → Nat} {by_ of_ give asked : AI} (hI : heardI n m b o t g) (h : heardM m b o t g by_ of_ give asked) : MX7_low (nI k) by_ of_ asked give = some (nI (loN t g k)) := by
  obtain ⟨h1, h2, h3, h4⟩ := h k hk
  obtain ⟨i0, i1, -⟩ := hI
  obtain ⟨j1, j2, j3, j4⟩ := i1 k hk
  unfold MX7_low
  simp only [lt_]
  rw [gi_nI (by omega) (by decide), gi_nI (by omega) (by decide), nIc (by omega), h1, h2, idx6, gi_nI (by omega) (by decide), nIc (by omega), gi_nI (by omega) (by decide), h3, h4]
  unfold loN
  by_cases c : t k ≤ g k
  · rw [if_pos (nI_le c (by omega)), show t k - g k = 0 by omega]; rfl
  · rw [if_neg (nI_ge (by omega) (by omega)), gi_nI (by omega) (by decide), pk_sub (by omega)]
theorem M_many7 {n m k : Nat} (hn : n ≤ 6) (hk : k < m) {b o t g : Nat → Nat} {by_ of_ give asked : AI} (hI : heardI n m b o t g) (h : heardM m b o t g by_ of_ give asked) : MX7_many (nI k) by_ of_ asked give = some (nI (maN t g k)) := by
  have e := M_low7 hn hk hI h
  obtain ⟨h1, h2, h3, h4⟩ := h k hk
  obtain ⟨i0, i1, -⟩ := hI
  obtain ⟨j1, j2, j3, j4⟩ := i1 k hk
  unfold MX7_many
  rw [gi_nI (by omega) (by decide), gi_nI (by omega) (by decide), nIc (by omega), h1, h2, idx6, gi_nI (by omega) (by decide), nIc (by omega), gi_nI (by omega) (by decide), e, Option.bind_some, h3, h4, nI_add, pk_sub (by unfold loN; omega), nI_1]
  rfl
/-- how many ways there are in all -/
def codN (t g : Nat → Nat) : Nat → Nat
  | 0 => 1
  | k + 1 => codN t g k * maN t g k
theorem codN_le {n m : Nat} {b o t g : Nat → Nat} (hI : heardI n m b o t g) : ∀ i, i ≤ m → codN t g i ≤ 7 ^ i ∧ 0 < codN t g i := by
  intro i
  induction i with
  | zero => intro _; exact ⟨Nat.le_refl _, Nat.one_pos⟩
  | succ i ih =>
    intro hi
    obtain ⟨-, -, j3, j4⟩ := hI.2.1 i (by omega)
    obtain ⟨a1, a2⟩ := ih (by omega)
    obtain ⟨b1, b2⟩ := maN_le (t := t) (g := g) (k := i) j3 j4
    exact ⟨by rw [codN, Nat.pow_succ]; exact Nat.mul_le_mul a1 b1, Nat.mul_pos a2 b2⟩
theorem codN_343 {n m : Nat} {b o t g : Nat → Nat} (hI : heardI n m b o t g) : codN t g m ≤ 343 := Nat.le_trans (codN_le hI m (Nat.le_refl m)).1 (Nat.le_trans (Nat.pow_le_pow_right (by decide) hI.1) (by decide))
theorem M_choices1 {n m : Nat} {b o t g : Nat → Nat} {hby hof hat hgive : AI} (hI : heardI n m b o t g) (h : heardX m b o t g hby hof hat hgive) : MX1_choices (nI m) hat hgive = some (nI (codN t g m)) := by
  have hm := hI.1
  obtain ⟨r, e, hr⟩ := loop_FU (f := fun s_ : Int32 × Int32 => BX1_choices_4 (nI m) hat hgive s_.1 s_.2) (fun i s => s = (nI (codN t g i), nI i)) (fun r => r = nI (codN t g m)) m (by omega) ((1 : Int32), (0 : Int32)) rfl
    (by
      intro i s hi hs
      subst hs
      obtain ⟨-, -, j3, j4⟩ := hI.2.1 i hi
      refine Or.inl ⟨_, ?_, rfl⟩
      show BX1_choices_4 (nI m) hat hgive (nI (codN t g i)) (nI i) = _
      unfold BX1_choices_4
      rw [if_neg (nI_ge hi (by omega)), nI_1, M_mayBe8 hm hi j3 j4 h, Option.bind_some, pk_mul]; rfl)
    (by
      intro s hs
      subst hs
      exact ⟨_, by show BX1_choices_4 (nI m) hat hgive _ (nI m) = _; unfold BX1_choices_4; rw [if_pos (nI_le (Nat.le_refl m) (by omega))], rfl⟩)
  unfold MX1_choices
  rw [e, hr]; rfl
theorem L_codes7 {n m : Nat} (hn : n ≤ 6) {b o t g : Nat → Nat} {by_ of_ give asked : AI} (hI : heardI n m b o t g) (h : heardM m b o t g by_ of_ give asked) : loopN FU (fun s_ : Int32 × Int32 => BX7_fitting_13 (nI m) asked by_ of_ give s_.1 s_.2) ((1 : Int32), (0 : Int32)) = some (nI (codN t g m)) := by
  have hm := hI.1
  obtain ⟨r, e, hr⟩ := loop_FU (f := fun s_ : Int32 × Int32 => BX7_fitting_13 (nI m) asked by_ of_ give s_.1 s_.2) (fun i s => s = (nI (codN t g i), nI i)) (fun r => r = nI (codN t g m)) m (by omega) ((1 : Int32), (0 : Int32)) rfl
    (by
      intro i s hi hs
      subst hs
      refine Or.inl ⟨_, ?_, rfl⟩
      show BX7_fitting_13 (nI m) asked by_ of_ give (nI (codN t g i)) (nI i) = _
      unfold BX7_fitting_13
      rw [if_neg (nI_ge hi (by omega)), nI_1, M_many7 hn hi hI h, Option.bind_some, pk_mul]; rfl)
    (by
      intro s hs
      subst hs
      exact ⟨_, by show BX7_fitting_13 (nI m) asked by_ of_ give _ (nI m) = _; unfold BX7_fitting_13; rw [if_pos (nI_le (Nat.le_refl m) (by omega))], rfl⟩)
  rw [e, hr]
/-- what is left of a code behind j of the choices, from the last; the k-th choice -/
def leftN (t g : Nat → Nat) (m code : Nat) : Nat → Nat
  | 0 => code
  | j + 1 => leftN t g m code j / maN t g (m - 1 - j)
def chN (t g : Nat → Nat) (m code k : Nat) : Nat := leftN t g m code (m - 1 - k) % maN t g k
theorem leftN_le {t g : Nat → Nat} {m code : Nat} : ∀ j, leftN t g m code j ≤ code := by
  intro j
  induction j with
  | zero => exact Nat.le_refl _
  | succ j ih => exact Nat.le_trans (Nat.div_le_self _ _) ih
theorem chN_lt {t g : Nat → Nat} {m code k : Nat} (ht : t k ≤ 99) (hg : g k ≤ 3) : chN t g m code k < 7 := by
  have := maN_le (t := t) (g := g) (k := k) ht hg
  exact Nat.lt_of_lt_of_le (Nat.mod_lt _ this.2) this.1
theorem nzI {a : Nat} (h0 : 0 < a) (h : a < 2 ^ 31) : ¬ nI a = 0 := nI_ne0 h0 h
theorem M_choice1 {n m k code : Nat} (hk : k < m) (hc : code < 2 ^ 20) {b o t g : Nat → Nat} {hby hof hat hgive : AI} (hI : heardI n m b o t g) (h : heardX m b o t g hby hof hat hgive) : MX1_choice (nI code) (nI k) (nI m) hat hgive = some (nI (chN t g m code k)) := by
  have hm := hI.1
  obtain ⟨r, e, hr⟩ := loop_FU (f := fun s_ : Int32 × Int32 => BX1_choice_13 (nI k) hat hgive s_.1 s_.2) (fun j s => s = (nI (leftN t g m code j), nI (m - 1 - j))) (fun r => r = nI (leftN t g m code (m - 1 - k))) (m - 1 - k) (by omega) (nI code, nI (m - 1)) rfl
    (by
      intro j s hj hs
      subst hs
      obtain ⟨-, -, j3, j4⟩ := hI.2.1 (m - 1 - j) (by omega)
      have hM := maN_le (t := t) (g := g) (k := m - 1 - j) j3 j4
      have hl := leftN_le (t := t) (g := g) (m := m) (code := code) j
      refine Or.inl ⟨_, ?_, rfl⟩
      show BX1_choice_13 (nI k) hat hgive (nI (leftN t g m code j)) (nI (m - 1 - j)) = _
      unfold BX1_choice_13
      rw [if_neg (nI_ge (by omega) (by omega)), M_mayBe8 hm (by omega) j3 j4 h, Option.bind_some, gz_of (nzI hM.2 (by omega)), pk_div (by omega) hM.2 (by omega), show m - 1 - j = (m - 1 - (j + 1)) + 1 by omega, pk_m1, ← show m - 1 - j = (m - 1 - (j + 1)) + 1 by omega]
      rfl)
    (by
      intro s hs
      subst hs
      exact ⟨_, by show BX1_choice_13 (nI k) hat hgive _ (nI (m - 1 - (m - 1 - k))) = _; unfold BX1_choice_13; rw [if_pos (nI_le (by omega) (by omega))], rfl⟩)
  obtain ⟨-, -, j3, j4⟩ := hI.2.1 k hk
  have hM := maN_le (t := t) (g := g) (k := k) j3 j4
  have hl := leftN_le (t := t) (g := g) (m := m) (code := code) (m - 1 - k)
  unfold MX1_choice
  rw [nI_m1 (by omega), e, Option.bind_some, M_mayBe8 hm hk j3 j4 h, Option.bind_some, gz_of (nzI hM.2 (by omega)), hr, pk_rem (by omega) hM.2 (by omega)]
  rfl
/-- the hours with those that were heard laid, k of them -/
def hrU (b o t g : Nat → Nat) (m code : Nat) (base : AI) : Nat → AI
  | 0 => base
  | k + 1 => upd (hrU b o t g m code base k) (6 * b k + o k) (nI (loN t g k + chN t g m code k))
theorem hrU_at {n m code : Nat} {b o t g : Nat → Nat} (hI : heardI n m b o t g) {base : AI} : ∀ i, i ≤ m → ∀ k, k < i → hrU b o t g m code base i (6 * b k + o k) = nI (loN t g k + chN t g m code k) := by
  intro i
  induction i with
  | zero => intro _ k h; omega
  | succ i ih =>
    intro hi k hk
    rw [hrU]
    by_cases c : k = i
    · subst c; exact pk_us
    · rw [pk_un (fun z => c (hI.2.2 k i (by omega) (by omega) z)), ih (by omega) k (by omega)]
theorem hrU_out {m code : Nat} {b o t g : Nat → Nat} {base : AI} {j : Nat} : ∀ i, (∀ k, k < i → j ≠ 6 * b k + o k) → hrU b o t g m code base i j = base j := by
  intro i
  induction i with
  | zero => intro _; rfl
  | succ i ih =>
    intro h
    rw [hrU, pk_un (h i (by omega)), ih (fun k hk => h k (by omega))]
theorem hrU_congr {m code : Nat} {b o t g : Nat → Nat} {base base' : AI} (h : ∀ j, j < 36 → base j = base' j) : ∀ i j, j < 36 → hrU b o t g m code base i j = hrU b o t g m code base' i j := by
  intro i
  induction i with
  | zero => exact h
  | succ i ih =>
    intro j hj
    rw [hrU, hrU]
    by_cases c : j = 6 * b i + o i
    · subst c; rw [pk_us, pk_us]
    · rw [pk_un c, pk_un c, ih j hj]
theorem heirF_congr {liv : Int32} {h h' : Nat → Nat → Int32} {of : Nat} : ∀ n, (∀ p, p < n → h p of = h' p of) → n ≤ 6 → heirF liv h of n = heirF liv h' of n := by
  intro n
  induction n with
  | zero => intro _ _; rfl
  | succ n ih =>
    intro e hn
    have i1 := ih (fun p hp => e p (by omega)) (by omega)
    show heirStep liv h of (heirF liv h of n) n = heirStep liv h' of (heirF liv h' of n) n
    unfold heirStep
    rw [i1, e n (by omega)]
    rcases heirF_in liv h' of n (by omega) with q | ⟨j, hj, q, -⟩
    · rw [q]
      by_cases c1 : n = of
      · rw [if_pos c1, if_pos c1]
      · rw [if_neg c1, if_neg c1, if_pos rfl, if_pos rfl]
    · rw [q, nIc (by omega), e j (by omega)]
theorem heirX_congr {liv : Int32} {a a' : AI} {of n : Nat} (hn : n ≤ 6) (ho : of < 6) (h : ∀ j, j < 36 → a j = a' j) : heirF liv (hX a) of n = heirF liv (hX a') of n := heirF_congr n (fun p hp => h (6 * p + of) (by omega)) hn
/-- the first person of whom it went otherwise than told -/
def wrF (went H : Nat → Int32) : Nat → Int32
  | 0 => -2
  | i + 1 => if wrF went H i = -2 then (if went i = -1 then -2 else if H i = went i then -2 else nI i) else wrF went H i
theorem wrF_stay {went H : Nat → Int32} {i : Nat} (h : ¬ wrF went H i = -2) : ∀ d, wrF went H (i + d) = wrF went H i := by
  intro d
  induction d with
  | zero => rfl
  | succ d ih =>
    show (if wrF went H (i + d) = -2 then _ else wrF went H (i + d)) = _
    rw [ih, if_neg h]
theorem wrF_congr {went went' H H' : Nat → Int32} : ∀ n, (∀ i, i < n → went i = went' i ∧ H i = H' i) → wrF went H n = wrF went' H' n := by
  intro n
  induction n with
  | zero => intro _; rfl
  | succ n ih => intro h; rw [wrF, wrF, ih (fun i hi => h i (by omega)), (h n (by omega)).1, (h n (by omega)).2]
def wrOut : Int32 ⊕ Unit → Int32
  | .inl z => z
  | .inr _ => -2
theorem L_wrong {f : Int32 → Option (Int32 ⊕ (Int32 ⊕ Unit))} {went H : Nat → Int32} {n : Nat} (hn : n ≤ 6) (hs : ∀ i, i < n → f (nI i) = if went i = -1 then some (.inl (nI (i + 1))) else if H i = went i then some (.inl (nI (i + 1))) else some (.inr (.inl (nI i)))) (he : f (nI n) = some (.inr (.inr ()))) : ∃ r, loopN FU f (0 : Int32) = some r ∧ wrOut r = wrF went H n := by
  refine loop_FU (f := f) (fun i s => s = nI i ∧ wrF went H i = -2) (fun r => wrOut r = wrF went H n) n (by omega) (0 : Int32) ⟨rfl, rfl⟩ ?_ ?_
  · intro i s hi hI
    obtain ⟨rfl, h2⟩ := hI
    rw [hs i hi]
    have e1 : wrF went H (i + 1) = if went i = -1 then -2 else if H i = went i then -2 else nI i := by rw [wrF, if_pos h2]
    by_cases c1 : went i = -1
    · rw [if_pos c1]; exact Or.inl ⟨_, rfl, rfl, by rw [e1, if_pos c1]⟩
    · rw [if_neg c1]
      by_cases c2 : H i = went i
      · rw [if_pos c2]; exact Or.inl ⟨_, rfl, rfl, by rw [e1, if_neg c1, if_pos c2]⟩
      · rw [if_neg c2]
        have e2 : wrF went H (i + 1) = nI i := by rw [e1, if_neg c1, if_neg c2]
        refine Or.inr ⟨_, rfl, ?_⟩
        have := wrF_stay (went := went) (H := H) (i := i + 1) (by rw [e2]; exact nI_ne_m2 (by omega)) (n - (i + 1))
        rw [show i + 1 + (n - (i + 1)) = n by omega] at this
        rw [this, e2]; rfl
  · intro s hI
    obtain ⟨rfl, h2⟩ := hI
    exact ⟨_, he, by rw [h2]; rfl⟩
theorem bind_wr {r : Int32 ⊕ Unit} : ((some r).bind fun r => match r with | .inl z => some z | .inr _ => some (-2 : Int32)) = some (wrOut r) := by cases r <;> rfl
theorem M_wrong1 {n : Nat} (hn : n ≤ 6) (liv : Int32) (hours pt : AI) : MX1_wrong (nI n) liv hours n pt = some (wrF pt (fun p => heirF liv (hX hours) p n) n) := by
  obtain ⟨r, e, h⟩ := L_wrong (f := fun s_ => BX1_wrong_2 (nI n) liv hours n pt s_) (went := pt) (H := fun p => heirF liv (hX hours) p n) hn (by
    intro i hi
    show BX1_wrong_2 (nI n) liv hours n pt (nI i) = _
    unfold BX1_wrong_2
    rw [if_neg (nI_ge hi (by omega)), nI_1, gi_nI (by omega) (by decide), nIc (by omega), gn_of hi]
    by_cases c1 : pt i = -1
    · rw [if_pos c1, if_pos c1]
    · rw [if_neg c1, if_neg c1, M_heir4 hn (by omega), Option.bind_some, gi_nI (by omega) (by decide), gn_of hi]) (by
    show BX1_wrong_2 (nI n) liv hours n pt (nI n) = _
    unfold BX1_wrong_2
    rw [if_pos (nI_le (Nat.le_refl n) (by omega))])
  unfold MX1_wrong
  rw [e, ← h]
  exact bind_wr
theorem M_wrong7 {n : Nat} (hn : n ≤ 6) (went x a : AI) (hr : hrel a x) : MX7_wrong (nI n) went x = some (wrF went (fun p => heirF (x 42) (hX a) p n) n) := by
  obtain ⟨r, e, h⟩ := L_wrong (f := fun s_ => BX7_wrong_2 (nI n) went x s_) (went := went) (H := fun p => heirF (x 42) (hX a) p n) hn (by
    intro i hi
    show BX7_wrong_2 (nI n) went x (nI i) = _
    unfold BX7_wrong_2
    rw [if_neg (nI_ge hi (by omega)), nI_1, gi_nI (by omega) (by decide), nIc (by omega)]
    by_cases c1 : went i = -1
    · rw [if_pos c1, if_pos c1]
    · rw [if_neg c1, if_neg c1, M_heir7 hn (by omega) a x hr, Option.bind_some, gi_nI (by omega) (by decide)]) (by
    show BX7_wrong_2 (nI n) went x (nI n) = _
    unfold BX7_wrong_2
    rw [if_pos (nI_le (Nat.le_refl n) (by omega))])
  unfold MX7_wrong
  rw [e, ← h]
  exact bind_wr
/-- a town as it is told, on both sides -/
theorem M_begin4 {n : Nat} (hn : n ≤ 6) (h : Int32) (th ch thas pw : AI) : ∃ hours' has', MX4_begin h (nI n) th ch thas n pw = some (nI (2 ^ n - 1), h, 0, 0, 0, hours', has') ∧ (∀ j, j < 36 → hours' j = ch j) ∧ ∀ j, j < n → has' j = pw j := by
  have hp := pow_le hn
  have hall : MX8_all (nI n) = some (nI (2 ^ n - 1)) := by
    unfold MX8_all
    rw [pow_n n (by omega), nI_m1 (by omega)]
  obtain ⟨a', e, h1, -⟩ := loop_copy (f := fun s_ : Int32 × AI => BX4_begin_53 (nI n) n pw (nI (2 ^ n - 1)) (va_cpy ch th 0 0 36) s_.1 s_.2) n 0 pw (by omega) thas (by
    intro i a hi
    show BX4_begin_53 (nI n) n pw _ _ (nI i) a = _
    unfold BX4_begin_53
    rw [if_neg (nI_ge hi (by omega)), nI_1, gi_nI (by omega) (by decide), nIc (by omega), gn_of hi, gi_nI (by omega) (by decide), Nat.zero_add]) (by
    intro a
    show BX4_begin_53 (nI n) n pw _ _ (nI n) a = _
    unfold BX4_begin_53
    rw [if_pos (nI_le (Nat.le_refl n) (by omega))])
  refine ⟨va_cpy ch th 0 0 36, a', ?_, fun j hj => sb_cpy0 hj, fun j hj => by have := h1 j hj; rwa [Nat.zero_add] at this⟩
  unfold MX4_begin
  rw [hall, Option.bind_some, e, Option.bind_some]
theorem M_asTold7 {n : Nat} (hn : n ≤ 6) (h : Int32) (x chas casked : AI) : ∃ x', MX7_asTold x h (nI n) chas casked = some x' ∧ x' 42 = nI (2 ^ n - 1) ∧ x' 43 = 0 ∧ x' 44 = h ∧ x' 45 = 0 ∧ x' 46 = 0 ∧ (∀ j, j < 6 → x' j = chas j) ∧ ∀ j, j < 36 → x' (6 + j) = casked j := by
  have hp := pow_le hn
  obtain ⟨x1, e1, a1, -⟩ := loop_copy (f := fun s_ : Int32 × AI => BX7_asTold_2 s_.1 s_.2) 47 0 (fun _ => 0) (by decide) x (by
    intro i a hi
    show BX7_asTold_2 (nI i) a = _
    unfold BX7_asTold_2
    rw [if_neg (le47 hi), nI_1, gi_nI hi (by decide), nIc (by omega), Nat.zero_add]) (by
    intro a
    show BX7_asTold_2 (nI 47) a = _
    unfold BX7_asTold_2
    rw [if_pos (by decide)])
  obtain ⟨x2, e2, b1, b2⟩ := loop_copy (f := fun s_ : Int32 × AI => BX7_asTold_23 chas s_.1 s_.2) 6 0 chas (by decide) x1 (by
    intro i a hi
    show BX7_asTold_23 chas (nI i) a = _
    unfold BX7_asTold_23
    rw [if_neg (show ¬ (6 : Int32) ≤ nI i from nI_ge (b := 6) hi (by decide)), nI_1, gi_nI hi (by decide), gi_nI (by omega) (by decide), nIc (by omega), Nat.zero_add]) (by
    intro a
    show BX7_asTold_23 chas (nI 6) a = _
    unfold BX7_asTold_23
    rw [if_pos (by decide)])
  obtain ⟨x3, e3, c1, c2⟩ := loop_copy (f := fun s_ : Int32 × AI => BX7_asTold_52 casked s_.1 s_.2) 36 6 casked (by decide) x2 (by
    intro i a hi
    show BX7_asTold_52 casked (nI i) a = _
    unfold BX7_asTold_52
    rw [if_neg (show ¬ (36 : Int32) ≤ nI i from nI_ge (b := 36) hi (by decide)), nI_1, show (6 : Int32) + nI i = nI (6 + i) from by rw [show (6 : Int32) = nI 6 from rfl, nI_add], gi_nI hi (by decide), gi_nI (by omega) (by decide), nIc (by omega), nIc (by omega)]) (by
    intro a
    show BX7_asTold_52 casked (nI 36) a = _
    unfold BX7_asTold_52
    rw [if_pos (by decide)])
  have z : ∀ j, 42 ≤ j → j < 47 → x3 j = 0 := fun j h1 h2 => by
    rw [c2 j (by omega), b2 j (by omega)]
    have := a1 j h2
    rwa [Nat.zero_add] at this
  refine ⟨upd (upd x3 42 (nI (2 ^ n - 1))) 44 h, ?_, ?_, ?_, pk_us, ?_, ?_, ?_, ?_⟩
  · unfold MX7_asTold
    rw [e1, Option.bind_some, e2, Option.bind_some, e3, Option.bind_some, pow_n n (by omega), nI_m1 (by omega)]
  · rw [pk_un (by decide), pk_us]
  · rw [pk_un (by decide), pk_un (by decide), z 43 (by decide) (by decide)]
  · rw [pk_un (by decide), pk_un (by decide), z 45 (by decide) (by decide)]
  · rw [pk_un (by decide), pk_un (by decide), z 46 (by decide) (by decide)]
  · intro j hj
    rw [pk_un (by omega), pk_un (by omega), c2 j (by omega)]
    have := b1 j hj
    rwa [Nat.zero_add] at this
  · intro j hj
    rw [pk_un (by omega), pk_un (by omega), c1 j hj]
/-- the two codings of what is told of hours -/
def hrel0 (ch asked : AI) : Prop := ∀ j, j < 36 → (ch j = -2 ∧ asked j = -1) ∨ (ch j = asked j ∧ ¬ ch j < 0)
theorem hrel0.to {ch asked x : AI} (h : hrel0 ch asked) (hx : ∀ j, j < 36 → x (6 + j) = asked j) : hrel ch x := fun j hj => by rw [hx j hj]; exact h j hj
theorem hrel.congr {a a' x : AI} (h : hrel a x) (e : ∀ j, j < 36 → a' j = a j) : hrel a' x := fun j hj => by rw [e j hj]; exact h j hj
/-! op 33: judge -/
theorem op_judge {n : Nat} (hn : n ≤ 6) {h : Int32} {ch asked pt went : AI} (hr : hrel0 ch asked) (hw : ∀ j, j < n → went j = pt j) (th thas pw x chas : AI) :
    ∃ a tr rX rM, MX1_judge h (nI n) thas th ch n pw pt = some (a, tr, -1, rX) ∧ MX7_judge h (nI n) x chas asked went = some (a, 0, tr, -1, rM) ∧ ¬ tr = 4 := by
  obtain ⟨hours', has', e1, e2, e3⟩ := M_begin4 hn h th ch thas pw
  obtain ⟨x', f1, f2, -, -, -, -, -, f3⟩ := M_asTold7 hn h x chas asked
  have hr' : hrel hours' x' := (hr.to f3).congr e2
  unfold MX1_judge MX7_judge MX1_anew MX7_good
  rw [Option.bind_some, e1, Option.bind_some, f1, Option.bind_some]
  dsimp only
  rw [M_wrong1 hn, M_wrong7 hn went x' hours' hr', Option.bind_some, Option.bind_some, f2, wrF_congr (went := went) (went' := pt) n (fun i hi => ⟨hw i hi, rfl⟩)]
  exact ⟨_, _, _, _, rfl, rfl, by decide⟩
