set_option maxRecDepth 100000
/-! means and odds: the sums as natural numbers -/
theorem i2l {k : Nat} (h : k < 2 ^ 31) : Int32.toInt64 (nI k) = lN k := by
  apply Int64.toInt_inj.mp
  rw [Int32.toInt_toInt64, nI_toInt h, pk_lT (by omega)]
def weightN (liv set : Int32) (d : Nat → Nat) : Nat → Nat
  | 0 => 1
  | i + 1 => if hasB liv (nI i) = false then weightN liv set d i else if hasB set (nI i) = false then weightN liv set d i * (100 - d i) else weightN liv set d i * d i
theorem weightN_le {liv set : Int32} {d : Nat → Nat} : ∀ n, (∀ j, j < n → d j ≤ 100) → weightN liv set d n ≤ 100 ^ n := by
  intro n
  induction n with
  | zero => intro _; exact Nat.le_refl 1
  | succ n ih =>
    intro h
    have h1 := ih (fun j hj => h j (by omega))
    have h2 := h n (by omega)
    rw [weightN, Nat.pow_succ]
    split
    · omega
    · split
      · exact Nat.mul_le_mul h1 (by omega)
      · exact Nat.mul_le_mul h1 h2
theorem pow100 {n : Nat} (h : n ≤ 6) : 100 ^ n ≤ 1000000000000 := Nat.le_trans (Nat.pow_le_pow_right (by decide) h) (by decide)
theorem weight_lN {liv set : Int32} {d : Nat → Int32} {dN : Nat → Nat} : ∀ n, (∀ j, j < n → d j = nI (dN j) ∧ dN j ≤ 100) → weightF liv set d n = lN (weightN liv set dN n) := by
  intro n
  induction n with
  | zero => intro _; rfl
  | succ n ih =>
    intro h
    have h1 := ih (fun j hj => h j (by omega))
    obtain ⟨e, h2⟩ := h n (by omega)
    rw [weightF, weightN, h1, e]
    by_cases c : hasB liv (nI n) = false
    · rw [if_pos c, if_pos c]
    · rw [if_neg c, if_neg c]
      by_cases c2 : hasB set (nI n) = false
      · rw [if_pos c2, if_pos c2, show (100 : Int32) = nI 100 from rfl, pk_sub h2, i2l (by omega), lN_mul]
      · rw [if_neg c2, if_neg c2, i2l (by omega), lN_mul]
def wholeN (liv : Int32) : Nat → Nat
  | 0 => 1
  | i + 1 => if hasB liv (nI i) = false then wholeN liv i else wholeN liv i * 100
theorem whole_lN (liv : Int32) : ∀ n, wholeF liv n = lN (wholeN liv n) ∧ 0 < wholeN liv n ∧ wholeN liv n ≤ 100 ^ n := by
  intro n
  induction n with
  | zero => exact ⟨rfl, Nat.one_pos, Nat.le_refl 1⟩
  | succ n ih =>
    obtain ⟨h1, h2, h3⟩ := ih
    rw [wholeF, wholeN, h1, Nat.pow_succ]
    by_cases c : hasB liv (nI n) = false
    · rw [if_pos c, if_pos c, show (1 : Int64) = lN 1 from rfl, lN_mul]
      exact ⟨by rw [Nat.mul_one], h2, by omega⟩
    · rw [if_neg c, if_neg c, show (100 : Int64) = lN 100 from rfl, lN_mul]
      exact ⟨rfl, by omega, by omega⟩
/-- over all sets of the living -/
def sumN (liv : Int32) (w v : Int32 → Nat) : Nat → Nat
  | 0 => 0
  | i + 1 => if (nI i &&& (liv ^^^ (-1 : Int32))) = 0 then sumN liv w v i + w (nI i) * v (nI i) else sumN liv w v i
theorem sumN_le {liv : Int32} {w v : Int32 → Nat} {B : Nat} (h : ∀ s, w s * v s ≤ B) : ∀ m, sumN liv w v m ≤ m * B := by
  intro m
  induction m with
  | zero => exact Nat.zero_le _
  | succ m ih =>
    have h1 := h (nI m)
    rw [sumN, Nat.succ_mul]
    split <;> omega
theorem sum_lN {liv : Int32} {wt val : Int32 → Int64} {w v : Int32 → Nat} (hw : ∀ s, wt s = lN (w s) ∧ w s < 2 ^ 63) (hv : ∀ s, val s = lN (v s)) : ∀ m, sumF liv wt val m = lN (sumN liv w v m) := by
  intro m
  induction m with
  | zero => rfl
  | succ m ih =>
    obtain ⟨h1, h2⟩ := hw (nI m)
    rw [sumF, sumN, ih, h1, hv]
    by_cases c : (nI m &&& (liv ^^^ (-1 : Int32))) = 0
    · rw [if_pos c, if_pos c]
      by_cases c2 : lN (w (nI m)) = 0
      · rw [if_pos c2]
        have := (pk_lEQ h2 (by decide : 0 < 2 ^ 63)).mp c2
        rw [this, Nat.zero_mul, Nat.add_zero]
      · rw [if_neg c2, lN_mul, lN_add]
    · rw [if_neg c, if_neg c]
/-! what the people have then, as numbers -/
def thenN (liv : Int32) (a : AI) (n : Nat) (hN : Nat → Nat) (set : Int32) (j : Nat) : Nat := dieHN set (goesS liv a n set) hN (dieBN liv set hN) n j
def thenCN (liv : Int32) (a : AI) (n : Nat) (hN : Nat → Nat) (set : Int32) : Nat := dieCN set (goesS liv a n set) hN n
theorem goesS_pers {liv : Int32} {a : AI} {n : Nat} (hn : n ≤ 6) (set : Int32) {p : Nat} (hp : p < n) : pers n (goesS liv a n set p) := by
  rcases goesS_in (liv := liv) (a := a) hn set hp with h | ⟨i, hi, h, -⟩
  · exact Or.inl h
  · exact Or.inr ⟨i, hi, h⟩
theorem thenN_le {liv : Int32} {a : AI} {n : Nat} {hN : Nat → Nat} (hn : n ≤ 6) (hd : ∀ j, j < n → hasB liv (nI j) = false → hN j = 0) (set : Int32) : sumTo (thenN liv a n hN set) n + thenCN liv a n hN set = sumTo hN n :=
  die_keep hn (fun k hk _ => goesS_pers hn set hk) hd
theorem thenH_nI {liv : Int32} {a : AI} {n : Nat} {has : Nat → Int32} {hN : Nat → Nat} (e : ∀ k, k < n → has k = nI (hN k)) (set : Int32) {j : Nat} (hj : j < n) : thenH liv a n has set j = nI (thenN liv a n hN set j) := dieH_nI e (dieB_nI (e j hj)) n (Nat.le_refl n)
theorem thenC_nI {liv : Int32} {a : AI} {n : Nat} {has : Nat → Int32} {hN : Nat → Nat} (e : ∀ k, k < n → has k = nI (hN k)) (set : Int32) : thenC liv a n has set = nI (thenCN liv a n hN set) := dieC_nI e n (Nat.le_refl n)
/-- one goes to the living only -/
theorem loopN_inv {σ ρ : Type} {f : σ → Option (σ ⊕ ρ)} (I : σ → Prop) (P : ρ → Prop) (h1 : ∀ s s', I s → f s = some (.inl s') → I s') (h2 : ∀ s r, I s → f s = some (.inr r) → P r) : ∀ k s r, I s → loopN k f s = some r → P r := by
  intro k
  induction k with
  | zero => intro s r _ h; exact absurd h (by unfold loopN; intro z; cases z)
  | succ k ih =>
    intro s r hs h
    rcases loopN_succ h with ⟨s', e, h'⟩ | e
    · exact ih s' r (h1 s s' hs e) h'
    · exact h2 s r hs e
theorem goesS_liv {liv : Int32} {a : AI} {n : Nat} (hn : n ≤ 6) (set : Int32) {p : Nat} (hp : p < n) : goesS liv a n set p = -2 ∨ ∃ i, i < n ∧ goesS liv a n set p = nI i ∧ hasB liv (nI i) = true := by
  obtain ⟨r, e, e2, -⟩ := go_ends (set := set) hn (HX_pers (liv := liv) (a := a) hn) 8 (Nat.le_refl 8) ((1 : Int32) <<< (nI p &&& 31)) (HX liv a n (nI p)) (HX_pers hn p hp)
  have hH : ∀ j, j < n → HX liv a n (nI j) = -2 ∨ ∃ i, i < n ∧ HX liv a n (nI j) = nI i ∧ hasB liv (nI i) = true := by
    intro j hj
    rw [HX_at (by omega)]
    rcases heirF_in liv (hX a) j n hn with h | ⟨i, hi, h, -, h2, -⟩
    · exact Or.inl h
    · exact Or.inr ⟨i, hi, h, h2⟩
  have := loopN_inv (f := fun s : Int32 × Int32 => goB (HX liv a n) set s.1 s.2) (fun s => s.2 = -2 ∨ ∃ i, i < n ∧ s.2 = nI i ∧ hasB liv (nI i) = true) (fun r => goOut r = -2 ∨ ∃ i, i < n ∧ goOut r = nI i ∧ hasB liv (nI i) = true)
    (by
      intro s s' hs h
      obtain ⟨m, z⟩ := s
      have h : goB (HX liv a n) set m z = some (.inl s') := h
      unfold goB at h
      rcases hs with c | ⟨i, hi, c, -⟩
      · have c : z = -2 := c
        rw [if_pos c] at h; cases h
      · have c : z = nI i := c
        subst c
        rw [if_neg (nI_ne_m2 (by omega))] at h
        by_cases q1 : hasB set (nI i) = false
        · rw [if_pos q1] at h; cases h
        · rw [if_neg q1] at h
          by_cases q2 : hasB m (nI i) = false
          · rw [if_pos q2] at h
            have h := Sum.inl.inj (Option.some.inj h)
            subst h
            exact hH i hi
          · rw [if_neg q2] at h; cases h)
    (by
      intro s r hs h
      obtain ⟨m, z⟩ := s
      have h : goB (HX liv a n) set m z = some (.inr r) := h
      unfold goB at h
      by_cases q0 : z = -2
      · rw [if_pos q0] at h
        have h := Sum.inr.inj (Option.some.inj h)
        subst h
        exact hs
      · rw [if_neg q0] at h
        by_cases q1 : hasB set z = false
        · rw [if_pos q1] at h
          have h := Sum.inr.inj (Option.some.inj h)
          subst h
          exact hs
        · rw [if_neg q1] at h
          by_cases q2 : hasB m z = false
          · rw [if_pos q2] at h; cases h
          · rw [if_neg q2] at h
            have h := Sum.inr.inj (Option.some.inj h)
            subst h
            exact Or.inl rfl) 8 _ r (hH p hp) e
  rw [e2] at this
  exact this
theorem dieHN_dead {set : Int32} {to_ : Nat → Int32} {has base : Nat → Nat} {n j : Nat} (hn : n ≤ 6) (hj : j < n) (ht : ∀ p, p < n → to_ p ≠ nI j) : ∀ i, i ≤ n → dieHN set to_ has base i j = base j := by
  intro i
  induction i with
  | zero => intro _; rfl
  | succ i ih =>
    intro hi
    show (if hasB set (nI i) = true ∧ to_ i = nI j then _ else dieHN set to_ has base i j) = _
    rw [if_neg (fun z => ht i (by omega) z.2), ih (by omega)]
theorem thenN_dead {liv : Int32} {a : AI} {n j : Nat} {hN : Nat → Nat} (hn : n ≤ 6) (hj : j < n) (h : hasB liv (nI j) = false) (set : Int32) : thenN liv a n hN set j = 0 := by
  unfold thenN
  rw [dieHN_dead hn hj (by
    intro p hp z
    rcases goesS_liv (liv := liv) (a := a) hn set hp with e | ⟨i, hi, e, e2⟩
    · rw [e] at z; exact nI_ne_m2 (by omega) z.symm
    · rw [z] at e
      have := (nI_eq (by omega) (by omega)).mp e
      subst this
      rw [h] at e2; cases e2) n (Nat.le_refl n)]
  unfold dieBN
  rw [if_pos (Or.inr h)]
/-! op 17: mean -/
theorem wv_le {a b : Nat} (h1 : a ≤ 1000000000000) (h2 : b ≤ 594) : a * b ≤ 594000000000000 := Nat.le_trans (Nat.mul_le_mul h1 h2) (by decide)
theorem op_mean {n : Nat} (h0 : 0 < n) (hn : n ≤ 6) {liv hour cat nights seed : Int32} {has hours v : AI} (hR : townR n liv hour cat nights seed has hours v) (hI : townI n liv hour cat nights seed has) {pd dies : AI} {dN : Nat → Nat} (hd : ∀ j, j < n → pd j = nI (dN j) ∧ dN j ≤ 100) (hds : ∀ j, j < n → dies j = pd j) (p : Int32) (lower : Bool) (al wh : Int64) (tl th tc tn ts cg : Int32) (thas thours x heir then_ : AI) :
    ∃ a tr rX rM, MX1_mean p lower (nI n) al liv hour cat nights seed tl th tc tn ts has hours thas thours n pd = some (a, tr, -1, rX) ∧ MX7_mean p lower cg wh (nI n) v x heir then_ dies = some (a, 0, tr, -1, rM) ∧ ¬ tr = 4 := by
  have hdead := hI.dead
  obtain ⟨L, hN, cN, hr, nN, sN, hL, hL2, hh, hc, hs, hz, -⟩ := hI
  have hp2 := pow_le hn
  subst hL
  unfold MX1_mean MX7_mean MX1_anew MX1_no MX7_refused
  rw [M_isP1 h0 hn, M_isP7]
  simp only [Option.bind_some]
  cases c : isP n p
  · simp only [iff_]
    exact ⟨_, _, _, _, rfl, rfl, by decide⟩
  · simp only [ift]
    obtain ⟨k, hk, rfl⟩ := isP_of hn c
    obtain ⟨x', ex, hx⟩ := M_works7 v x
    have hR' := hR.copy hn hx
    obtain ⟨r, e1, e2, e3⟩ := M_sum5 hn hk (by omega) hour cat nights seed tl th tc tn ts thas thours has hours pd hdead
    have hw : ∀ s, weightF (nI L) s pd n = lN (weightN (nI L) s dN n) ∧ weightN (nI L) s dN n < 2 ^ 63 := fun s => ⟨weight_lN n hd, Nat.lt_of_le_of_lt (Nat.le_trans (weightN_le n (fun j hj => (hd j hj).2)) (pow100 hn)) (by decide)⟩
    have hle : ∀ s, thenN (nI L) hours n hN s k ≤ 594 := fun s => by have h1 := thenN_le (a := hours) hn hz s; have h2 := sumTo_get (f := thenN (nI L) hours n hN s) n k hk; omega
    have hv : ∀ s, Int32.toInt64 (thenH (nI L) hours n has s k) = lN (thenN (nI L) hours n hN s k) := fun s => by rw [thenH_nI hh s hk, i2l (by have := hle s; omega)]
    have hS := sum_lN (liv := nI L) hw hv (L + 1)
    obtain ⟨w1, w2, w3⟩ := whole_lN (nI L) n
    have w4 := pow100 hn
    have hSb := sumN_le (liv := nI L) (w := fun s => weightN (nI L) s dN n) (v := fun s => thenN (nI L) hours n hN s k) (B := 594000000000000) (fun s => wv_le (Nat.le_trans (weightN_le n (fun j hj => (hd j hj).2)) (pow100 hn)) (hle s)) (L + 1)
    have hSb' : sumN (nI L) (fun s => weightN (nI L) s dN n) (fun s => thenN (nI L) hours n hN s k) (L + 1) < 2 ^ 63 := Nat.lt_of_le_of_lt hSb (by omega)
    rw [e1, Option.bind_some, e2, e3, hS, w1, M_lowest1 hSb' (by omega) w2, Option.bind_some, ex, Option.bind_some, M_isLiving7, hR'.1]
    simp only [Option.bind_some]
    cases c2 : hasB (nI L) (nI k)
    · simp only [iff_]
      have z0 : sumN (nI L) (fun s => weightN (nI L) s dN n) (fun s => thenN (nI L) hours n hN s k) (L + 1) = 0 := by
        have := sumN_le (liv := nI L) (w := fun s => weightN (nI L) s dN n) (v := fun s => thenN (nI L) hours n hN s k) (B := 0) (fun s => by rw [thenN_dead hn hk c2]; exact Nat.le_refl 0) (L + 1)
        omega
      rw [z0, show (0 : Int64) = lN 0 from rfl, show (1 : Int64) = lN 1 from rfl, M_fraction7 (by decide) (by decide) (by decide), Option.bind_some]
      have ef : fracN 0 1 lower = fracN 0 (wholeN (nI L) n) lower := by
        unfold fracN
        rw [Nat.gcd_zero_left, Nat.gcd_zero_left]
        cases lower
        · rw [if_pos rfl, if_pos rfl, pk_lDiv (by decide) w2 (by omega), Nat.zero_div]; rfl
        · rw [if_neg (by decide), if_neg (by decide), pk_lDiv (by omega) w2 (by omega), Nat.div_self w2]; rfl
      rw [← ef]
      exact ⟨_, _, _, _, rfl, rfl, by decide⟩
    · simp only [ift]
      obtain ⟨r7, f1, f2, f3⟩ := M_mean7 hn hk (by omega) cg x' heir dies then_ hours has hR'.1 hR'.2.2.2.2.2.1 hR'.2.2.2.2.2.2
      have hw' : (fun set => weightF (nI L) set dies n) = (fun set => weightF (nI L) set pd n) := funext (fun s => weightF_congr n hds)
      rw [f1, Option.bind_some, f2, f3, hw', hS, w1, M_fraction7 hSb' (by omega) w2, Option.bind_some]
      exact ⟨_, _, _, _, rfl, rfl, by decide⟩
