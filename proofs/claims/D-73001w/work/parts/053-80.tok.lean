set_option maxRecDepth 100000
/-! reading a city, plain: bytes, words, tokens on both sides -/
def tkS (s : ZS) (en tk pl wh : Int32) (wd : Option Nat) (le : AI) (sn : Nat) (sl : Nat → Nat) (sf : Nat → AI) : ZS := (en, tk, pl, wh, wd, s.2.2.2.2.2.1, le, s.2.2.2.2.2.2.2.1, s.2.2.2.2.2.2.2.2.1, s.2.2.2.2.2.2.2.2.2.1, s.2.2.2.2.2.2.2.2.2.2.1, s.2.2.2.2.2.2.2.2.2.2.2.1, s.2.2.2.2.2.2.2.2.2.2.2.2.1, s.2.2.2.2.2.2.2.2.2.2.2.2.2.1, s.2.2.2.2.2.2.2.2.2.2.2.2.2.2.1, s.2.2.2.2.2.2.2.2.2.2.2.2.2.2.2.1, s.2.2.2.2.2.2.2.2.2.2.2.2.2.2.2.2.1, s.2.2.2.2.2.2.2.2.2.2.2.2.2.2.2.2.2.1, s.2.2.2.2.2.2.2.2.2.2.2.2.2.2.2.2.2.2.1, s.2.2.2.2.2.2.2.2.2.2.2.2.2.2.2.2.2.2.2.1, s.2.2.2.2.2.2.2.2.2.2.2.2.2.2.2.2.2.2.2.2.1, s.2.2.2.2.2.2.2.2.2.2.2.2.2.2.2.2.2.2.2.2.2.1, s.2.2.2.2.2.2.2.2.2.2.2.2.2.2.2.2.2.2.2.2.2.2.1, s.2.2.2.2.2.2.2.2.2.2.2.2.2.2.2.2.2.2.2.2.2.2.2.1, s.2.2.2.2.2.2.2.2.2.2.2.2.2.2.2.2.2.2.2.2.2.2.2.2.1, s.2.2.2.2.2.2.2.2.2.2.2.2.2.2.2.2.2.2.2.2.2.2.2.2.2.1, s.2.2.2.2.2.2.2.2.2.2.2.2.2.2.2.2.2.2.2.2.2.2.2.2.2.2.1, s.2.2.2.2.2.2.2.2.2.2.2.2.2.2.2.2.2.2.2.2.2.2.2.2.2.2.2.1, sn, sl, sf, s.2.2.2.2.2.2.2.2.2.2.2.2.2.2.2.2.2.2.2.2.2.2.2.2.2.2.2.2.2.2.2)
def zrest (s : ZS) : (Option Nat) × Int32 × Int32 × Int32 × Int32 × Int32 × Int32 × Int32 × AI × AI × AI × AI × AI × Nat × (Nat → Nat) × (Nat → Nat) × AI × AI × AI × AI × AI × AI × Nat := (s.2.2.2.2.2.1, s.2.2.2.2.2.2.2.1, s.2.2.2.2.2.2.2.2.1, s.2.2.2.2.2.2.2.2.2.1, s.2.2.2.2.2.2.2.2.2.2.1, s.2.2.2.2.2.2.2.2.2.2.2.1, s.2.2.2.2.2.2.2.2.2.2.2.2.1, s.2.2.2.2.2.2.2.2.2.2.2.2.2.1, s.2.2.2.2.2.2.2.2.2.2.2.2.2.2.1, s.2.2.2.2.2.2.2.2.2.2.2.2.2.2.2.1, s.2.2.2.2.2.2.2.2.2.2.2.2.2.2.2.2.1, s.2.2.2.2.2.2.2.2.2.2.2.2.2.2.2.2.2.1, s.2.2.2.2.2.2.2.2.2.2.2.2.2.2.2.2.2.2.1, s.2.2.2.2.2.2.2.2.2.2.2.2.2.2.2.2.2.2.2.1, s.2.2.2.2.2.2.2.2.2.2.2.2.2.2.2.2.2.2.2.2.1, s.2.2.2.2.2.2.2.2.2.2.2.2.2.2.2.2.2.2.2.2.2.1, s.2.2.2.2.2.2.2.2.2.2.2.2.2.2.2.2.2.2.2.2.2.2.1, s.2.2.2.2.2.2.2.2.2.2.2.2.2.2.2.2.2.2.2.2.2.2.2.1, s.2.2.2.2.2.2.2.2.2.2.2.2.2.2.2.2.2.2.2.2.2.2.2.2.1, s.2.2.2.2.2.2.2.2.2.2.2.2.2.2.2.2.2.2.2.2.2.2.2.2.2.1, s.2.2.2.2.2.2.2.2.2.2.2.2.2.2.2.2.2.2.2.2.2.2.2.2.2.2.1, s.2.2.2.2.2.2.2.2.2.2.2.2.2.2.2.2.2.2.2.2.2.2.2.2.2.2.2.1, s.2.2.2.2.2.2.2.2.2.2.2.2.2.2.2.2.2.2.2.2.2.2.2.2.2.2.2.2.2.2.2)
theorem zr_ak {s t : ZS} (h : zrest t = zrest s) : t.2.2.2.2.2.1 = s.2.2.2.2.2.1 := congrArg (fun z => z.1) h
theorem zr_hr {s t : ZS} (h : zrest t = zrest s) : t.2.2.2.2.2.2.2.1 = s.2.2.2.2.2.2.2.1 := congrArg (fun z => z.2.1) h
theorem zr_gv {s t : ZS} (h : zrest t = zrest s) : t.2.2.2.2.2.2.2.2.1 = s.2.2.2.2.2.2.2.2.1 := congrArg (fun z => z.2.2.1) h
theorem zr_pm {s t : ZS} (h : zrest t = zrest s) : t.2.2.2.2.2.2.2.2.2.1 = s.2.2.2.2.2.2.2.2.2.1 := congrArg (fun z => z.2.2.2.1) h
theorem zr_nm {s t : ZS} (h : zrest t = zrest s) : t.2.2.2.2.2.2.2.2.2.2.1 = s.2.2.2.2.2.2.2.2.2.2.1 := congrArg (fun z => z.2.2.2.2.1) h
theorem zr_am {s t : ZS} (h : zrest t = zrest s) : t.2.2.2.2.2.2.2.2.2.2.2.1 = s.2.2.2.2.2.2.2.2.2.2.2.1 := congrArg (fun z => z.2.2.2.2.2.1) h
theorem zr_hm {s t : ZS} (h : zrest t = zrest s) : t.2.2.2.2.2.2.2.2.2.2.2.2.1 = s.2.2.2.2.2.2.2.2.2.2.2.2.1 := congrArg (fun z => z.2.2.2.2.2.2.1) h
theorem zr_wm {s t : ZS} (h : zrest t = zrest s) : t.2.2.2.2.2.2.2.2.2.2.2.2.2.1 = s.2.2.2.2.2.2.2.2.2.2.2.2.2.1 := congrArg (fun z => z.2.2.2.2.2.2.2.1) h
theorem zr_hs {s t : ZS} (h : zrest t = zrest s) : t.2.2.2.2.2.2.2.2.2.2.2.2.2.2.1 = s.2.2.2.2.2.2.2.2.2.2.2.2.2.2.1 := congrArg (fun z => z.2.2.2.2.2.2.2.2.1) h
theorem zr_hb {s t : ZS} (h : zrest t = zrest s) : t.2.2.2.2.2.2.2.2.2.2.2.2.2.2.2.1 = s.2.2.2.2.2.2.2.2.2.2.2.2.2.2.2.1 := congrArg (fun z => z.2.2.2.2.2.2.2.2.2.1) h
theorem zr_ho {s t : ZS} (h : zrest t = zrest s) : t.2.2.2.2.2.2.2.2.2.2.2.2.2.2.2.2.1 = s.2.2.2.2.2.2.2.2.2.2.2.2.2.2.2.2.1 := congrArg (fun z => z.2.2.2.2.2.2.2.2.2.2.1) h
theorem zr_ha {s t : ZS} (h : zrest t = zrest s) : t.2.2.2.2.2.2.2.2.2.2.2.2.2.2.2.2.2.1 = s.2.2.2.2.2.2.2.2.2.2.2.2.2.2.2.2.2.1 := congrArg (fun z => z.2.2.2.2.2.2.2.2.2.2.2.1) h
theorem zr_hg {s t : ZS} (h : zrest t = zrest s) : t.2.2.2.2.2.2.2.2.2.2.2.2.2.2.2.2.2.2.1 = s.2.2.2.2.2.2.2.2.2.2.2.2.2.2.2.2.2.2.1 := congrArg (fun z => z.2.2.2.2.2.2.2.2.2.2.2.2.1) h
theorem zr_np {s t : ZS} (h : zrest t = zrest s) : t.2.2.2.2.2.2.2.2.2.2.2.2.2.2.2.2.2.2.2.1 = s.2.2.2.2.2.2.2.2.2.2.2.2.2.2.2.2.2.2.2.1 := congrArg (fun z => z.2.2.2.2.2.2.2.2.2.2.2.2.2.1) h
theorem zr_pk {s t : ZS} (h : zrest t = zrest s) : t.2.2.2.2.2.2.2.2.2.2.2.2.2.2.2.2.2.2.2.2.1 = s.2.2.2.2.2.2.2.2.2.2.2.2.2.2.2.2.2.2.2.2.1 := congrArg (fun z => z.2.2.2.2.2.2.2.2.2.2.2.2.2.2.1) h
theorem zr_ni {s t : ZS} (h : zrest t = zrest s) : t.2.2.2.2.2.2.2.2.2.2.2.2.2.2.2.2.2.2.2.2.2.1 = s.2.2.2.2.2.2.2.2.2.2.2.2.2.2.2.2.2.2.2.2.2.1 := congrArg (fun z => z.2.2.2.2.2.2.2.2.2.2.2.2.2.2.2.1) h
theorem zr_pu {s t : ZS} (h : zrest t = zrest s) : t.2.2.2.2.2.2.2.2.2.2.2.2.2.2.2.2.2.2.2.2.2.2.1 = s.2.2.2.2.2.2.2.2.2.2.2.2.2.2.2.2.2.2.2.2.2.2.1 := congrArg (fun z => z.2.2.2.2.2.2.2.2.2.2.2.2.2.2.2.2.1) h
theorem zr_pw {s t : ZS} (h : zrest t = zrest s) : t.2.2.2.2.2.2.2.2.2.2.2.2.2.2.2.2.2.2.2.2.2.2.2.1 = s.2.2.2.2.2.2.2.2.2.2.2.2.2.2.2.2.2.2.2.2.2.2.2.1 := congrArg (fun z => z.2.2.2.2.2.2.2.2.2.2.2.2.2.2.2.2.2.1) h
theorem zr_pd {s t : ZS} (h : zrest t = zrest s) : t.2.2.2.2.2.2.2.2.2.2.2.2.2.2.2.2.2.2.2.2.2.2.2.2.1 = s.2.2.2.2.2.2.2.2.2.2.2.2.2.2.2.2.2.2.2.2.2.2.2.2.1 := congrArg (fun z => z.2.2.2.2.2.2.2.2.2.2.2.2.2.2.2.2.2.2.1) h
theorem zr_pr {s t : ZS} (h : zrest t = zrest s) : t.2.2.2.2.2.2.2.2.2.2.2.2.2.2.2.2.2.2.2.2.2.2.2.2.2.1 = s.2.2.2.2.2.2.2.2.2.2.2.2.2.2.2.2.2.2.2.2.2.2.2.2.2.1 := congrArg (fun z => z.2.2.2.2.2.2.2.2.2.2.2.2.2.2.2.2.2.2.2.1) h
theorem zr_ps {s t : ZS} (h : zrest t = zrest s) : t.2.2.2.2.2.2.2.2.2.2.2.2.2.2.2.2.2.2.2.2.2.2.2.2.2.2.1 = s.2.2.2.2.2.2.2.2.2.2.2.2.2.2.2.2.2.2.2.2.2.2.2.2.2.2.1 := congrArg (fun z => z.2.2.2.2.2.2.2.2.2.2.2.2.2.2.2.2.2.2.2.2.1) h
theorem zr_pt {s t : ZS} (h : zrest t = zrest s) : t.2.2.2.2.2.2.2.2.2.2.2.2.2.2.2.2.2.2.2.2.2.2.2.2.2.2.2.1 = s.2.2.2.2.2.2.2.2.2.2.2.2.2.2.2.2.2.2.2.2.2.2.2.2.2.2.2.1 := congrArg (fun z => z.2.2.2.2.2.2.2.2.2.2.2.2.2.2.2.2.2.2.2.2.2.1) h
theorem zr_cn {s t : ZS} (h : zrest t = zrest s) : t.2.2.2.2.2.2.2.2.2.2.2.2.2.2.2.2.2.2.2.2.2.2.2.2.2.2.2.2.2.2.2 = s.2.2.2.2.2.2.2.2.2.2.2.2.2.2.2.2.2.2.2.2.2.2.2.2.2.2.2.2.2.2.2 := congrArg (fun z => z.2.2.2.2.2.2.2.2.2.2.2.2.2.2.2.2.2.2.2.2.2.2) h
def byT (tx : AI) (n k : Nat) : Int32 := if n ≤ k then -1 else (tx k &&& (255 : Int32))
theorem M_see {n k : Nat} (hn : n ≤ 900) (hk : k < 2 ^ 31) (tx : AI) : MX2_see (nI k) (nI n) tx = some (byT tx n k) := by
  unfold MX2_see byT
  by_cases h : n ≤ k
  · rw [if_pos (nI_le h hk), if_pos h]
  · rw [if_neg (nI_ge (by omega) (by omega)), if_neg h, gi_nI (by omega) (by decide), nIc hk]
theorem M_byteAt {n k : Nat} (hn : n ≤ 900) (hk : k < 2 ^ 31) (tx : AI) : MX7_byteAt (nI k) (nI n) tx = some (byT tx n k) := by
  unfold MX7_byteAt byT
  by_cases h : n ≤ k
  · rw [if_pos (nI_le h hk), if_pos h]
  · rw [if_neg (nI_ge (by omega) (by omega)), if_neg h, gi_nI (by omega) (by decide), nIc hk]
theorem byT_n (tx : AI) (n : Nat) : byT tx n n = -1 := by unfold byT; rw [if_pos (Nat.le_refl n)]
def smB (c : Int32) : Bool := inB c 97 122
def dgB (c : Int32) : Bool := inB c 48 57
theorem M_small (c : Int32) : MX2_isSmall c = some (smB c) := by unfold MX2_isSmall; rw [M_in]; rfl
theorem M_digit2 (c : Int32) : MX2_isDigit c = some (dgB c) := by unfold MX2_isDigit; rw [M_in]; rfl
theorem M_letter (c : Int32) : MX7_isLetter c = some (smB c) := by
  unfold MX7_isLetter smB inB
  by_cases h1 : c < (97 : Int32)
  · rw [if_pos h1]; simp [Int32.not_le.mpr h1]
  · rw [if_neg h1]
    by_cases h2 : (122 : Int32) < c
    · rw [if_pos h2]; simp [Int32.not_le.mpr h2]
    · rw [if_neg h2]; simp [Int32.not_lt.mp h1, Int32.not_lt.mp h2]
theorem M_digit7 (c : Int32) : MX7_isDigit c = some (dgB c) := by
  unfold MX7_isDigit dgB inB
  by_cases h1 : c < (48 : Int32)
  · rw [if_pos h1]; simp [Int32.not_le.mpr h1]
  · rw [if_neg h1]
    by_cases h2 : (57 : Int32) < c
    · rw [if_pos h2]; simp [Int32.not_le.mpr h2]
    · rw [if_neg h2]; simp [Int32.not_lt.mp h1, Int32.not_lt.mp h2]
theorem inR_of {c : Int32} {lo hi : Nat} (hl : lo < 2 ^ 31) (hh : hi < 2 ^ 31) (h : inB c (nI lo) (nI hi) = true) : ∃ b, lo ≤ b ∧ b ≤ hi ∧ c = nI b := by
  unfold inB at h
  simp only [Bool.and_eq_true, decide_eq_true_eq] at h
  have h1 := Int32.le_iff_toInt_le.mp h.1
  rw [nI_toInt hl] at h1
  obtain ⟨j, hj, e⟩ := nI_of (x := c) (by
    intro q
    have := Int32.lt_iff_toInt_lt.mp q
    have h0 : (0 : Int32).toInt = 0 := rfl
    omega)
  subst e
  exact ⟨j, (nI_leI hl hj).mp h.1, (nI_leI hj hh).mp h.2, rfl⟩
def skF (tx : AI) (n : Nat) : Nat → Nat → Nat
  | 0, k => k
  | f + 1, k => if byT tx n k = 32 then skF tx n f (k + 1) else k
theorem skF_le (tx : AI) (n : Nat) : ∀ f k, k + f = n → k ≤ skF tx n f k ∧ skF tx n f k ≤ n := by
  intro f
  induction f with
  | zero => intro k h; exact ⟨Nat.le_refl _, by rw [skF]; omega⟩
  | succ f ih =>
    intro k h
    rw [skF]
    split
    · have := ih (k + 1) (by omega); omega
    · omega
def ruF (P : Int32 → Bool) (tx : AI) (n : Nat) : Nat → Nat → Nat
  | 0, k => k
  | f + 1, k => if P (byT tx n k) = true then ruF P tx n f (k + 1) else k
theorem ruF_le (P : Int32 → Bool) (tx : AI) (n : Nat) : ∀ f k, k + f = n → k ≤ ruF P tx n f k ∧ ruF P tx n f k ≤ n ∧ ∀ j, k ≤ j → j < ruF P tx n f k → P (byT tx n j) = true := by
  intro f
  induction f with
  | zero => intro k h; refine ⟨Nat.le_refl _, by rw [ruF]; omega, fun j h1 h2 => ?_⟩; rw [ruF] at h2; omega
  | succ f ih =>
    intro k h
    rw [ruF]
    by_cases c : P (byT tx n k) = true
    · rw [if_pos c]
      obtain ⟨h1, h2, h3⟩ := ih (k + 1) (by omega)
      refine ⟨by omega, h2, fun j h4 h5 => ?_⟩
      by_cases e : j = k
      · subst e; exact c
      · exact h3 j (by omega) h5
    · rw [if_neg c]
      exact ⟨Nat.le_refl _, by omega, fun j h1 h2 => by omega⟩
theorem L_skip2 {n : Nat} (hn : n ≤ 900) (tx : AI) (s : ZS) : ∀ f k K, k + f = n → f < K → loopN K (fun v_ => BZ_step_5 tx (nI n) v_) (s, nI k) = some (s, nI (skF tx n f k)) := by
  intro f
  induction f with
  | zero =>
    intro k K h hK
    obtain ⟨K, rfl⟩ : ∃ j, K = j + 1 := ⟨K - 1, by omega⟩
    obtain rfl : k = n := by omega
    have e : BZ_step_5 tx (nI k) (s, nI k) = some (.inr (s, nI k)) := by
      unfold BZ_step_5
      rw [M_see hn (by omega), Option.bind_some, byT_n, if_neg (by decide)]
    rw [loopN, e]; rfl
  | succ f ih =>
    intro k K h hK
    obtain ⟨K, rfl⟩ : ∃ j, K = j + 1 := ⟨K - 1, by omega⟩
    rw [skF]
    by_cases c : byT tx n k = 32
    · rw [if_pos c, ← ih (k + 1) K (by omega) (by omega)]
      have e : BZ_step_5 tx (nI n) (s, nI k) = some (.inl (s, nI (k + 1))) := by
        unfold BZ_step_5
        rw [M_see hn (by omega), Option.bind_some, if_pos c, nI_1]
      rw [loopN, e]; rfl
    · rw [if_neg c]
      have e : BZ_step_5 tx (nI n) (s, nI k) = some (.inr (s, nI k)) := by
        unfold BZ_step_5
        rw [M_see hn (by omega), Option.bind_some, if_neg c]
      rw [loopN, e]; rfl
theorem L_skip7 {n : Nat} (hn : n ≤ 900) (tx : AI) : ∀ f k K, k + f = n → f < K → loopN K (fun s_ => BX7_goesOn_9 (nI n) tx s_) (nI k) = some (nI (skF tx n f k)) := by
  intro f
  induction f with
  | zero =>
    intro k K h hK
    obtain ⟨K, rfl⟩ : ∃ j, K = j + 1 := ⟨K - 1, by omega⟩
    obtain rfl : k = n := by omega
    have e : BX7_goesOn_9 (nI k) tx (nI k) = some (.inr (nI k)) := by
      unfold BX7_goesOn_9
      rw [M_byteAt hn (by omega), Option.bind_some, byT_n, if_neg (by decide)]
    rw [loopN, e]; rfl
  | succ f ih =>
    intro k K h hK
    obtain ⟨K, rfl⟩ : ∃ j, K = j + 1 := ⟨K - 1, by omega⟩
    rw [skF]
    by_cases c : byT tx n k = 32
    · rw [if_pos c, ← ih (k + 1) K (by omega) (by omega)]
      have e : BX7_goesOn_9 (nI n) tx (nI k) = some (.inl (nI (k + 1))) := by
        unfold BX7_goesOn_9
        rw [M_byteAt hn (by omega), Option.bind_some, if_pos c, nI_1]
      rw [loopN, e]; rfl
    · rw [if_neg c]
      have e : BX7_goesOn_9 (nI n) tx (nI k) = some (.inr (nI k)) := by
        unfold BX7_goesOn_9
        rw [M_byteAt hn (by omega), Option.bind_some, if_neg c]
      rw [loopN, e]; rfl
theorem sm_m1 : smB (-1) = false := by decide
theorem dg_m1 : dgB (-1) = false := by decide
def pkW (f : AI) : Nat → Int64
  | 0 => 0
  | k + 1 => 32 * pkW f k + Int32.toInt64 ((f k - 97) + 1)
def nuW (f : AI) : Nat → Int32
  | 0 => 0
  | k + 1 => ((10 : Int32) * nuW f k + f k) - 48
def atT (tx : AI) (n a : Nat) : AI := fun t => byT tx n (a + t)
theorem chr_sm {c : Int32} (h : smB c = true) : vp_nar .char (UInt32.toInt32 (Int32.toUInt32 c % 65536)) = c := by
  obtain ⟨b, h1, h2, rfl⟩ := inR_of (lo := 97) (hi := 122) (by decide) (by decide) h
  obtain ⟨e1, e2⟩ := chr8_256 b (by omega)
  rw [e1, e2]
theorem L_word2 {n a : Nat} (hn : n ≤ 900) (tx : AI) (s : ZS) (tk pl wh : Int32) (wd : Option Nat) (sn : Nat) (sl : Nat → Nat) (sf : Nat → AI) : ∀ f k K (le : AI), k + f = n → f < K → a ≤ k → (∀ t, t < min (k - a) 8 → le t = atT tx n a t) →
    ∃ le', loopN K (fun v_ => BZ_step_69 tx (nI n) v_) (tkS s (nI k) tk pl wh wd le sn sl sf, nI a) = some (tkS s (nI (ruF smB tx n f k)) tk pl wh wd le' sn sl sf, nI a) ∧ ∀ t, t < min (ruF smB tx n f k - a) 8 → le' t = atT tx n a t := by
  intro f
  induction f with
  | zero =>
    intro k K le h hK ha hle
    obtain ⟨K, rfl⟩ : ∃ j, K = j + 1 := ⟨K - 1, by omega⟩
    obtain rfl : k = n := by omega
    have e : BZ_step_69 tx (nI k) (tkS s (nI k) tk pl wh wd le sn sl sf, nI a) = some (.inr (tkS s (nI k) tk pl wh wd le sn sl sf, nI a)) := by
      show (MX2_see (nI k) (nI k) tx).bind _ = _
      rw [M_see hn (by omega), Option.bind_some, byT_n, M_small]
      rfl
    exact ⟨le, by rw [loopN, e]; rfl, hle⟩
  | succ f ih =>
    intro k K le h hK ha hle
    obtain ⟨K, rfl⟩ : ∃ j, K = j + 1 := ⟨K - 1, by omega⟩
    rw [ruF]
    by_cases c : smB (byT tx n k) = true
    · rw [if_pos c]
      by_cases c8 : 8 ≤ k - a
      · have e : BZ_step_69 tx (nI n) (tkS s (nI k) tk pl wh wd le sn sl sf, nI a) = some (.inl (tkS s (nI (k + 1)) tk pl wh wd le sn sl sf, nI a)) := by
          show (MX2_see (nI k) (nI n) tx).bind _ = _
          rw [M_see hn (by omega), Option.bind_some, M_small, Option.bind_some, if_neg (b2i_t c)]
          show (if (8 : Int32) ≤ nI k - nI a then _ else _) = _
          rw [pk_sub ha, if_pos (show (8 : Int32) ≤ nI (k - a) from nI_le (a := 8) c8 (by omega))]
          show some (Sum.inl ((nI k + 1, _), _)) = _
          rw [nI_1]
          rfl
        obtain ⟨le', h1, h2⟩ := ih (k + 1) K le (by omega) (by omega) (by omega) (fun t ht => hle t (by omega))
        exact ⟨le', by rw [loopN, e]; exact h1, h2⟩
      · have e : BZ_step_69 tx (nI n) (tkS s (nI k) tk pl wh wd le sn sl sf, nI a) = some (.inl (tkS s (nI (k + 1)) tk pl wh wd (upd le (k - a) (byT tx n k)) sn sl sf, nI a)) := by
          show (MX2_see (nI k) (nI n) tx).bind _ = _
          rw [M_see hn (by omega), Option.bind_some, M_small, Option.bind_some, if_neg (b2i_t c)]
          show (if (8 : Int32) ≤ nI k - nI a then _ else (MX2_see (nI k) (nI n) tx).bind _) = _
          rw [pk_sub ha, if_neg (show ¬ (8 : Int32) ≤ nI (k - a) from nI_ge (b := 8) (by omega) (by decide)), M_see hn (by omega), Option.bind_some]
          show gi (nI k - nI a) 8 _ = _
          rw [pk_sub ha, gi_nI (by omega) (by decide), chr_sm c]
          show some (Sum.inl ((nI k + 1, _, _, _, _, _, upd le (Int32.toNatClampNeg (nI k - nI a)) (byT tx n k), _), _)) = _
          rw [nI_1, pk_sub ha, nIc (by omega)]
          rfl
        obtain ⟨le', h1, h2⟩ := ih (k + 1) K (upd le (k - a) (byT tx n k)) (by omega) (by omega) (by omega) (fun t ht => by
          by_cases q : t = k - a
          · subst q
            rw [pk_us]
            unfold atT
            rw [show a + (k - a) = k by omega]
          · rw [pk_un q]; exact hle t (by omega))
        exact ⟨le', by rw [loopN, e]; exact h1, h2⟩
    · rw [if_neg c]
      have e : BZ_step_69 tx (nI n) (tkS s (nI k) tk pl wh wd le sn sl sf, nI a) = some (.inr (tkS s (nI k) tk pl wh wd le sn sl sf, nI a)) := by
        show (MX2_see (nI k) (nI n) tx).bind _ = _
        rw [M_see hn (by omega), Option.bind_some, M_small, Option.bind_some, if_pos (b2i_f (by simpa using c))]
      exact ⟨le, by rw [loopN, e]; rfl, hle⟩
theorem L_word7 {n a : Nat} (hn : n ≤ 900) (tx : AI) (pl : Int32) : ∀ f k K, k + f = n → f < K → a ≤ k → loopN K (fun s_ : Int32 × Int32 × Int64 => BX7_goesOn_84 (nI n) tx pl s_.1 s_.2.1 s_.2.2) (nI (k - a), nI k, pkW (atT tx n a) (min (k - a) 8)) = some (nI (ruF smB tx n f k - a), nI (ruF smB tx n f k), pkW (atT tx n a) (min (ruF smB tx n f k - a) 8)) := by
  intro f
  induction f with
  | zero =>
    intro k K h hK ha
    obtain ⟨K, rfl⟩ : ∃ j, K = j + 1 := ⟨K - 1, by omega⟩
    obtain rfl : k = n := by omega
    have e : BX7_goesOn_84 (nI k) tx pl (nI (k - a)) (nI k) (pkW (atT tx k a) (min (k - a) 8)) = some (.inr (nI (k - a), nI k, pkW (atT tx k a) (min (k - a) 8))) := by
      unfold BX7_goesOn_84
      rw [M_byteAt hn (by omega), Option.bind_some, byT_n, M_letter]
      rfl
    show (BX7_goesOn_84 (nI k) tx pl (nI (k - a)) (nI k) (pkW (atT tx k a) (min (k - a) 8))).bind _ = _
    rw [e]; rfl
  | succ f ih =>
    intro k K h hK ha
    obtain ⟨K, rfl⟩ : ∃ j, K = j + 1 := ⟨K - 1, by omega⟩
    rw [ruF]
    by_cases c : smB (byT tx n k) = true
    · rw [if_pos c, ← ih (k + 1) K (by omega) (by omega) (by omega)]
      have e : BX7_goesOn_84 (nI n) tx pl (nI (k - a)) (nI k) (pkW (atT tx n a) (min (k - a) 8)) = some (.inl (nI (k + 1 - a), nI (k + 1), pkW (atT tx n a) (min (k + 1 - a) 8))) := by
        unfold BX7_goesOn_84
        rw [M_byteAt hn (by omega), Option.bind_some, M_letter, Option.bind_some, if_neg (b2i_t c)]
        by_cases c8 : 8 ≤ k - a
        · rw [if_pos (show (8 : Int32) ≤ nI (k - a) from nI_le (a := 8) c8 (by omega)), nI_1, nI_1, show k - a + 1 = k + 1 - a by omega, show min (k - a) 8 = 8 by omega, show min (k + 1 - a) 8 = 8 by omega]
        · rw [if_neg (show ¬ (8 : Int32) ≤ nI (k - a) from nI_ge (b := 8) (by omega) (by decide)), Option.bind_some, nI_1, nI_1, show k - a + 1 = k + 1 - a by omega, show min (k - a) 8 = k - a by omega, show min (k + 1 - a) 8 = (k - a) + 1 by omega, pkW]
          show some (Sum.inl (_, _, _)) = _
          unfold atT
          rw [show a + (k - a) = k by omega]
      show (BX7_goesOn_84 (nI n) tx pl (nI (k - a)) (nI k) (pkW (atT tx n a) (min (k - a) 8))).bind _ = _
      rw [e]; rfl
    · rw [if_neg c]
      have e : BX7_goesOn_84 (nI n) tx pl (nI (k - a)) (nI k) (pkW (atT tx n a) (min (k - a) 8)) = some (.inr (nI (k - a), nI k, pkW (atT tx n a) (min (k - a) 8))) := by
        unfold BX7_goesOn_84
        rw [M_byteAt hn (by omega), Option.bind_some, M_letter, Option.bind_some, if_pos (b2i_f (by simpa using c))]
      show (BX7_goesOn_84 (nI n) tx pl (nI (k - a)) (nI k) (pkW (atT tx n a) (min (k - a) 8))).bind _ = _
      rw [e]; rfl
theorem L_num2 {n a : Nat} (hn : n ≤ 900) (tx : AI) (s : ZS) (tk pl : Int32) (wd : Option Nat) (le : AI) (sn : Nat) (sl : Nat → Nat) (sf : Nat → AI) : ∀ f k K, k + f = n → f < K → a ≤ k →
    loopN K (fun v_ => BZ_step_202 tx (nI n) v_) (tkS s (nI k) tk pl (nuW (atT tx n a) (min (k - a) 3)) wd le sn sl sf, nI a) = some (tkS s (nI (ruF dgB tx n f k)) tk pl (nuW (atT tx n a) (min (ruF dgB tx n f k - a) 3)) wd le sn sl sf, nI a) := by
  intro f
  induction f with
  | zero =>
    intro k K h hK ha
    obtain ⟨K, rfl⟩ : ∃ j, K = j + 1 := ⟨K - 1, by omega⟩
    obtain rfl : k = n := by omega
    have e : BZ_step_202 tx (nI k) (tkS s (nI k) tk pl (nuW (atT tx k a) (min (k - a) 3)) wd le sn sl sf, nI a) = some (.inr (tkS s (nI k) tk pl (nuW (atT tx k a) (min (k - a) 3)) wd le sn sl sf, nI a)) := by
      show (MX2_see (nI k) (nI k) tx).bind _ = _
      rw [M_see hn (by omega), Option.bind_some, byT_n, M_digit2]
      rfl
    rw [loopN, e]; rfl
  | succ f ih =>
    intro k K h hK ha
    obtain ⟨K, rfl⟩ : ∃ j, K = j + 1 := ⟨K - 1, by omega⟩
    rw [ruF]
    by_cases c : dgB (byT tx n k) = true
    · rw [if_pos c, ← ih (k + 1) K (by omega) (by omega) (by omega)]
      have e : BZ_step_202 tx (nI n) (tkS s (nI k) tk pl (nuW (atT tx n a) (min (k - a) 3)) wd le sn sl sf, nI a) = some (.inl (tkS s (nI (k + 1)) tk pl (nuW (atT tx n a) (min (k + 1 - a) 3)) wd le sn sl sf, nI a)) := by
        show (MX2_see (nI k) (nI n) tx).bind _ = _
        rw [M_see hn (by omega), Option.bind_some, M_digit2, Option.bind_some, if_neg (b2i_t c)]
        show (if (3 : Int32) ≤ nI k - nI a then _ else (MX2_see (nI k) (nI n) tx).bind _) = _
        by_cases c3 : 3 ≤ k - a
        · rw [pk_sub ha, if_pos (show (3 : Int32) ≤ nI (k - a) from nI_le (a := 3) c3 (by omega)), show min (k - a) 3 = 3 by omega, show min (k + 1 - a) 3 = 3 by omega]
          show some (Sum.inl ((nI k + 1, _), _)) = _
          rw [nI_1]
          rfl
        · rw [pk_sub ha, if_neg (show ¬ (3 : Int32) ≤ nI (k - a) from nI_ge (b := 3) (by omega) (by decide)), M_see hn (by omega), Option.bind_some, show min (k - a) 3 = k - a by omega, show min (k + 1 - a) 3 = (k - a) + 1 by omega, nuW]
          show some (Sum.inl ((nI k + 1, _), _)) = _
          rw [nI_1]
          unfold atT
          rw [show a + (k - a) = k by omega]
          rfl
      rw [loopN, e]; rfl
    · rw [if_neg c]
      have e : BZ_step_202 tx (nI n) (tkS s (nI k) tk pl (nuW (atT tx n a) (min (k - a) 3)) wd le sn sl sf, nI a) = some (.inr (tkS s (nI k) tk pl (nuW (atT tx n a) (min (k - a) 3)) wd le sn sl sf, nI a)) := by
        show (MX2_see (nI k) (nI n) tx).bind _ = _
        rw [M_see hn (by omega), Option.bind_some, M_digit2, Option.bind_some, if_pos (b2i_f (by simpa using c))]
      rw [loopN, e]; rfl
theorem L_num7 {n a : Nat} (hn : n ≤ 900) (tx : AI) (pl : Int32) : ∀ f k K, k + f = n → f < K → a ≤ k → loopN K (fun s_ : Int32 × Int32 × Int32 => BX7_goesOn_173 (nI n) tx pl s_.1 s_.2.1 s_.2.2) (nI (k - a), nI k, nuW (atT tx n a) (min (k - a) 3)) = some (nI (ruF dgB tx n f k - a), nI (ruF dgB tx n f k), nuW (atT tx n a) (min (ruF dgB tx n f k - a) 3)) := by
  intro f
  induction f with
  | zero =>
    intro k K h hK ha
    obtain ⟨K, rfl⟩ : ∃ j, K = j + 1 := ⟨K - 1, by omega⟩
    obtain rfl : k = n := by omega
    have e : BX7_goesOn_173 (nI k) tx pl (nI (k - a)) (nI k) (nuW (atT tx k a) (min (k - a) 3)) = some (.inr (nI (k - a), nI k, nuW (atT tx k a) (min (k - a) 3))) := by
      unfold BX7_goesOn_173
      rw [M_byteAt hn (by omega), Option.bind_some, byT_n, M_digit7]
      rfl
    show (BX7_goesOn_173 (nI k) tx pl (nI (k - a)) (nI k) (nuW (atT tx k a) (min (k - a) 3))).bind _ = _
    rw [e]; rfl
  | succ f ih =>
    intro k K h hK ha
    obtain ⟨K, rfl⟩ : ∃ j, K = j + 1 := ⟨K - 1, by omega⟩
    rw [ruF]
    by_cases c : dgB (byT tx n k) = true
    · rw [if_pos c, ← ih (k + 1) K (by omega) (by omega) (by omega)]
      have e : BX7_goesOn_173 (nI n) tx pl (nI (k - a)) (nI k) (nuW (atT tx n a) (min (k - a) 3)) = some (.inl (nI (k + 1 - a), nI (k + 1), nuW (atT tx n a) (min (k + 1 - a) 3))) := by
        unfold BX7_goesOn_173
        rw [M_byteAt hn (by omega), Option.bind_some, M_digit7, Option.bind_some, if_neg (b2i_t c)]
        by_cases c3 : 3 ≤ k - a
        · rw [if_pos (show (3 : Int32) ≤ nI (k - a) from nI_le (a := 3) c3 (by omega)), nI_1, nI_1, show k - a + 1 = k + 1 - a by omega, show min (k - a) 3 = 3 by omega, show min (k + 1 - a) 3 = 3 by omega]
        · rw [if_neg (show ¬ (3 : Int32) ≤ nI (k - a) from nI_ge (b := 3) (by omega) (by decide)), Option.bind_some, nI_1, nI_1, show k - a + 1 = k + 1 - a by omega, show min (k - a) 3 = k - a by omega, show min (k + 1 - a) 3 = (k - a) + 1 by omega, nuW]
          unfold atT
          rw [show a + (k - a) = k by omega]
      show (BX7_goesOn_173 (nI n) tx pl (nI (k - a)) (nI k) (nuW (atT tx n a) (min (k - a) 3))).bind _ = _
      rw [e]; rfl
    · rw [if_neg c]
      have e : BX7_goesOn_173 (nI n) tx pl (nI (k - a)) (nI k) (nuW (atT tx n a) (min (k - a) 3)) = some (.inr (nI (k - a), nI k, nuW (atT tx n a) (min (k - a) 3))) := by
        unfold BX7_goesOn_173
        rw [M_byteAt hn (by omega), Option.bind_some, M_digit7, Option.bind_some, if_pos (b2i_f (by simpa using c))]
      show (BX7_goesOn_173 (nI n) tx pl (nI (k - a)) (nI k) (nuW (atT tx n a) (min (k - a) 3))).bind _ = _
      rw [e]; rfl
/-! the token -/
def goodW (L : Nat) (f : AI) : Prop := 0 < L ∧ L ≤ 8 ∧ ∀ j, j < L → smB (f j) = true
def TR (n e : Nat) (s : ZS) (spot sort place number : Int32) (word : Int64) : Prop :=
  s.2.2.1 = place ∧ ((s.2.1 = 0 ∧ sort = 1) ∨ (s.2.1 = 1 ∧ sort = 0) ∨ (s.2.1 = 2 ∧ sort = 2 ∧ s.1 = nI e ∧ spot = nI e ∧ e ≤ n ∧ ∃ i, s.2.2.2.2.1 = some i ∧ i < s.2.2.2.2.2.2.2.2.2.2.2.2.2.2.2.2.2.2.2.2.2.2.2.2.2.2.2.2.1 ∧ goodW (s.2.2.2.2.2.2.2.2.2.2.2.2.2.2.2.2.2.2.2.2.2.2.2.2.2.2.2.2.2.1 i) (s.2.2.2.2.2.2.2.2.2.2.2.2.2.2.2.2.2.2.2.2.2.2.2.2.2.2.2.2.2.2.1 i) ∧ word = pkW (s.2.2.2.2.2.2.2.2.2.2.2.2.2.2.2.2.2.2.2.2.2.2.2.2.2.2.2.2.2.2.1 i) (s.2.2.2.2.2.2.2.2.2.2.2.2.2.2.2.2.2.2.2.2.2.2.2.2.2.2.2.2.2.1 i)) ∨ (s.2.1 = 3 ∧ sort = 3 ∧ s.1 = nI e ∧ spot = nI e ∧ e ≤ n ∧ s.2.2.2.1 = number) ∨ (s.2.1 = 59 ∧ sort = 4 ∧ s.1 = nI e ∧ spot = nI e ∧ e ≤ n))
/-- the city is as it was, words are kept -/
def zsm (s t : ZS) : Prop := zrest t = zrest s ∧ s.2.2.2.2.2.2.2.2.2.2.2.2.2.2.2.2.2.2.2.2.2.2.2.2.2.2.2.2.1 ≤ t.2.2.2.2.2.2.2.2.2.2.2.2.2.2.2.2.2.2.2.2.2.2.2.2.2.2.2.2.1 ∧ ∀ j, j < s.2.2.2.2.2.2.2.2.2.2.2.2.2.2.2.2.2.2.2.2.2.2.2.2.2.2.2.2.1 → t.2.2.2.2.2.2.2.2.2.2.2.2.2.2.2.2.2.2.2.2.2.2.2.2.2.2.2.2.2.1 j = s.2.2.2.2.2.2.2.2.2.2.2.2.2.2.2.2.2.2.2.2.2.2.2.2.2.2.2.2.2.1 j ∧ t.2.2.2.2.2.2.2.2.2.2.2.2.2.2.2.2.2.2.2.2.2.2.2.2.2.2.2.2.2.2.1 j = s.2.2.2.2.2.2.2.2.2.2.2.2.2.2.2.2.2.2.2.2.2.2.2.2.2.2.2.2.2.2.1 j
theorem zsm_rf (s : ZS) : zsm s s := ⟨rfl, Nat.le_refl _, fun _ _ => ⟨rfl, rfl⟩⟩
theorem zsm_tr {s t u : ZS} (a : zsm s t) (b : zsm t u) : zsm s u :=
  ⟨b.1.trans a.1, Nat.le_trans a.2.1 b.2.1, fun j hj => ⟨(b.2.2 j (Nat.lt_of_lt_of_le hj a.2.1)).1.trans (a.2.2 j hj).1, (b.2.2 j (Nat.lt_of_lt_of_le hj a.2.1)).2.trans (a.2.2 j hj).2⟩⟩
def niI (s : ZS) : Prop := ∀ k, k < s.2.2.2.2.2.2.2.2.2.2.2.2.2.2.2.2.2.2.2.1 → s.2.2.2.2.2.2.2.2.2.2.2.2.2.2.2.2.2.2.2.2.2.1 k < s.2.2.2.2.2.2.2.2.2.2.2.2.2.2.2.2.2.2.2.2.2.2.2.2.2.2.2.2.1
theorem niI_sm {s t : ZS} (h : zsm s t) (q : niI s) : niI t := fun k hk => by
  rw [zr_np h.1] at hk
  rw [zr_ni h.1]
  exact Nat.lt_of_lt_of_le (q k hk) h.2.1
theorem gall_of {α : Type} {P : Prop} [Decidable P] {k : Option α} (h : P) : gall P k = k := by unfold gall; rw [if_pos h]
theorem cmpF_at (f : AI) : ∀ L j, j < L → smB (f j) = true → cmpF f L j = f j := by
  intro L
  induction L with
  | zero => intro j h; omega
  | succ L ih =>
    intro j h hs
    rw [cmpF]
    by_cases q : j = L
    · subst q
      rw [pk_us]
      obtain ⟨b, h1, h2, e⟩ := inR_of (lo := 97) (hi := 122) (by decide) (by decide) hs
      rw [e]
      exact (show ∀ b, b < 123 → vp_nar .byte (Int8.toInt32 (Int32.toInt8 (nI b))) = nI b by decide +kernel) b (by omega)
    · rw [pk_un q]; exact ih j (by omega) hs
theorem pkW_cong {f g : AI} : ∀ L, (∀ j, j < L → f j = g j) → pkW f L = pkW g L := by
  intro L
  induction L with
  | zero => intro _; rfl
  | succ L ih => intro h; rw [pkW, pkW, ih (fun j hj => h j (by omega)), h L (by omega)]
theorem sm_ne {c : Int32} (h : smB c = true) : ¬ c = -1 ∧ ¬ c = 59 := by
  constructor
  · intro q; rw [q] at h; exact absurd h (by decide)
  · intro q; rw [q] at h; exact absurd h (by decide)
theorem dg_ne {c : Int32} (h : dgB c = true) : ¬ c = -1 ∧ ¬ c = 59 ∧ smB c = false := by
  refine ⟨?_, ?_, ?_⟩
  · intro q; rw [q] at h; exact absurd h (by decide)
  · intro q; rw [q] at h; exact absurd h (by decide)
  · cases q : smB c with
    | false => rfl
    | true =>
      obtain ⟨b, h1, h2, e⟩ := inR_of (lo := 48) (hi := 57) (by decide) (by decide) h
      obtain ⟨b', h3, h4, e'⟩ := inR_of (lo := 97) (hi := 122) (by decide) (by decide) q
      have := (nI_eq (by omega) (by omega)).mp (e.symm.trans e')
      omega
theorem tk_sm (s : ZS) (en tk pl wh : Int32) (wd : Option Nat) (le : AI) : zsm s (tkS s en tk pl wh wd le s.2.2.2.2.2.2.2.2.2.2.2.2.2.2.2.2.2.2.2.2.2.2.2.2.2.2.2.2.1 s.2.2.2.2.2.2.2.2.2.2.2.2.2.2.2.2.2.2.2.2.2.2.2.2.2.2.2.2.2.1 s.2.2.2.2.2.2.2.2.2.2.2.2.2.2.2.2.2.2.2.2.2.2.2.2.2.2.2.2.2.2.1) := ⟨rfl, Nat.le_refl _, fun _ _ => ⟨rfl, rfl⟩⟩
set_option maxHeartbeats 4000000 in
theorem step_sim {n e : Nat} (hn : n ≤ 900) (tx : AI) (s : ZS) (he : e ≤ n) (hen : s.1 = nI e) (hni : niI s) (sort place number : Int32) (word : Int64) (h5 : ¬ sort = 5) :
    ∃ e' s' a b c d w, MZ_step tx (nI n) s = some s' ∧ MX7_goesOn (nI n) (nI e) sort place number word tx = some (a, b, c, d, w) ∧ TR n e' s' a b c d w ∧ zsm s s' ∧ ¬ b = 5 ∧ e ≤ e' ∧ (¬ b = 1 → ¬ b = 0 → e < e') := by
  obtain ⟨A1, A2⟩ := skF_le tx n (n - e) e (by omega)
  unfold MZ_step MX7_goesOn
  rw [hen, L_skip2 hn tx s (n - e) e FU (by omega) (by unfold FU; omega), Option.bind_some, if_neg h5, L_skip7 hn tx (n - e) e FU (by omega) (by unfold FU; omega), Option.bind_some]
  dsimp only
  rw [gall_of (show s.2.2.2.2.2.2.2.2.2.2.2.2.2.2.2.2.2.2.2.2.2.2.2.2.2.2.2.2.1 ≤ s.2.2.2.2.2.2.2.2.2.2.2.2.2.2.2.2.2.2.2.2.2.2.2.2.2.2.2.2.1 ∧ s.2.2.2.2.2.2.2.2.2.2.2.2.2.2.2.2.2.2.2.1 ≤ s.2.2.2.2.2.2.2.2.2.2.2.2.2.2.2.2.2.2.2.1 from ⟨Nat.le_refl _, Nat.le_refl _⟩), M_see hn (by omega), Option.bind_some, M_byteAt hn (by omega), Option.bind_some]
  generalize skF tx n (n - e) e = a at A1 A2 ⊢
  by_cases c1 : byT tx n a = -1
  · rw [if_pos c1, if_pos c1]
    exact ⟨a, _, _, _, _, _, _, rfl, rfl, ⟨rfl, Or.inl ⟨rfl, rfl⟩⟩, tk_sm s _ _ _ _ _ _, by decide, A1, fun q => absurd rfl q⟩
  rw [if_neg c1, if_neg c1]
  have ha : a < n := by
    rcases Nat.lt_or_ge a n with h | h
    · exact h
    · exact absurd (show byT tx n a = -1 by unfold byT; rw [if_pos h]) c1
  have hpos : ∀ P : Int32 → Bool, P (byT tx n a) = true → a < ruF P tx n (n - a) a := by
    intro P hP
    obtain ⟨f, hf⟩ : ∃ f, n - a = f + 1 := ⟨n - a - 1, by omega⟩
    rw [hf, ruF, if_pos hP]
    have := (ruF_le P tx n f (a + 1) (by omega)).1
    omega
  rw [M_small, Option.bind_some, M_letter, Option.bind_some]
  by_cases c2 : smB (byT tx n a) = true
  · rw [if_neg (b2i_t c2), if_neg (b2i_t c2)]
    obtain ⟨B1, B2, B3⟩ := ruF_le smB tx n (n - a) a (by omega)
    have B0 := hpos smB c2
    obtain ⟨le', h1, h2⟩ := L_word2 hn tx s s.2.1 (nI a) s.2.2.2.1 s.2.2.2.2.1 s.2.2.2.2.2.2.2.2.2.2.2.2.2.2.2.2.2.2.2.2.2.2.2.2.2.2.2.2.1 s.2.2.2.2.2.2.2.2.2.2.2.2.2.2.2.2.2.2.2.2.2.2.2.2.2.2.2.2.2.1 s.2.2.2.2.2.2.2.2.2.2.2.2.2.2.2.2.2.2.2.2.2.2.2.2.2.2.2.2.2.2.1 (n - a) a FU s.2.2.2.2.2.2.1 (by omega) (by unfold FU; omega) (Nat.le_refl _) (fun t ht => by omega)
    have h7 := L_word7 (a := a) hn tx (nI a) (n - a) a FU (by omega) (by unfold FU; omega) (Nat.le_refl _)
    rw [show a - a = 0 by omega] at h7
    generalize hE : ruF smB tx n (n - a) a = E at *
    have hs : (loopN FU (fun v_ => BZ_step_69 tx (nI n) v_) (tkS s (nI a) s.2.1 (nI a) s.2.2.2.1 s.2.2.2.2.1 s.2.2.2.2.2.2.1 s.2.2.2.2.2.2.2.2.2.2.2.2.2.2.2.2.2.2.2.2.2.2.2.2.2.2.2.2.1 s.2.2.2.2.2.2.2.2.2.2.2.2.2.2.2.2.2.2.2.2.2.2.2.2.2.2.2.2.2.1 s.2.2.2.2.2.2.2.2.2.2.2.2.2.2.2.2.2.2.2.2.2.2.2.2.2.2.2.2.2.2.1, nI a)) = _ := h1
    have hm : (loopN FU (fun s_ : Int32 × Int32 × Int64 => BX7_goesOn_84 (nI n) tx (nI a) s_.1 s_.2.1 s_.2.2) ((0 : Int32), nI a, (0 : Int64))) = _ := h7
    show ∃ e' s' a_ b c d w, ((loopN FU (fun v_ => BZ_step_69 tx (nI n) v_) (tkS s (nI a) s.2.1 (nI a) s.2.2.2.1 s.2.2.2.2.1 s.2.2.2.2.2.2.1 s.2.2.2.2.2.2.2.2.2.2.2.2.2.2.2.2.2.2.2.2.2.2.2.2.2.2.2.2.1 s.2.2.2.2.2.2.2.2.2.2.2.2.2.2.2.2.2.2.2.2.2.2.2.2.2.2.2.2.2.1 s.2.2.2.2.2.2.2.2.2.2.2.2.2.2.2.2.2.2.2.2.2.2.2.2.2.2.2.2.2.2.1, nI a)).bind _) = some s' ∧ _
    rw [hs, hm, Option.bind_some, Option.bind_some, gall_of ⟨Nat.le_refl _, Nat.le_refl _⟩]
    show ∃ e' s' a_ b c d w, (if nI E - nI a ≤ (8 : Int32) then _ else _) = some s' ∧ _
    rw [pk_sub B1]
    by_cases c8 : E - a ≤ 8
    · rw [if_pos (show nI (E - a) ≤ (8 : Int32) from nI_le (b := 8) c8 (by decide)), if_neg (show ¬ (8 : Int32) < nI (E - a) from nI_nlt (a := 8) c8 (by decide)), if_pos rfl]
      have hch : ∀ j, j < E - a → smB (le' j) = true := fun j hj => by rw [h2 j (by omega)]; exact B3 (a + j) (by omega) (by omega)
      show ∃ e' s' a_ b c d w, (gall (0 < (Int32.toNatClampNeg (nI E - nI a)) ∧ (Int32.toNatClampNeg (nI E - nI a)) ≤ 8 ∧ (nI E - nI a) = nI (Int32.toNatClampNeg (nI E - nI a)) ∧ ∀ j, j < (Int32.toNatClampNeg (nI E - nI a)) → le' j ≤ 255) _) = some s' ∧ _
      rw [pk_sub B1, nIc (by omega), gall_of ⟨by omega, c8, rfl, fun j hj => by
        obtain ⟨b, g1, g2, e⟩ := inR_of (lo := 97) (hi := 122) (by decide) (by decide) (hch j hj)
        rw [e]; exact (nI_le (b := 255) (by omega) (by decide) : nI b ≤ nI 255)⟩]
      show ∃ e' s' a_ b c d w, (gall (∀ k, k < s.2.2.2.2.2.2.2.2.2.2.2.2.2.2.2.2.2.2.2.1 → s.2.2.2.2.2.2.2.2.2.2.2.2.2.2.2.2.2.2.2.2.2.1 k < s.2.2.2.2.2.2.2.2.2.2.2.2.2.2.2.2.2.2.2.2.2.2.2.2.2.2.2.2.1) _) = some s' ∧ _
      rw [gall_of (show ∀ k, k < s.2.2.2.2.2.2.2.2.2.2.2.2.2.2.2.2.2.2.2.1 → s.2.2.2.2.2.2.2.2.2.2.2.2.2.2.2.2.2.2.2.2.2.1 k < s.2.2.2.2.2.2.2.2.2.2.2.2.2.2.2.2.2.2.2.2.2.2.2.2.2.2.2.2.1 from hni)]
      refine ⟨E, _, _, _, _, _, _, rfl, rfl, ⟨rfl, Or.inr (Or.inr (Or.inl ⟨rfl, rfl, rfl, rfl, B2, s.2.2.2.2.2.2.2.2.2.2.2.2.2.2.2.2.2.2.2.2.2.2.2.2.2.2.2.2.1, rfl, Nat.lt_succ_self _, ?_, ?_⟩))⟩, ⟨rfl, Nat.le_succ _, fun j hj => ?_⟩, by decide, by omega, fun _ _ => by omega⟩
      · show goodW (updF s.2.2.2.2.2.2.2.2.2.2.2.2.2.2.2.2.2.2.2.2.2.2.2.2.2.2.2.2.2.1 s.2.2.2.2.2.2.2.2.2.2.2.2.2.2.2.2.2.2.2.2.2.2.2.2.2.2.2.2.1 (Int32.toNatClampNeg (nI E - nI a)) s.2.2.2.2.2.2.2.2.2.2.2.2.2.2.2.2.2.2.2.2.2.2.2.2.2.2.2.2.1) (updF s.2.2.2.2.2.2.2.2.2.2.2.2.2.2.2.2.2.2.2.2.2.2.2.2.2.2.2.2.2.2.1 s.2.2.2.2.2.2.2.2.2.2.2.2.2.2.2.2.2.2.2.2.2.2.2.2.2.2.2.2.1 (cmpF le' (Int32.toNatClampNeg (nI E - nI a))) s.2.2.2.2.2.2.2.2.2.2.2.2.2.2.2.2.2.2.2.2.2.2.2.2.2.2.2.2.1)
        rw [pk_sub B1, nIc (by omega)]
        unfold updF
        rw [if_pos rfl, if_pos rfl]
        exact ⟨by omega, c8, fun j hj => by rw [cmpF_at _ _ j hj (hch j hj)]; exact hch j hj⟩
      · show pkW (atT tx n a) (min (E - a) 8) = pkW (updF s.2.2.2.2.2.2.2.2.2.2.2.2.2.2.2.2.2.2.2.2.2.2.2.2.2.2.2.2.2.2.1 s.2.2.2.2.2.2.2.2.2.2.2.2.2.2.2.2.2.2.2.2.2.2.2.2.2.2.2.2.1 (cmpF le' (Int32.toNatClampNeg (nI E - nI a))) s.2.2.2.2.2.2.2.2.2.2.2.2.2.2.2.2.2.2.2.2.2.2.2.2.2.2.2.2.1) (updF s.2.2.2.2.2.2.2.2.2.2.2.2.2.2.2.2.2.2.2.2.2.2.2.2.2.2.2.2.2.1 s.2.2.2.2.2.2.2.2.2.2.2.2.2.2.2.2.2.2.2.2.2.2.2.2.2.2.2.2.1 (Int32.toNatClampNeg (nI E - nI a)) s.2.2.2.2.2.2.2.2.2.2.2.2.2.2.2.2.2.2.2.2.2.2.2.2.2.2.2.2.1)
        rw [pk_sub B1, nIc (by omega)]
        unfold updF
        rw [if_pos rfl, if_pos rfl, show min (E - a) 8 = E - a by omega]
        exact pkW_cong _ (fun j hj => by rw [cmpF_at _ _ j hj (hch j hj), h2 j (by omega)])
      · show (updF s.2.2.2.2.2.2.2.2.2.2.2.2.2.2.2.2.2.2.2.2.2.2.2.2.2.2.2.2.2.1 s.2.2.2.2.2.2.2.2.2.2.2.2.2.2.2.2.2.2.2.2.2.2.2.2.2.2.2.2.1 _) j = s.2.2.2.2.2.2.2.2.2.2.2.2.2.2.2.2.2.2.2.2.2.2.2.2.2.2.2.2.2.1 j ∧ (updF s.2.2.2.2.2.2.2.2.2.2.2.2.2.2.2.2.2.2.2.2.2.2.2.2.2.2.2.2.2.2.1 s.2.2.2.2.2.2.2.2.2.2.2.2.2.2.2.2.2.2.2.2.2.2.2.2.2.2.2.2.1 _) j = s.2.2.2.2.2.2.2.2.2.2.2.2.2.2.2.2.2.2.2.2.2.2.2.2.2.2.2.2.2.2.1 j
        unfold updF
        rw [if_neg (by omega), if_neg (by omega)]
        exact ⟨rfl, rfl⟩
    · rw [if_neg (show ¬ nI (E - a) ≤ (8 : Int32) from nI_ge (a := 8) (by omega) (by omega)), if_pos (show (8 : Int32) < nI (E - a) from nI_lt (a := 8) (by omega) (by omega)), if_neg (by decide)]
      exact ⟨E, _, _, _, _, _, _, rfl, rfl, ⟨rfl, Or.inr (Or.inl ⟨rfl, rfl⟩)⟩, tk_sm s _ _ _ _ _ _, by decide, by omega, fun _ q => absurd rfl q⟩
  · rw [if_pos (b2i_f (by simpa using c2)), if_pos (b2i_f (by simpa using c2)), M_digit2, Option.bind_some, M_digit7, Option.bind_some]
    by_cases c3 : dgB (byT tx n a) = true
    · rw [if_neg (b2i_t c3), if_neg (b2i_t c3)]
      obtain ⟨B1, B2, B3⟩ := ruF_le dgB tx n (n - a) a (by omega)
      have B0 := hpos dgB c3
      have h1 := L_num2 (a := a) hn tx s s.2.1 (nI a) s.2.2.2.2.1 s.2.2.2.2.2.2.1 s.2.2.2.2.2.2.2.2.2.2.2.2.2.2.2.2.2.2.2.2.2.2.2.2.2.2.2.2.1 s.2.2.2.2.2.2.2.2.2.2.2.2.2.2.2.2.2.2.2.2.2.2.2.2.2.2.2.2.2.1 s.2.2.2.2.2.2.2.2.2.2.2.2.2.2.2.2.2.2.2.2.2.2.2.2.2.2.2.2.2.2.1 (n - a) a FU (by omega) (by unfold FU; omega) (Nat.le_refl _)
      have h7 := L_num7 (a := a) hn tx (nI a) (n - a) a FU (by omega) (by unfold FU; omega) (Nat.le_refl _)
      rw [show a - a = 0 by omega] at h1 h7
      generalize hE : ruF dgB tx n (n - a) a = E at *
      have hs : (loopN FU (fun v_ => BZ_step_202 tx (nI n) v_) (tkS s (nI a) s.2.1 (nI a) (0 : Int32) s.2.2.2.2.1 s.2.2.2.2.2.2.1 s.2.2.2.2.2.2.2.2.2.2.2.2.2.2.2.2.2.2.2.2.2.2.2.2.2.2.2.2.1 s.2.2.2.2.2.2.2.2.2.2.2.2.2.2.2.2.2.2.2.2.2.2.2.2.2.2.2.2.2.1 s.2.2.2.2.2.2.2.2.2.2.2.2.2.2.2.2.2.2.2.2.2.2.2.2.2.2.2.2.2.2.1, nI a)) = _ := h1
      have hm : (loopN FU (fun s_ : Int32 × Int32 × Int32 => BX7_goesOn_173 (nI n) tx (nI a) s_.1 s_.2.1 s_.2.2) ((0 : Int32), nI a, (0 : Int32))) = _ := h7
      show ∃ e' s' a_ b c d w, ((loopN FU (fun v_ => BZ_step_202 tx (nI n) v_) (tkS s (nI a) s.2.1 (nI a) (0 : Int32) s.2.2.2.2.1 s.2.2.2.2.2.2.1 s.2.2.2.2.2.2.2.2.2.2.2.2.2.2.2.2.2.2.2.2.2.2.2.2.2.2.2.2.1 s.2.2.2.2.2.2.2.2.2.2.2.2.2.2.2.2.2.2.2.2.2.2.2.2.2.2.2.2.2.1 s.2.2.2.2.2.2.2.2.2.2.2.2.2.2.2.2.2.2.2.2.2.2.2.2.2.2.2.2.2.2.1, nI a)).bind _) = some s' ∧ _
      rw [hs, hm, Option.bind_some, Option.bind_some, gall_of ⟨Nat.le_refl _, Nat.le_refl _⟩]
      show ∃ e' s' a_ b c d w, (if nI E - nI a ≤ (3 : Int32) then _ else _) = some s' ∧ _
      rw [pk_sub B1]
      by_cases c8 : E - a ≤ 3
      · rw [if_pos (show nI (E - a) ≤ (3 : Int32) from nI_le (b := 3) c8 (by decide)), if_neg (show ¬ (3 : Int32) < nI (E - a) from nI_nlt (a := 3) c8 (by decide))]
        exact ⟨E, _, _, _, _, _, _, rfl, rfl, ⟨rfl, Or.inr (Or.inr (Or.inr (Or.inl ⟨rfl, rfl, rfl, rfl, B2, rfl⟩)))⟩, tk_sm s _ _ _ _ _ _, by decide, by omega, fun _ _ => by omega⟩
      · rw [if_neg (show ¬ nI (E - a) ≤ (3 : Int32) from nI_ge (a := 3) (by omega) (by omega)), if_pos (show (3 : Int32) < nI (E - a) from nI_lt (a := 3) (by omega) (by omega))]
        exact ⟨E, _, _, _, _, _, _, rfl, rfl, ⟨rfl, Or.inr (Or.inl ⟨rfl, rfl⟩)⟩, tk_sm s _ _ _ _ _ _, by decide, by omega, fun _ q => absurd rfl q⟩
    · rw [if_pos (b2i_f (by simpa using c3)), if_pos (b2i_f (by simpa using c3))]
      by_cases c4 : byT tx n a = 59
      · rw [if_pos c4, if_pos c4, nI_1, c4]
        exact ⟨a + 1, _, _, _, _, _, _, rfl, rfl, ⟨rfl, Or.inr (Or.inr (Or.inr (Or.inr ⟨rfl, rfl, rfl, rfl, by omega⟩)))⟩, tk_sm s _ _ _ _ _ _, by decide, by omega, fun _ _ => by omega⟩
      · rw [if_neg c4, if_neg c4]
        exact ⟨a, _, _, _, _, _, _, rfl, rfl, ⟨rfl, Or.inr (Or.inl ⟨rfl, rfl⟩)⟩, tk_sm s _ _ _ _ _ _, by decide, A1, fun _ q => absurd rfl q⟩
