set_option maxRecDepth 100000
/-! ROWS OF kit/laws/BITS (a starting text), pasted -/
/-! ===== Int32 by its bits: bt x i ===== -/
def bt (x : Int32) (i : Nat) : Bool := x.toBitVec.getLsbD i
theorem b_ext {x y : Int32} (h : ∀ i, i < 32 → bt x i = bt y i) : x = y := Int32.toBitVec_inj.mp (BitVec.eq_of_getLsbD_eq (fun i hi => h i hi))
theorem b_or (x y : Int32) (i : Nat) : bt (x ||| y) i = (bt x i || bt y i) := by unfold bt; rw [Int32.toBitVec_or, BitVec.getLsbD_or]
theorem b_and (x y : Int32) (i : Nat) : bt (x &&& y) i = (bt x i && bt y i) := by unfold bt; rw [Int32.toBitVec_and, BitVec.getLsbD_and]
theorem b_xor (x y : Int32) (i : Nat) : bt (x ^^^ y) i = (bt x i ^^ bt y i) := by unfold bt; rw [Int32.toBitVec_xor, BitVec.getLsbD_xor]
theorem b_big {x : Int32} {i : Nat} (h : 32 ≤ i) : bt x i = false := BitVec.getLsbD_of_ge _ _ h
theorem b_255 (i : Nat) : bt 255 i = decide (i < 8) := by
  rcases Nat.lt_or_ge i 32 with h | h
  · exact (by decide +kernel : ∀ i, i < 32 → bt 255 i = decide (i < 8)) i h
  · rw [b_big h, decide_eq_false (by omega)]
theorem b_65535 (i : Nat) : bt 65535 i = decide (i < 16) := by
  rcases Nat.lt_or_ge i 32 with h | h
  · exact (by decide +kernel : ∀ i, i < 32 → bt 65535 i = decide (i < 16)) i h
  · rw [b_big h, decide_eq_false (by omega)]
theorem b_m1 : ∀ i, i < 32 → bt (-1) i = true := by decide +kernel
theorem b_0 (i : Nat) : bt 0 i = false := BitVec.getLsbD_zero
theorem s_l : ∀ n, n < 32 → ((nI n &&& 31).toBitVec.smod 32).toNat = n := by decide +kernel
theorem s_u : ∀ n, n < 32 → (((nI n).toUInt32 &&& Int32.toUInt32 31).toBitVec % 32).toNat = n := by decide +kernel
theorem b_shl (n : Nat) (hn : n < 32) (x : Int32) {i : Nat} (hi : i < 32) : bt (x <<< (nI n &&& 31)) i = (decide (n ≤ i) && bt x (i - n)) := by
  unfold bt
  rw [Int32.toBitVec_shiftLeft]
  show (x.toBitVec <<< ((nI n &&& 31).toBitVec.smod 32).toNat).getLsbD i = _
  rw [s_l n hn, BitVec.getLsbD_shiftLeft]
  rcases Nat.lt_or_ge i n with h | h
  · simp [h, Nat.not_le.mpr h]
  · simp [hi, h, Nat.not_lt.mpr h]
theorem b_ushr (n : Nat) (hn : n < 32) (x : Int32) (i : Nat) : bt ((x.toUInt32 >>> ((nI n).toUInt32 &&& Int32.toUInt32 31)).toInt32) i = bt x (n + i) := by
  show (x.toUInt32 >>> ((nI n).toUInt32 &&& Int32.toUInt32 31)).toBitVec.getLsbD i = x.toUInt32.toBitVec.getLsbD (n + i)
  rw [UInt32.toBitVec_shiftRight]
  show (x.toUInt32.toBitVec >>> (((nI n).toUInt32 &&& Int32.toUInt32 31).toBitVec % 32).toNat).getLsbD i = _
  rw [s_u n hn, BitVec.getLsbD_ushiftRight]
theorem b_sshr (n : Nat) (hn : n < 32) (x : Int32) {i : Nat} (hi : i < 32) : bt (x >>> (nI n &&& 31)) i = if n + i < 32 then bt x (n + i) else bt x 31 := by
  unfold bt
  rw [Int32.toBitVec_shiftRight]
  show (x.toBitVec.sshiftRight ((nI n &&& 31).toBitVec.smod 32).toNat).getLsbD i = _
  rw [s_l n hn, BitVec.getLsbD_sshiftRight, BitVec.msb_eq_getLsbD_last]
  simp [hi]
/-! sets: hasB by bits -/
theorem bt_1 : ∀ i, i < 32 → bt 1 i = decide (i = 0) := by decide +kernel
theorem and1_eq (x : Int32) : (x &&& 1) = 1 ↔ bt x 0 = true := by
  constructor
  · intro h
    have := b_and x 1 0
    rw [h] at this
    simpa [bt_1 0 (by decide)] using this.symm
  · intro h
    apply b_ext
    intro i hi
    rw [b_and, bt_1 i hi]
    by_cases h0 : i = 0
    · subst h0; simp [h]
    · simp [h0]
theorem hasB_bt {k : Nat} (hk : k < 32) (s : Int32) : hasB s (nI k) = bt s k := by
  unfold hasB
  have e : bt (s >>> (nI k &&& 31)) 0 = bt s k := by
    rw [b_sshr k hk s (by decide), if_pos (by omega), Nat.add_zero]
  rw [← e]
  by_cases h : bt (s >>> (nI k &&& 31)) 0 = true
  · rw [h]; simp [(and1_eq _).mpr h]
  · have h' : bt (s >>> (nI k &&& 31)) 0 = false := by simpa using h
    rw [h']
    simp only [decide_eq_false_iff_not]
    exact fun z => h ((and1_eq _).mp z)
theorem bt_nI (s k : Nat) : bt (nI s) k = (decide (k < 32) && s.testBit k) := by
  unfold bt nI
  show (BitVec.ofNat 32 s).getLsbD k = _
  rw [BitVec.getLsbD_ofNat]
theorem hasB_nI {s k : Nat} (hk : k < 32) : hasB (nI s) (nI k) = s.testBit k := by rw [hasB_bt hk, bt_nI]; simp [hk]
theorem bt_one_shl {k i : Nat} (hk : k < 32) (hi : i < 32) : bt ((1 : Int32) <<< (nI k &&& 31)) i = decide (i = k) := by
  rw [b_shl k hk 1 hi]
  by_cases h : k ≤ i
  · rw [bt_1 (i - k) (by omega)]
    have : (i - k = 0) ↔ i = k := by omega
    simp [h, this]
  · have : i ≠ k := by omega
    simp [h, this]
theorem hasB_or_one {s : Int32} {k i : Nat} (hk : k < 32) (hi : i < 32) : hasB (s ||| ((1 : Int32) <<< (nI k &&& 31))) (nI i) = (hasB s (nI i) || decide (i = k)) := by
  rw [hasB_bt hi, hasB_bt hi, b_or, bt_one_shl hk hi]
theorem hasB_0 {i : Nat} (hi : i < 32) : hasB 0 (nI i) = false := by rw [hasB_bt hi, b_0]
theorem or_0 (x : Int32) : x ||| 0 = x := by apply b_ext; intro i _; rw [b_or, b_0]; simp
theorem zero_or (x : Int32) : 0 ||| x = x := by apply b_ext; intro i _; rw [b_or, b_0]; simp
