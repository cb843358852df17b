set_option maxRecDepth 100000
/-! who may ask whom -/
def canA (liv : Int32) (pk : Nat → Nat) (pr : AI) (p q : Nat) : Bool := decide (p ≠ q) && (hasB liv (nI p) && (hasB liv (nI q) && (mayAskK (pk p) && mayBeK (pk q) (pr q) (nI p))))
theorem M_canAsk4 {n p q : Nat} (hn : n ≤ 6) (hp : p < n) (hq : q < n) (liv : Int32) (pk : Nat → Nat) (pr : AI) : MX4_canAsk (nI p) (nI q) liv n pk pr = some (canA liv pk pr p q) := by
  unfold MX4_canAsk canA
  by_cases c : p = q
  · rw [if_pos (by rw [c]), decide_eq_false (fun z => z c)]; rfl
  · rw [if_neg (fun z => c ((nI_eq (by omega) (by omega)).mp z)), decide_eq_true c, Bool.true_and, M_isLiving4, Option.bind_some]
    cases c1 : hasB liv (nI p)
    · rw [iff_]; rfl
    · rw [ift, Bool.true_and, M_isLiving4, Option.bind_some]
      cases c2 : hasB liv (nI q)
      · rw [iff_]; rfl
      · rw [ift, Bool.true_and, gi_nI (by omega) (by decide), nIc (by omega), gn_of hp]
        cases c3 : mayAskK (pk p)
        · rw [iff_]; rfl
        · rw [ift, Bool.true_and, gi_nI (by omega) (by decide), nIc (by omega), gn_of hq]
          cases c4 : mayBeK (pk q) (pr q) (nI p)
          · rw [iff_]
          · rw [ift]
/-- kinds and nears of the people, the same on both sides -/
def kindR (n : Nat) (pk : Nat → Nat) (pr : AI) (kind near : AI) : Prop := ∀ j, j < n → pk j < 4 ∧ kind j = nI (pk j) ∧ near j = pr j
theorem mayBe_2 (x i : Int32) : mayBeK 2 x i = hasB x i := by
  unfold mayBeK hasB
  rw [if_neg (by decide), if_pos rfl]
  by_cases c : ((x >>> (i &&& 31)) &&& 1) = 1
  · rw [if_pos c, decide_eq_true c]
  · rw [if_neg c, decide_eq_false c]
theorem M_mayAsk14 {n p q : Nat} (hn : n ≤ 6) (hp : p < n) (hq : q < n) {pk : Nat → Nat} {pr kind near : AI} (hk : kindR n pk pr kind near) : MX14_mayAsk (nI p) (nI q) kind near = some (mayAskK (pk p) && mayBeK (pk q) (pr q) (nI p)) := by
  unfold MX14_mayAsk
  obtain ⟨h1, h2, -⟩ := hk p hp
  obtain ⟨h3, h4, h5⟩ := hk q hq
  rw [gi_nI (by omega) (by decide), gi_nI (by omega) (by decide), gi_nI (by omega) (by decide), gi_nI (by omega) (by decide), nIc (by omega), nIc (by omega), h2, h4, h5, M_bit, Option.bind_some]
  have a3 : nI (pk p) = (3 : Int32) ↔ pk p = 3 := nI_eq (b := 3) (by omega) (by decide)
  have b1 : nI (pk q) = (1 : Int32) ↔ pk q = 1 := nI_eq (b := 1) (by omega) (by decide)
  have b2 : nI (pk q) = (2 : Int32) ↔ pk q = 2 := nI_eq (b := 2) (by omega) (by decide)
  by_cases c1 : pk p = 3
  · rw [if_pos (a3.mpr c1), c1]; rfl
  · rw [if_neg (fun z => c1 (a3.mp z)), show mayAskK (pk p) = true by unfold mayAskK; rw [if_neg c1], Bool.true_and]
    by_cases c2 : pk q = 1
    · rw [if_pos (b1.mpr c2), c2]; rfl
    · rw [if_neg (fun z => c2 (b1.mp z))]
      by_cases c3 : pk q = 2
      · rw [if_pos (b2.mpr c3), c3, mayBe_2]
        cases hasB (pr q) (nI p)
        · rw [iff_]
        · rw [ift]
      · rw [if_neg (fun z => c3 (b2.mp z))]
        unfold mayBeK
        rw [if_neg c2, if_neg c3]
theorem M_askable1 {n p : Nat} (hn : n ≤ 6) (hp : p < n) (liv : Int32) (pk : Nat → Nat) (pr : AI) : MX1_askable (nI p) (nI n) liv n pk pr = some (setF (fun j => canA liv pk pr p j) n) := by
  unfold MX1_askable
  rw [loop_set (f := fun s_ : Int32 × Int32 => BX1_askable_4 (nI p) (nI n) liv n pk pr s_.1 s_.2) (fun j => canA liv pk pr p j) n (by omega) (by
    intro i acc hi
    show BX1_askable_4 (nI p) (nI n) liv n pk pr acc (nI i) = _
    unfold BX1_askable_4
    rw [if_neg (nI_ge hi (by omega)), nI_1, M_canAsk4 hn hp hi, Option.bind_some]
    cases c : canA liv pk pr p i
    · rw [iff_]; rfl
    · rw [ift]; rfl) (by
    intro acc
    show BX1_askable_4 (nI p) (nI n) liv n pk pr acc (nI n) = _
    unfold BX1_askable_4
    rw [if_pos (nI_le (Nat.le_refl n) (by omega))]), Option.bind_some]
theorem M_askers1 {n p : Nat} (hn : n ≤ 6) (hp : p < n) (liv : Int32) (pk : Nat → Nat) (pr : AI) : MX1_askers (nI p) (nI n) liv n pk pr = some (setF (fun j => canA liv pk pr j p) n) := by
  unfold MX1_askers
  rw [loop_set (f := fun s_ : Int32 × Int32 => BX1_askers_4 (nI p) (nI n) liv n pk pr s_.1 s_.2) (fun j => canA liv pk pr j p) n (by omega) (by
    intro i acc hi
    show BX1_askers_4 (nI p) (nI n) liv n pk pr acc (nI i) = _
    unfold BX1_askers_4
    rw [if_neg (nI_ge hi (by omega)), nI_1, M_canAsk4 hn hi hp, Option.bind_some]
    cases c : canA liv pk pr i p
    · rw [iff_]; rfl
    · rw [ift]; rfl) (by
    intro acc
    show BX1_askers_4 (nI p) (nI n) liv n pk pr acc (nI n) = _
    unfold BX1_askers_4
    rw [if_pos (nI_le (Nat.le_refl n) (by omega))]), Option.bind_some]
theorem M_canAsk7 {n p : Nat} (hn : n ≤ 6) (hp : p < n) (v : AI) {pk : Nat → Nat} {pr kind near : AI} (hk : kindR n pk pr kind near) : MX7_canAsk (nI p) (nI n) v kind near = some (setF (fun j => canA (v 42) pk pr p j) n) := by
  unfold MX7_canAsk
  rw [loop_set (f := fun s_ : Int32 × Int32 => BX7_canAsk_4 (nI p) (nI n) v kind near s_.1 s_.2) (fun j => canA (v 42) pk pr p j) n (by omega) (by
    intro i acc hi
    show BX7_canAsk_4 (nI p) (nI n) v kind near acc (nI i) = _
    unfold BX7_canAsk_4 canA
    rw [if_neg (nI_ge hi (by omega)), nI_1]
    by_cases c : p = i
    · rw [if_pos (show nI i = nI p by rw [c]), decide_eq_false (fun z => z c)]; rfl
    · rw [if_neg (fun z => c ((nI_eq (by omega) (by omega)).mp z).symm), decide_eq_true c, Bool.true_and, M_bit, Option.bind_some]
      cases c1 : hasB (v 42) (nI p)
      · rw [iff_]; rfl
      · rw [ift, Bool.true_and, M_bit, Option.bind_some]
        cases c2 : hasB (v 42) (nI i)
        · rw [iff_]; rfl
        · rw [ift, Bool.true_and, M_mayAsk14 hn hp hi hk, Option.bind_some]
          cases c3 : (mayAskK (pk p) && mayBeK (pk i) (pr i) (nI p))
          · rw [iff_]; rfl
          · rw [ift]; rfl) (by
    intro acc
    show BX7_canAsk_4 (nI p) (nI n) v kind near acc (nI n) = _
    unfold BX7_canAsk_4
    rw [if_pos (nI_le (Nat.le_refl n) (by omega))]), Option.bind_some]
theorem canA_ne {liv : Int32} {pk : Nat → Nat} {pr : AI} {p : Nat} : canA liv pk pr p p = false := by
  unfold canA
  rw [decide_eq_false (fun z => z rfl)]; rfl
theorem M_canBe7 {n p : Nat} (hn : n ≤ 6) (hp : p < n) (v : AI) {pk : Nat → Nat} {pr kind near : AI} (hk : kindR n pk pr kind near) : MX7_canBeAsked (nI p) (nI n) v kind near = some (setF (fun j => canA (v 42) pk pr j p) n) := by
  unfold MX7_canBeAsked
  rw [loop_set (f := fun s_ : Int32 × Int32 => BX7_canBeAsked_4 (nI p) (nI n) v kind near s_.1 s_.2) (fun j => canA (v 42) pk pr j p) n (by omega) (by
    intro i acc hi
    show BX7_canBeAsked_4 (nI p) (nI n) v kind near acc (nI i) = _
    unfold BX7_canBeAsked_4
    rw [if_neg (nI_ge hi (by omega)), nI_1, M_canAsk7 hn hi v hk, Option.bind_some, M_bit, Option.bind_some, setF_has n p (by omega) (by omega), decide_eq_true hp, Bool.true_and]
    by_cases c : i = p
    · subst c
      rw [if_pos rfl, canA_ne]; rfl
    · rw [if_neg (fun z => c ((nI_eq (by omega) (by omega)).mp z))]
      cases c1 : canA (v 42) pk pr i p
      · rw [iff_]; rfl
      · rw [ift]; rfl) (by
    intro acc
    show BX7_canBeAsked_4 (nI p) (nI n) v kind near acc (nI n) = _
    unfold BX7_canBeAsked_4
    rw [if_pos (nI_le (Nat.le_refl n) (by omega))]), Option.bind_some]
/-! op 4: person -/
theorem kind_nI : ∀ k, k < 4 → kindK k = nI k := by decide
theorem and1_cases (x : Int32) : (x &&& 1) = 1 ∨ (x &&& 1) = 0 := by
  by_cases c : bt x 0 = true
  · exact Or.inl ((and1_eq x).mpr c)
  · refine Or.inr (b_ext fun i hi => ?_)
    rw [b_and, bt_1 i hi, b_0]
    by_cases q : i = 0
    · subst q
      have : bt x 0 = false := by simpa using c
      rw [this]; rfl
    · rw [decide_eq_false q, Bool.and_false]
theorem bit01 (s p : Int32) : ((s >>> (p &&& 31)) &&& (1 : Int32)) = if hasB s p = true then 1 else 0 := by
  unfold hasB
  rcases and1_cases (s >>> (p &&& 31)) with c | c
  · rw [c]; rfl
  · rw [c]; rfl
theorem inB_of {x : Int32} {m : Nat} (hm : m < 2 ^ 31) (h : inB x 0 (nI m) = true) : ∃ k, k ≤ m ∧ x = nI k := by
  unfold inB at h
  simp only [Bool.and_eq_true, decide_eq_true_eq] at h
  obtain ⟨j, hj, rfl⟩ := nI_of (x := x) (Int32.not_lt.mpr h.1)
  exact ⟨j, (nI_leI hj hm).mp h.2, rfl⟩
theorem op_person {n : Nat} (h0 : 0 < n) (hn : n ≤ 6) {liv hour cat nights seed : Int32} {has hours v : AI} (hR : townR n liv hour cat nights seed has hours v) {pk : Nat → Nat} {pr kind near pd dies : AI} (hk : kindR n pk pr kind near) (hds : ∀ j, j < n → dies j = pd j) (p w : Int32) :
    ∃ a tr, MX1_person p w (nI n) liv has n pk pd pr = some (a, tr, -1) ∧ MX7_person p w (nI n) kind v dies near = some (a, 0, tr, -1) ∧ ¬ tr = 4 := by
  unfold MX1_person MX7_person MX1_anew MX1_no MX7_refused MX7_good MX7_near
  rw [M_isP1 h0 hn, M_isP7, M_in7]
  simp only [Option.bind_some]
  cases c : isP n p
  · rw [iff_, iff_]
    exact ⟨_, _, rfl, rfl, by decide⟩
  · rw [ift, ift]
    obtain ⟨k, hk6, rfl⟩ := isP_of hn c
    obtain ⟨hk1, hk2, hk3⟩ := hk k hk6
    rw [M_askable1 hn hk6, M_askers1 hn hk6, M_canAsk7 hn hk6 v hk, M_canBe7 hn hk6 v hk, M_isLiving4, hR.1]
    simp only [Option.bind_some, gi_nI (show k < 6 by omega) (by decide : 6 < 2 ^ 31), gi_nI (show k < 47 by omega) (by decide : 47 < 2 ^ 31), nIc (show k < 2 ^ 31 by omega), gn_of hk6]
    rw [kind_nI _ hk1, hk2, hk3, hds k hk6, hR.2.2.2.2.2.1 k hk6, bit01]
    cases d : inB w 0 6
    · rw [iff_]
      have hne : ∀ m, m ≤ 6 → ¬ w = nI m := by
        intro m hm e
        subst e
        have : inB (nI m) 0 6 = true := by
          unfold inB
          rw [decide_eq_true (nI_pos' (n := m) (by omega)), decide_eq_true (show nI m ≤ (6 : Int32) from (nI_le hm (by decide) : nI m ≤ nI 6))]; rfl
        rw [this] at d; cases d
      rw [if_neg (show ¬ w = 0 from hne 0 (by decide)), if_neg (show ¬ w = 1 from hne 1 (by decide)), if_neg (show ¬ w = 2 from hne 2 (by decide)), if_neg (show ¬ w = 3 from hne 3 (by decide)), if_neg (show ¬ w = 4 from hne 4 (by decide)), if_neg (show ¬ w = 5 from hne 5 (by decide)), if_neg (show ¬ w = 6 from hne 6 (by decide))]
      exact ⟨_, _, rfl, rfl, by decide⟩
    · rw [ift]
      obtain ⟨m, hm, rfl⟩ := inB_of (m := 6) (by decide) d
      have : m = 0 ∨ m = 1 ∨ m = 2 ∨ m = 3 ∨ m = 4 ∨ m = 5 ∨ m = 6 := by omega
      rcases this with h | h | h | h | h | h | h <;> subst h
      · exact ⟨_, _, rfl, rfl, by decide⟩
      · exact ⟨_, _, rfl, rfl, by decide⟩
      · exact ⟨_, _, rfl, rfl, by decide⟩
      · cases hasB liv (nI k)
        · exact ⟨_, _, rfl, rfl, by decide⟩
        · exact ⟨_, _, rfl, rfl, by decide⟩
      · exact ⟨_, _, rfl, rfl, by decide⟩
      · exact ⟨_, _, rfl, rfl, by decide⟩
      · exact ⟨_, _, rfl, rfl, by decide⟩
