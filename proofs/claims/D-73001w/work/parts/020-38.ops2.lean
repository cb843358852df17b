set_option maxRecDepth 100000
/-! sets of people who may die -/
theorem pow_n : ∀ n, n < 7 → ((1 : Int32) <<< (nI n &&& 31)) = nI (2 ^ n) := by decide +kernel
theorem pow_le {n : Nat} (hn : n ≤ 6) : 2 ^ n ≤ 64 ∧ 0 < 2 ^ n := by
  have : n = 0 ∨ n = 1 ∨ n = 2 ∨ n = 3 ∨ n = 4 ∨ n = 5 ∨ n = 6 := by omega
  rcases this with h | h | h | h | h | h | h <;> subst h <;> decide
def setL (n : Nat) (liv s : Int32) : Bool := decide (0 ≤ s) && (decide (s < nI (2 ^ n)) && decide ((s &&& (liv ^^^ (-1 : Int32))) = 0))
theorem setL_of {n : Nat} (hn : n ≤ 6) {liv s : Int32} (h : setL n liv s = true) : ∃ k, k < 2 ^ n ∧ s = nI k ∧ (s &&& (liv ^^^ (-1 : Int32))) = 0 := by
  unfold setL at h
  simp only [Bool.and_eq_true, decide_eq_true_eq] at h
  obtain ⟨j, hj, rfl⟩ := nI_of (x := s) (Int32.not_lt.mpr h.1)
  have := pow_le hn
  exact ⟨j, (nI_ltI hj (by omega)).mp h.2.1, rfl, h.2.2⟩
theorem M_isSet1 {n : Nat} (hn : n ≤ 6) (s liv : Int32) : MX1_isSet s (nI n) liv = some (setL n liv s) := by
  have := pow_le hn
  unfold MX1_isSet MX8_all
  rw [Option.bind_some, M_in, Option.bind_some, pow_n n (by omega), nI_m1 this.2]
  have e : inB s 0 (nI (2 ^ n - 1)) = (decide (0 ≤ s) && decide (s < nI (2 ^ n))) := by
    unfold inB
    by_cases c : 0 ≤ s
    · obtain ⟨j, hj, rfl⟩ := nI_of (x := s) (Int32.not_lt.mpr c)
      have : nI j ≤ nI (2 ^ n - 1) ↔ nI j < nI (2 ^ n) := by rw [nI_leI hj (by omega), nI_ltI hj (by omega)]; omega
      simp [this]
    · simp [c]
  rw [e]
  unfold setL
  cases h1 : decide (0 ≤ s)
  · rw [if_pos (show b2i (false && _) = 0 from rfl)]; rfl
  · cases h2 : decide (s < nI (2 ^ n))
    · rw [if_pos (show b2i (true && false) = 0 from rfl)]; rfl
    · rw [if_neg (show ¬ b2i (true && true) = 0 by decide)]
      by_cases h3 : (s &&& (liv ^^^ (-1 : Int32))) = 0
      · rw [if_pos h3, decide_eq_true h3]; rfl
      · rw [if_neg h3, decide_eq_false h3]; rfl
theorem M_canDie7 {n : Nat} (hn : n ≤ 6) (s : Int32) (v : AI) : MX7_canDie s (nI n) v = some (setL n (v 42) s) := by
  unfold MX7_canDie setL
  rw [pow_n n (by omega)]
  by_cases c : s < 0
  · rw [if_pos c]; simp [Int32.not_le.mpr c]
  · rw [if_neg c]
    by_cases c2 : nI (2 ^ n) ≤ s
    · rw [if_pos c2]; simp [Int32.not_lt.mpr c2]
    · rw [if_neg c2]
      by_cases h3 : (s &&& (v 42 ^^^ (-1 : Int32))) = 0
      · rw [if_pos h3, decide_eq_true h3, decide_eq_true (Int32.not_lt.mp c), decide_eq_true (Int32.not_le.mp c2)]; rfl
      · rw [if_neg h3, decide_eq_false h3, Bool.and_false, Bool.and_false]
theorem ift {α : Type} (a b : α) : (if b2i true = 0 then a else b) = b := if_neg (by decide)
theorem iff_ {α : Type} (a b : α) : (if b2i false = 0 then a else b) = a := if_pos rfl
theorem if00 {α : Type} (a b : α) : (if (0 : Int32) = 0 then a else b) = a := if_pos rfl
theorem if10 {α : Type} (a b : α) : (if (1 : Int32) = 0 then a else b) = b := if_neg (by decide)
theorem if20 {α : Type} (a b : α) : (if (2 : Int32) = 0 then a else b) = b := if_neg (by decide)
/-! op 11: goesTo -/
theorem op_goesTo {n : Nat} (h0 : 0 < n) (hn : n ≤ 6) {liv hour cat nights seed : Int32} {has hours v : AI} (hR : townR n liv hour cat nights seed has hours v) (p s : Int32) (x heir : AI) :
    ∃ a tr rM, MX1_goesTo p s (nI n) liv hours = some (a, tr, -1) ∧ MX7_goesTo p s (nI n) v x heir = some (a, 0, tr, -1, rM) ∧ ¬ tr = 4 := by
  unfold MX1_goesTo MX7_goesTo MX1_anew MX1_no MX7_refused MX7_good MX1_numberWhy
  rw [M_isP1 h0 hn, M_isP7, M_isSet1 hn, M_canDie7 hn, hR.1, M_has, M_bit]
  simp only [Option.bind_some]
  cases c : isP n p
  · simp only [iff_, if10, Option.bind_some]
    exact ⟨_, _, _, rfl, rfl, by decide⟩
  · cases d : setL n liv s
    · simp only [iff_, ift, if20, Option.bind_some]
      exact ⟨_, _, _, rfl, rfl, by decide⟩
    · obtain ⟨k, hk, rfl⟩ := isP_of hn c
      cases e : hasB s (nI k)
      · simp only [iff_, ift, if20, Option.bind_some]
        exact ⟨_, _, _, rfl, rfl, by decide⟩
      · simp only [iff_, ift, if00, Option.bind_some]
        obtain ⟨x', heir', ew, hR', hh⟩ := M_wwh7 hn hR x heir
        have hh' : ∀ j, j < n → heir' j = heirF liv (hX hours) j n := by intro j hj; rw [hh j hj, hR'.1]
        rw [M_goes4 hn hk, ew, Option.bind_some, Option.bind_some]
        dsimp only
        rw [M_goes7 hn hk s e heir' hh', Option.bind_some]
        exact ⟨_, _, _, rfl, rfl, by decide⟩
/-! op 12: hasThen; op 13: catThen -/
theorem op_hasThen {n : Nat} (h0 : 0 < n) (hn : n ≤ 6) {liv hour cat nights seed : Int32} {has hours v : AI} (hR : townR n liv hour cat nights seed has hours v) (hI : townI n liv hour cat nights seed has) (p s tl th tc tn ts cg : Int32) (thas thours x heir then_ : AI) :
    ∃ a tr rX rM, MX1_hasThen p s (nI n) liv hour cat nights seed tl th tc tn ts thas thours has hours = some (a, tr, -1, rX) ∧ MX7_hasThen p s cg (nI n) v x heir then_ = some (a, 0, tr, -1, rM) ∧ ¬ tr = 4 := by
  unfold MX1_hasThen MX7_hasThen MX1_anew MX1_no MX7_refused MX7_good
  rw [M_whyL1 h0 hn, M_whyL7, hR.1, M_isSet1 hn, M_canDie7 hn, hR.1]
  simp only [Option.bind_some]
  rcases whyL_cases n liv p with ⟨e, e1, -⟩ | e
  · obtain ⟨k, hk, rfl⟩ := isP_of hn e1
    rw [e, if_pos (show (0 : Int32) ≤ 0 by decide)]
    simp only [if00]
    cases d : setL n liv s
    · simp only [iff_]
      exact ⟨_, _, _, _, rfl, rfl, by decide⟩
    · simp only [ift]
      obtain ⟨x', heir', ew, hR', hh⟩ := M_wwh7 hn hR x heir
      rw [ew, Option.bind_some]
      dsimp only
      obtain ⟨has', hours', e2, e3, -⟩ := M_dies4 hn s liv hour cat nights seed thas thours has hours hI.dead
      obtain ⟨th', e4, e5⟩ := M_dying7 hn s then_ x' heir' hours has hR'.2.2.2.2.2.1 hh
      rw [e2, e4, Option.bind_some, Option.bind_some, gi_nI (by omega) (by decide), gi_nI (by omega) (by decide), nIc (by omega)]
      dsimp only
      rw [e3 k hk, e5 k hk, hR'.1]
      exact ⟨_, _, _, _, rfl, rfl, by decide⟩
  · rcases e with e | e <;> rw [e, if_neg (by decide), if_neg (by decide), if_neg (by decide)] <;> exact ⟨_, _, _, _, rfl, rfl, by decide⟩
theorem op_catThen {n : Nat} (hn : n ≤ 6) {liv hour cat nights seed : Int32} {has hours v : AI} (hR : townR n liv hour cat nights seed has hours v) (hI : townI n liv hour cat nights seed has) (s tl th tc tn ts cg : Int32) (thas thours x heir then_ : AI) :
    ∃ a tr rX rM, MX1_catThen s (nI n) liv hour cat nights seed tl th tc tn ts thas thours has hours = some (a, tr, -1, rX) ∧ MX7_catThen s cg (nI n) v x heir then_ = some (a, 0, tr, -1, rM) ∧ ¬ tr = 4 := by
  unfold MX1_catThen MX7_catThen MX1_anew MX1_no MX7_refused MX7_good MX1_numberWhy
  rw [M_isSet1 hn, M_canDie7 hn, hR.1]
  simp only [Option.bind_some]
  by_cases d : setL n liv s = false
  · rw [if_pos (b2i_f d), if_pos (b2i_f d), if_neg (show ¬ b2i true = 0 by decide), if_pos (show b2i false = 0 from rfl), Option.bind_some, if_neg (by decide)]
    exact ⟨_, _, _, _, rfl, rfl, by decide⟩
  · have d' : setL n liv s = true := by simpa using d
    rw [if_neg (b2i_t d'), if_neg (b2i_t d'), if_neg (show ¬ b2i true = 0 by decide), if_neg (show ¬ b2i true = 0 by decide), Option.bind_some, if_pos rfl]
    obtain ⟨x', heir', ew, hR', hh⟩ := M_wwh7 hn hR x heir
    rw [ew, Option.bind_some]
    dsimp only
    obtain ⟨has', hours', e2, -, -⟩ := M_dies4 hn s liv hour cat nights seed thas thours has hours hI.dead
    obtain ⟨th', e4, -⟩ := M_dying7 hn s then_ x' heir' hours has hR'.2.2.2.2.2.1 hh
    rw [e2, e4, Option.bind_some, Option.bind_some]
    dsimp only
    rw [hR'.1, show cat + dieC s (goesS liv hours n s) has n - cat = dieC s (goesS liv hours n s) has n by grind]
    exact ⟨_, _, _, _, rfl, rfl, by decide⟩
/-! op 14: worthiest -/
def mostOf (has : Nat → Int32) (a : Int32) : Int32 := if a = -2 then 0 else has a.toNatClampNeg
def worthStep (liv : Int32) (hr : Nat → Int32) (has : Nat → Int32) (best : Int32) (i : Nat) : Int32 := if hasB liv (nI i) = false then best else if hr i = -2 then best else if has i ≤ mostOf has best then best else nI i
theorem op_worthiest {n : Nat} (hn : n ≤ 6) {liv hour cat nights seed : Int32} {has hours v : AI} (hR : townR n liv hour cat nights seed has hours v) (x heir : AI) :
    ∃ a rM, MX1_worthiest (nI n) liv hours has = some (a, 0, -1) ∧ MX7_worthiest (nI n) v x heir = some (a, 0, 0, -1, rM) := by
  obtain ⟨x', heir', ew, hR', hh⟩ := M_wwh7 hn hR x heir
  have hh' : ∀ j, j < n → heir' j = heirF liv (hX hours) j n := by intro j hj; rw [hh j hj, hR'.1]
  have hJ : ∀ i a, i < n → pers i a → pers (i + 1) (worthStep liv (fun j => heirF liv (hX hours) j n) has a i) := by
    intro i a hi ha
    unfold worthStep
    by_cases c1 : hasB liv (nI i) = false
    · rw [if_pos c1]; exact pers_up ha
    · rw [if_neg c1]
      by_cases c2 : heirF liv (hX hours) i n = -2
      · rw [if_pos c2]; exact pers_up ha
      · rw [if_neg c2]
        by_cases c3 : has i ≤ mostOf has a
        · rw [if_pos c3]; exact pers_up ha
        · rw [if_neg c3]; exact pers_new i
  refine ⟨foldF (worthStep liv (fun j => heirF liv (hX hours) j n) has) (-2) n, (x', heir'), ?_, ?_⟩
  · unfold MX1_worthiest MX1_anew
    simp only [Option.bind_some]
    rw [(loop_acc (f := fun s_ : Int32 × Int32 => BX1_worthiest_22 (nI n) liv hours has 0 (-1) s_.1 s_.2) (worthStep liv (fun j => heirF liv (hX hours) j n) has) pers n (by omega) (-2) (Or.inl rfl) (by
      intro i a hi ha
      refine ⟨?_, hJ i a hi ha⟩
      show BX1_worthiest_22 (nI n) liv hours has 0 (-1) a (nI i) = _
      unfold BX1_worthiest_22 worthStep
      rw [if_neg (nI_ge hi (by omega)), nI_1, M_isLiving4, Option.bind_some]
      by_cases c1 : hasB liv (nI i) = false
      · rw [if_pos (b2i_f c1), if_pos c1]
      · rw [if_neg (b2i_t (by simpa using c1)), if_neg c1, M_heir4 hn (by omega), Option.bind_some]
        by_cases c2 : heirF liv (hX hours) i n = -2
        · rw [if_pos c2, if_pos c2]
        · rw [if_neg c2, if_neg c2, gi_nI (by omega) (by decide), nIc (by omega)]
          unfold mostOf
          rcases ha with c3 | ⟨j, hj, rfl⟩
          · rw [if_pos c3, if_pos c3]
            by_cases c4 : has i ≤ 0
            · rw [if_pos c4, if_pos c4]
            · rw [if_neg c4, if_neg c4]
          · rw [if_neg (nI_ne_m2 (by omega)), if_neg (nI_ne_m2 (by omega)), gi_nI (by omega) (by decide), nIc (by omega)]
            by_cases c4 : has i ≤ has j
            · rw [if_pos c4, if_pos c4]
            · rw [if_neg c4, if_neg c4]) (by
      intro a _
      show BX1_worthiest_22 (nI n) liv hours has 0 (-1) a (nI n) = _
      unfold BX1_worthiest_22
      rw [if_pos (nI_le (Nat.le_refl n) (by omega))])).1]
    rfl
  · unfold MX7_worthiest MX7_good
    rw [ew, Option.bind_some]
    dsimp only
    have h := (loop_fold (f := fun s_ : Int32 × Int32 × Int32 => BX7_worthiest_29 (nI n) x' heir' s_.1 s_.2.1 s_.2.2) (fun a i => (a, (mostOf has a), nI i)) id (worthStep liv (fun j => heirF liv (hX hours) j n) has) pers n (by omega) (-2) (Or.inl rfl) (by
      intro i a hi ha
      refine ⟨?_, hJ i a hi ha⟩
      show BX7_worthiest_29 (nI n) x' heir' a (mostOf has a) (nI i) = _
      unfold BX7_worthiest_29 worthStep
      rw [if_neg (nI_ge hi (by omega)), nI_1, M_isLiving7, Option.bind_some, hR'.1]
      by_cases c1 : hasB liv (nI i) = false
      · rw [if_pos (b2i_f c1), if_pos c1]
      · rw [if_neg (b2i_t (by simpa using c1)), if_neg c1, gi_nI (by omega) (by decide), nIc (by omega), hh' i hi]
        by_cases c2 : heirF liv (hX hours) i n = -2
        · rw [if_pos c2, if_pos c2]
        · rw [if_neg c2, if_neg c2, gi_nI (by omega) (by decide), gi_nI (by omega) (by decide), hR'.2.2.2.2.2.1 i hi]
          by_cases c4 : has i ≤ (mostOf has a)
          · rw [if_neg (Int32.not_lt.mpr c4), if_pos c4]
          · rw [if_pos (Int32.not_le.mp c4), if_neg c4]; unfold mostOf; rw [if_neg (nI_ne_m2 (by omega)), nIc (by omega)]) (by
      intro a _
      show BX7_worthiest_29 (nI n) x' heir' a (mostOf has a) (nI n) = _
      unfold BX7_worthiest_29
      rw [if_pos (nI_le (Nat.le_refl n) (by omega))]; rfl)).1
    rw [show mostOf has (-2) = 0 from if_pos rfl] at h
    rw [show ((-2 : Int32), (0 : Int32), (0 : Int32)) = (-2, 0, nI 0) from rfl, h]
    rfl
