set_option maxRecDepth 100000
/-! the component's distances, and its fewest hours by all of a set -/
def nearP (n : Nat) (pr : AI) (a b : Nat) : Prop := a < n ∧ b < n ∧ hasB (pr a) (nI b) = true
def bitsP (s : Nat) (x : Nat) : Prop := s.testBit x = true
def stepA (n : Nat) (pr : AI) (set : Int32) : Int32 := foldF (fun acc x => if hasB set (nI x) = true then acc ||| pr x else acc ||| 0) set n
def setJ (n : Nat) (pr : AI) (o : Nat) : Nat → Int32
  | 0 => (1 : Int32) <<< (nI o &&& 31)
  | j + 1 => stepA n pr (setJ n pr o j)
theorem hasB_or {s t : Int32} {i : Nat} (hi : i < 32) : hasB (s ||| t) (nI i) = (hasB s (nI i) || hasB t (nI i)) := by
  rw [hasB_bt hi, hasB_bt hi, hasB_bt hi, b_or]
theorem stepA_has {n : Nat} {pr : AI} {set : Int32} {r : Nat} (hr : r < 32) : ∀ i, hasB (foldF (fun acc x => if hasB set (nI x) = true then acc ||| pr x else acc ||| 0) set i) (nI r) = true ↔ hasB set (nI r) = true ∨ ∃ x, x < i ∧ hasB set (nI x) = true ∧ hasB (pr x) (nI r) = true := by
  intro i
  induction i with
  | zero =>
    show hasB set (nI r) = true ↔ _
    constructor
    · exact fun h => Or.inl h
    · rintro (h | ⟨x, h, -⟩)
      · exact h
      · omega
  | succ i ih =>
    rw [foldF]
    by_cases c : hasB set (nI i) = true
    · rw [if_pos c, hasB_or hr, Bool.or_eq_true, ih]
      constructor
      · rintro ((h | ⟨x, h1, h2⟩) | h)
        · exact Or.inl h
        · exact Or.inr ⟨x, by omega, h2⟩
        · exact Or.inr ⟨i, by omega, c, h⟩
      · rintro (h | ⟨x, h1, h2, h3⟩)
        · exact Or.inl (Or.inl h)
        · by_cases e : x = i
          · subst e; exact Or.inr h3
          · exact Or.inl (Or.inr ⟨x, by omega, h2, h3⟩)
    · rw [if_neg c, or_0, ih]
      constructor
      · rintro (h | ⟨x, h1, h2⟩)
        · exact Or.inl h
        · exact Or.inr ⟨x, by omega, h2⟩
      · rintro (h | ⟨x, h1, h2, h3⟩)
        · exact Or.inl h
        · by_cases e : x = i
          · subst e; exact absurd h2 c
          · exact Or.inr ⟨x, by omega, h2, h3⟩
theorem setJ_D {n o : Nat} {pr : AI} (hn : n ≤ 6) (ho : o < n) : ∀ j r, r < n → (hasB (setJ n pr o j) (nI r) = true ↔ Dle (nearP n pr) o j r) := by
  intro j
  induction j with
  | zero =>
    intro r hr
    show hasB ((1 : Int32) <<< (nI o &&& 31)) (nI r) = true ↔ _
    rw [hasB_bt (by omega), bt_one_shl (by omega) (by omega), decide_eq_true_iff]
    constructor
    · intro h; exact ⟨0, Nat.le_refl 0, h⟩
    · rintro ⟨k, h1, h2⟩
      obtain rfl : k = 0 := by omega
      exact h2
  | succ j ih =>
    intro r hr
    show hasB (stepA n pr (setJ n pr o j)) (nI r) = true ↔ _
    unfold stepA
    rw [stepA_has (n := n) (by omega), Dle_step, ih r hr]
    constructor
    · rintro (h | ⟨x, h1, h2, h3⟩)
      · exact Or.inl h
      · exact Or.inr ⟨x, ⟨h1, hr, h3⟩, (ih x h1).mp h2⟩
    · rintro (h | ⟨x, ⟨h1, h2, h3⟩, h4⟩)
      · exact Or.inl h
      · exact Or.inr ⟨x, h1, (ih x h1).mpr h4, h3⟩
theorem L_near6 {n : Nat} (hn : n ≤ 6) (pr : AI) (set j : Int32) : loopN FU (fun s_ : Int32 × Int32 => BX6_apart_31 (nI n) n pr set j s_.1 s_.2) (set, (0 : Int32)) = some (stepA n pr set) :=
  (loop_acc (f := fun s_ : Int32 × Int32 => BX6_apart_31 (nI n) n pr set j s_.1 s_.2) (fun acc x => if hasB set (nI x) = true then acc ||| pr x else acc ||| 0) (fun _ _ => True) n (by omega) set trivial (by
    intro i a hi _
    refine ⟨?_, trivial⟩
    show BX6_apart_31 (nI n) n pr set j a (nI i) = _
    unfold BX6_apart_31
    rw [if_neg (nI_ge hi (by omega)), nI_1, M_has, Option.bind_some]
    cases c : hasB set (nI i)
    · rw [iff_, if_neg (by decide)]
    · rw [ift, gi_nI (by omega) (by decide), nIc (by omega), gn_of hi, if_pos rfl]) (by
    intro a _
    show BX6_apart_31 (nI n) n pr set j a (nI n) = _
    unfold BX6_apart_31
    rw [if_pos (nI_le (Nat.le_refl n) (by omega))])).1
def apOut : Int32 ⊕ Unit → Int32
  | .inl z => z
  | .inr _ => 1000000
theorem bind_ap {r : Int32 ⊕ Unit} : ((some r).bind fun r => match r with | .inl z => some z | .inr _ => some (1000000 : Int32)) = some (apOut r) := by cases r <;> rfl
/-- a distance: d ≤ t iff there is a way in t hours -/
def distP (N : Nat → Nat → Prop) (o q d : Nat) : Prop := d ≤ 1000000 ∧ (d ≤ 5 ∨ d = 1000000) ∧ ∀ t, t < 1000000 → (d ≤ t ↔ Dle N o t q)
theorem M_apart6 {n o q : Nat} (hn : n ≤ 6) (ho : o < n) (hq : q < n) (pr : AI) : ∃ d, MX6_apart (nI o) (nI q) (nI n) n pr = some (nI d) ∧ distP (nearP n pr) o q d := by
  have hB := setJ_D (pr := pr) hn ho
  have h5 := Dle_5 (N := nearP n pr) hn ho (fun a b h => h.2.1) (fun j r => hasB (setJ n pr o j) (nI r)) hB
  obtain ⟨r, e, h⟩ := loop_FU (f := fun s_ : Int32 × Int32 => BX6_apart_7 (nI q) (nI n) n pr s_.1 s_.2) (fun i s => s = (setJ n pr o i, nI i) ∧ ∀ k, k < i → ¬ Dle (nearP n pr) o k q) (fun r => ∃ d, apOut r = nI d ∧ distP (nearP n pr) o q d) 6 (by decide) ((1 : Int32) <<< (nI o &&& 31), (0 : Int32)) ⟨rfl, fun k hk => absurd hk (Nat.not_lt_zero k)⟩
    (by
      intro i s hi hs
      obtain ⟨rfl, h2⟩ := hs
      show (∃ s', BX6_apart_7 (nI q) (nI n) n pr (setJ n pr o i) (nI i) = some (.inl s') ∧ _) ∨ (∃ r, BX6_apart_7 (nI q) (nI n) n pr (setJ n pr o i) (nI i) = some (.inr r) ∧ _)
      unfold BX6_apart_7
      rw [if_neg (show ¬ (6 : Int32) ≤ nI i from nI_ge (b := 6) hi (by decide)), nI_1, M_has, Option.bind_some]
      cases c : hasB (setJ n pr o i) (nI q)
      · rw [iff_, L_near6 hn, Option.bind_some]
        refine Or.inl ⟨_, rfl, rfl, fun k hk hd => ?_⟩
        by_cases e : k = i
        · subst e
          rw [(hB k q hq).mpr hd] at c; cases c
        · exact h2 k (by omega) hd
      · rw [ift]
        have hd := (hB i q hq).mp c
        refine Or.inr ⟨_, rfl, i, rfl, by omega, Or.inl (by omega), fun t ht => ⟨fun hle => ?_, fun hd2 => ?_⟩⟩
        · obtain ⟨k, a, b⟩ := hd; exact ⟨k, by omega, b⟩
        · by_cases e : i ≤ t
          · exact e
          · exact absurd hd2 (h2 t (by omega)))
    (by
      intro s hs
      obtain ⟨rfl, h2⟩ := hs
      refine ⟨Sum.inr (), ?_, 1000000, rfl, Nat.le_refl _, Or.inr rfl, fun t ht => ⟨fun hle => by omega, fun hd => absurd (h5 t q hd) (h2 5 (by decide))⟩⟩
      show BX6_apart_7 (nI q) (nI n) n pr _ (nI 6) = _
      unfold BX6_apart_7
      rw [if_pos (by decide)])
  obtain ⟨d, hd1, hd2⟩ := h
  refine ⟨d, ?_, hd2⟩
  unfold MX6_apart
  rw [e, ← hd1]
  exact bind_ap
/-! sets as numbers below 64 -/
def clrN (s q : Nat) : Nat := (List.range 6).foldl (fun a x => if s.testBit x = true ∧ x ≠ q then a + 2 ^ x else a) 0
theorem clr_all : ∀ s, s < 64 → ∀ q, q < 6 → (nI s &&& (((1 : Int32) <<< (nI q &&& 31)) ^^^ (-1 : Int32))) = nI (clrN s q) ∧ clrN s q ≤ s ∧ clrN s q < 64 ∧ (s.testBit q = true → clrN s q < s) ∧ ∀ x, x < 6 → (clrN s q).testBit x = (s.testBit x && decide (x ≠ q)) := by decide +kernel
theorem bitsP_lt {s x : Nat} (hs : s < 64) (h : bitsP s x) : x < 6 := by
  by_cases c : x < 6
  · exact c
  · have : s.testBit x = false := Nat.testBit_lt_two_pow (Nat.lt_of_lt_of_le (show s < 2 ^ 6 from hs) (Nat.pow_le_pow_right (by decide) (show 6 ≤ x by omega)))
    unfold bitsP at h
    rw [this] at h; cases h
theorem bitsP_ltn {s x n : Nat} (hs : s < 2 ^ n) (h : bitsP s x) : x < n := by
  by_cases c : x < n
  · exact c
  · have : s.testBit x = false := Nat.testBit_lt_two_pow (Nat.lt_of_lt_of_le hs (Nat.pow_le_pow_right (by decide) (show n ≤ x by omega)))
    unfold bitsP at h
    rw [this] at h; cases h
theorem clr_P {s q : Nat} (hs : s < 64) (hq : q < 6) : ∀ x, bitsP (clrN s q) x ↔ (bitsP s x ∧ x ≠ q) := by
  obtain ⟨-, -, h3, -, h5⟩ := clr_all s hs q hq
  intro x
  constructor
  · intro h
    have hx := bitsP_lt h3 h
    unfold bitsP at h ⊢
    rw [h5 x hx] at h
    simpa using h
  · rintro ⟨h1, h2⟩
    have hx := bitsP_lt hs h1
    unfold bitsP at h1 ⊢
    rw [h5 x hx, h1]
    simpa using h2
theorem bits_0 {s : Nat} (hs : s < 64) : s = 0 ∨ ∃ x, bitsP s x := by
  by_cases c : s = 0
  · exact Or.inl c
  · refine Or.inr ?_
    have : ∀ s, s < 64 → s ≠ 0 → ∃ x, x < 6 ∧ s.testBit x = true := by decide +kernel
    obtain ⟨x, -, hx⟩ := this s hs c
    exact ⟨x, hx⟩
/-- fewest hours by all of s, q the last: r ≤ t iff there is a way in t hours -/
def goodR (n : Nat) (N : Nat → Nat → Prop) (p s q r : Nat) : Prop := r ≤ 1000000 ∧ (s < 2 ^ n → ∀ t, t < 1000000 → (r ≤ t ↔ (bitsP s q ∧ Vle N p t (bitsP s) q)))
theorem min_le {a b t : Nat} : min a b ≤ t ↔ a ≤ t ∨ b ≤ t := by omega
theorem L_lay6 {n p s q : Nat} (hn : n ≤ 6) (hp : p < n) (hq : q < n) (hs : s < 64) (pr : AI) (reach : AI) (least : Nat) (hl : least ≤ 1000000) (hr : ∀ s', s' < s → ∀ o, o < n → ∃ r, reach (6 * s' + o) = nI r ∧ goodR n (nearP n pr) p s' o r) :
    ∃ m, loopN FU (fun s_ : Int32 × Int32 => BX6_lay_60 (nI n) n pr (nI s) (nI q) (nI (clrN s q)) reach s_.1 s_.2) (nI least, (0 : Int32)) = some (nI m) ∧ m ≤ 1000000 ∧ (s < 2 ^ n → ∀ t, t < 1000000 → (m ≤ t ↔ least ≤ t ∨ (bitsP s q ∧ ∃ o, bitsP (clrN s q) o ∧ ∃ t1 t2, t1 + t2 ≤ t ∧ Vle (nearP n pr) p t1 (bitsP (clrN s q)) o ∧ Dle (nearP n pr) o t2 q))) := by
  obtain ⟨-, g2, g3, g4, g5⟩ := clr_all s hs q (by omega)
  obtain ⟨r, e, m, hm, hm1, hm2⟩ := loop_FU (f := fun s_ : Int32 × Int32 => BX6_lay_60 (nI n) n pr (nI s) (nI q) (nI (clrN s q)) reach s_.1 s_.2)
    (fun i st => st.2 = nI i ∧ ∃ m, st.1 = nI m ∧ m ≤ 1000000 ∧ (s < 2 ^ n → ∀ t, t < 1000000 → (m ≤ t ↔ least ≤ t ∨ (bitsP s q ∧ ∃ o, o < i ∧ bitsP (clrN s q) o ∧ ∃ t1 t2, t1 + t2 ≤ t ∧ Vle (nearP n pr) p t1 (bitsP (clrN s q)) o ∧ Dle (nearP n pr) o t2 q))))
    (fun r => ∃ m, r = nI m ∧ m ≤ 1000000 ∧ (s < 2 ^ n → ∀ t, t < 1000000 → (m ≤ t ↔ least ≤ t ∨ (bitsP s q ∧ ∃ o, o < n ∧ bitsP (clrN s q) o ∧ ∃ t1 t2, t1 + t2 ≤ t ∧ Vle (nearP n pr) p t1 (bitsP (clrN s q)) o ∧ Dle (nearP n pr) o t2 q)))) n (by omega) (nI least, (0 : Int32))
    ⟨rfl, least, rfl, hl, fun _ t _ => ⟨fun h => Or.inl h, by rintro (h | ⟨-, o, h, -⟩); exact h; omega⟩⟩
    (by
      intro i st hi hst
      obtain ⟨a, b⟩ := st
      obtain ⟨z1, m, z2, z3, z4⟩ := hst
      dsimp only at z1 z2
      subst z1; subst z2
      refine Or.inl ?_
      show ∃ s', BX6_lay_60 (nI n) n pr (nI s) (nI q) (nI (clrN s q)) reach (nI m) (nI i) = some (.inl s') ∧ _
      unfold BX6_lay_60
      rw [if_neg (nI_ge hi (by omega)), nI_1, M_has, Option.bind_some, hasB_nI (by omega)]
      cases c1 : s.testBit q
      · rw [iff_]
        refine ⟨_, rfl, rfl, m, rfl, z3, fun hsn t ht => ?_⟩
        rw [z4 hsn t ht]
        constructor
        · rintro (h | ⟨h, -⟩)
          · exact Or.inl h
          · unfold bitsP at h; rw [c1] at h; cases h
        · rintro (h | ⟨h, -⟩)
          · exact Or.inl h
          · unfold bitsP at h; rw [c1] at h; cases h
      · rw [ift, M_has, Option.bind_some, hasB_nI (by omega)]
        cases c2 : (clrN s q).testBit i
        · rw [iff_]
          refine ⟨_, rfl, rfl, m, rfl, z3, fun hsn t ht => ?_⟩
          rw [z4 hsn t ht]
          constructor
          · rintro (h | ⟨h, o, h1, h2⟩)
            · exact Or.inl h
            · exact Or.inr ⟨h, o, by omega, h2⟩
          · rintro (h | ⟨h, o, h1, h2, h3⟩)
            · exact Or.inl h
            · by_cases e : o = i
              · subst e; unfold bitsP at h2; rw [c2] at h2; cases h2
              · exact Or.inr ⟨h, o, by omega, h2, h3⟩
        · obtain ⟨rr, e1, rr1, rr2⟩ := hr (clrN s q) (g4 c1) i hi
          obtain ⟨d, e2, d1, -, d3⟩ := M_apart6 hn hi hq pr
          rw [ift, idx6, gi_nI (by omega) (by decide), nIc (by omega), e2, Option.bind_some]
          simp only [lt_]
          rw [e1, nI_add, minI_nI (by omega) (by omega)]
          refine ⟨_, rfl, rfl, min m (rr + d), rfl, by omega, fun hsn t ht => ?_⟩
          have hcn : clrN s q < 2 ^ n := by omega
          rw [min_le, z4 hsn t ht]
          constructor
          · rintro ((h | ⟨h, o, h1, h2⟩) | h)
            · exact Or.inl h
            · exact Or.inr ⟨h, o, by omega, h2⟩
            · exact Or.inr ⟨c1, i, by omega, c2, rr, d, h, ((rr2 hcn rr (by omega)).mp (Nat.le_refl rr)).2, (d3 d (by omega)).mp (Nat.le_refl d)⟩
          · rintro (h | ⟨h, o, h1, h2, t1, t2, h3, h4, h5⟩)
            · exact Or.inl (Or.inl h)
            · by_cases e : o = i
              · subst e
                have a1 := (rr2 hcn t1 (by omega)).mpr ⟨h2, h4⟩
                have a2 := (d3 t2 (by omega)).mpr h5
                exact Or.inr (by omega)
              · exact Or.inl (Or.inr ⟨h, o, by omega, h2, t1, t2, h3, h4, h5⟩))
    (by
      intro st hst
      obtain ⟨a, b⟩ := st
      obtain ⟨z1, m, z2, z3, z4⟩ := hst
      dsimp only at z1 z2
      subst z1; subst z2
      exact ⟨_, by show BX6_lay_60 (nI n) n pr (nI s) (nI q) (nI (clrN s q)) reach (nI m) (nI n) = _; unfold BX6_lay_60; rw [if_pos (nI_le (Nat.le_refl n) (by omega))], m, rfl, z3, z4⟩)
  refine ⟨m, by rw [e, hm], hm1, fun hsn t ht => ?_⟩
  rw [hm2 hsn t ht]
  constructor
  · rintro (h | ⟨h, o, h1, h2⟩)
    · exact Or.inl h
    · exact Or.inr ⟨h, o, h2⟩
  · rintro (h | ⟨h, o, h2⟩)
    · exact Or.inl h
    · refine Or.inr ⟨h, o, ?_, h2⟩
      exact bitsP_ltn (show clrN s q < 2 ^ n by omega) h2.1
theorem M_lay6 {n p : Nat} (hn : n ≤ 6) (hp : p < n) (pr reach : AI) : ∃ reach', MX6_lay (nI p) (nI n) reach n pr = some reach' ∧ ∀ s, s < 64 → ∀ q, q < n → ∃ r, reach' (6 * s + q) = nI r ∧ goodR n (nearP n pr) p s q r := by
  obtain ⟨r, e, h⟩ := loop_FU (f := fun s_ : Int32 × AI => BX6_lay_2 (nI p) (nI n) n pr s_.1 s_.2) (fun i st => st.1 = nI i ∧ ∀ s, s < i → ∀ q, q < n → ∃ r, st.2 (6 * s + q) = nI r ∧ goodR n (nearP n pr) p s q r) (fun r => ∀ s, s < 64 → ∀ q, q < n → ∃ w, r (6 * s + q) = nI w ∧ goodR n (nearP n pr) p s q w) 64 (by decide) ((0 : Int32), reach) ⟨rfl, fun s hs => absurd hs (Nat.not_lt_zero s)⟩
    (by
      intro s st hs hst
      obtain ⟨a, f⟩ := st
      obtain ⟨z1, z2⟩ := hst
      dsimp only at z1 z2
      subst z1
      refine Or.inl ?_
      show ∃ s', BX6_lay_2 (nI p) (nI n) n pr (nI s) f = some (.inl s') ∧ _
      unfold BX6_lay_2
      rw [if_neg (show ¬ (64 : Int32) ≤ nI s from nI_ge (b := 64) hs (by decide)), nI_1]
      obtain ⟨r2, e2, h2⟩ := loop_FU (f := fun s_ : Int32 × AI => BX6_lay_11 (nI p) (nI n) n pr (nI s) s_.1 s_.2) (fun i st => st.1 = nI i ∧ (∀ s', s' < s → ∀ q, q < n → ∃ r, st.2 (6 * s' + q) = nI r ∧ goodR n (nearP n pr) p s' q r) ∧ ∀ q, q < i → ∃ r, st.2 (6 * s + q) = nI r ∧ goodR n (nearP n pr) p s q r) (fun r => ∀ s', s' < s + 1 → ∀ q, q < n → ∃ w, r (6 * s' + q) = nI w ∧ goodR n (nearP n pr) p s' q w) n (by omega) ((0 : Int32), f) ⟨rfl, z2, fun q hq => absurd hq (Nat.not_lt_zero q)⟩
        (by
          intro q st hq hst
          obtain ⟨a, f⟩ := st
          obtain ⟨y1, y2, y3⟩ := hst
          dsimp only at y1 y2 y3
          subst y1
          refine Or.inl ?_
          obtain ⟨g1, g2, g3, g4, g5⟩ := clr_all s hs q (by omega)
          have fin : ∀ w, goodR n (nearP n pr) p s q w → (∀ s', s' < s → ∀ q', q' < n → ∃ r, upd f (6 * s + q) (nI w) (6 * s' + q') = nI r ∧ goodR n (nearP n pr) p s' q' r) ∧ ∀ q', q' < q + 1 → ∃ r, upd f (6 * s + q) (nI w) (6 * s + q') = nI r ∧ goodR n (nearP n pr) p s q' r := by
            intro w hw
            refine ⟨fun s' hs' q' hq' => ?_, fun q' hq' => ?_⟩
            · rw [pk_un (by omega)]; exact y2 s' hs' q' hq'
            · by_cases c : q' = q
              · subst c; rw [pk_us]; exact ⟨w, rfl, hw⟩
              · rw [pk_un (by omega)]; exact y3 q' (by omega)
          show ∃ s', BX6_lay_11 (nI p) (nI n) n pr (nI s) (nI q) f = some (.inl s') ∧ _
          unfold BX6_lay_11
          simp only [lt_]
          rw [if_neg (nI_ge hq (by omega)), nI_1, g1, M_has, Option.bind_some, hasB_nI (by omega)]
          have gix : ∀ {α : Type} {K : Option α}, gi ((6 : Int32) * nI s + nI q) 384 K = K := fun {α K} => by rw [idx6, gi_nI (by omega) (by decide)]
          have cix : Int32.toNatClampNeg ((6 : Int32) * nI s + nI q) = 6 * s + q := by rw [idx6, nIc (by omega)]
          cases c1 : s.testBit q
          · rw [iff_]
            obtain ⟨m, l1, l2, l3⟩ := L_lay6 hn hp hq hs pr f 1000000 (Nat.le_refl _) y2
            rw [show (1000000 : Int32) = nI 1000000 from rfl, l1, Option.bind_some, gix, cix, minI_nI (by omega) (by decide)]
            have hw : goodR n (nearP n pr) p s q (min m 1000000) := ⟨by omega, fun hsn t ht => by
              rw [min_le, l3 hsn t ht]
              constructor
              · rintro ((h | ⟨h, -⟩) | h)
                · omega
                · unfold bitsP at h; rw [c1] at h; cases h
                · omega
              · rintro ⟨h, -⟩
                unfold bitsP at h; rw [c1] at h; cases h⟩
            obtain ⟨w1, w2⟩ := fin _ hw
            exact ⟨_, rfl, rfl, w1, w2⟩
          · rw [ift]
            by_cases c2 : clrN s q = 0
            · rw [c2, if_pos (show nI 0 = 0 from rfl)]
              obtain ⟨d, e3, d1, -, d3⟩ := M_apart6 hn hp hq pr
              obtain ⟨m, l1, l2, l3⟩ := L_lay6 hn hp hq hs pr f d d1 y2
              rw [c2] at l1
              rw [e3, Option.bind_some, l1, Option.bind_some, gix, cix, show (1000000 : Int32) = nI 1000000 from rfl, minI_nI (by omega) (by decide)]
              have hone : ∀ x, bitsP s x ↔ x = q := fun x => by
                constructor
                · intro hx
                  by_cases e : x = q
                  · exact e
                  · have := (clr_P hs (by omega : q < 6) x).mpr ⟨hx, e⟩
                    rw [c2] at this
                    unfold bitsP at this
                    rw [Nat.zero_testBit] at this; cases this
                · intro hx; rw [hx]; exact c1
              have hw : goodR n (nearP n pr) p s q (min m 1000000) := ⟨by omega, fun hsn t ht => by
                rw [min_le, l3 hsn t ht, Vle_one hone, d3 t ht]
                constructor
                · rintro ((h | ⟨-, o, h, -⟩) | h)
                  · exact ⟨c1, h⟩
                  · rw [c2] at h
                    unfold bitsP at h
                    rw [Nat.zero_testBit] at h; cases h
                  · omega
                · rintro ⟨-, h⟩
                  exact Or.inl (Or.inl h)⟩
              obtain ⟨w1, w2⟩ := fin _ hw
              exact ⟨_, rfl, rfl, w1, w2⟩
            · rw [if_neg (nzI (by omega) (by omega))]
              obtain ⟨m, l1, l2, l3⟩ := L_lay6 hn hp hq hs pr f 1000000 (Nat.le_refl _) y2
              rw [show (1000000 : Int32) = nI 1000000 from rfl, l1, Option.bind_some, gix, cix, minI_nI (by omega) (by decide)]
              have hne : ∃ x, bitsP (clrN s q) x := by
                rcases bits_0 (s := clrN s q) (by omega) with h | h
                · exact absurd h c2
                · exact h
              have hw : goodR n (nearP n pr) p s q (min m 1000000) := ⟨by omega, fun hsn t ht => by
                rw [min_le, l3 hsn t ht, Vle_more (clr_P hs (by omega)) c1 hne]
                constructor
                · rintro ((h | h) | h)
                  · omega
                  · exact h
                  · omega
                · intro h
                  exact Or.inl (Or.inr h)⟩
              obtain ⟨w1, w2⟩ := fin _ hw
              exact ⟨_, rfl, rfl, w1, w2⟩)
        (by
          intro st hst
          obtain ⟨a, f⟩ := st
          obtain ⟨y1, y2, y3⟩ := hst
          dsimp only at y1 y2 y3
          subst y1
          refine ⟨f, ?_, fun s' hs' q hq => ?_⟩
          · show BX6_lay_11 (nI p) (nI n) n pr (nI s) (nI n) f = _
            unfold BX6_lay_11
            rw [if_pos (nI_le (Nat.le_refl n) (by omega))]
          · by_cases c : s' = s
            · subst c; exact y3 q hq
            · exact y2 s' (by omega) q hq)
      rw [e2, Option.bind_some]
      exact ⟨_, rfl, rfl, h2⟩)
    (by
      intro st hst
      obtain ⟨a, f⟩ := st
      obtain ⟨z1, z2⟩ := hst
      dsimp only at z1 z2
      subst z1
      exact ⟨f, by show BX6_lay_2 (nI p) (nI n) n pr (nI 64) f = _; unfold BX6_lay_2; rw [if_pos (by decide)], z2⟩)
  exact ⟨r, by unfold MX6_lay; rw [e, Option.bind_some], h⟩
theorem M_hours6 {n p s : Nat} (hn : n ≤ 6) (hp : p < n) (hs : s < 2 ^ n) (pr reach : AI) (hr : ∀ s, s < 64 → ∀ q, q < n → ∃ r, reach (6 * s + q) = nI r ∧ goodR n (nearP n pr) p s q r) : ∃ r, MX6_hours (nI s) (nI n) reach = some (nI r) ∧ r ≤ 1000000 ∧ ∀ t, t < 1000000 → (r ≤ t ↔ ∃ e, Vle (nearP n pr) p t (bitsP s) e) := by
  have h64 := pow_le hn
  have main : ∀ least, least ≤ 1000000 → ∃ m, loopN FU (fun s_ : Int32 × Int32 => BX6_hours_14 (nI s) (nI n) reach s_.1 s_.2) (nI least, (0 : Int32)) = some (nI m) ∧ m ≤ 1000000 ∧ ∀ t, t < 1000000 → (m ≤ t ↔ least ≤ t ∨ ∃ q, q < n ∧ bitsP s q ∧ Vle (nearP n pr) p t (bitsP s) q) := by
    intro least hl
    obtain ⟨r, e, m, hm, h1, h2⟩ := loop_FU (f := fun s_ : Int32 × Int32 => BX6_hours_14 (nI s) (nI n) reach s_.1 s_.2) (fun i st => st.2 = nI i ∧ ∃ m, st.1 = nI m ∧ m ≤ 1000000 ∧ ∀ t, t < 1000000 → (m ≤ t ↔ least ≤ t ∨ ∃ q, q < i ∧ bitsP s q ∧ Vle (nearP n pr) p t (bitsP s) q)) (fun r => ∃ m, r = nI m ∧ m ≤ 1000000 ∧ ∀ t, t < 1000000 → (m ≤ t ↔ least ≤ t ∨ ∃ q, q < n ∧ bitsP s q ∧ Vle (nearP n pr) p t (bitsP s) q)) n (by omega) (nI least, (0 : Int32))
      ⟨rfl, least, rfl, hl, fun t _ => ⟨fun h => Or.inl h, by rintro (h | ⟨q, h, -⟩); exact h; omega⟩⟩
      (by
        intro i st hi hst
        obtain ⟨a, b⟩ := st
        obtain ⟨z1, m, z2, z3, z4⟩ := hst
        dsimp only at z1 z2
        subst z1; subst z2
        refine Or.inl ?_
        show ∃ s', BX6_hours_14 (nI s) (nI n) reach (nI m) (nI i) = some (.inl s') ∧ _
        unfold BX6_hours_14
        rw [if_neg (nI_ge hi (by omega)), nI_1, M_has, Option.bind_some, hasB_nI (by omega)]
        cases c1 : s.testBit i
        · rw [iff_, show (1000000 : Int32) = nI 1000000 from rfl, minI_nI (by omega) (by decide)]
          refine ⟨_, rfl, rfl, min m 1000000, rfl, by omega, fun t ht => ?_⟩
          rw [min_le, z4 t ht]
          constructor
          · rintro ((h | ⟨q, h1, h2⟩) | h)
            · exact Or.inl h
            · exact Or.inr ⟨q, by omega, h2⟩
            · omega
          · rintro (h | ⟨q, h1, h2, h3⟩)
            · exact Or.inl (Or.inl h)
            · by_cases e : q = i
              · subst e; unfold bitsP at h2; rw [c1] at h2; cases h2
              · exact Or.inl (Or.inr ⟨q, by omega, h2, h3⟩)
        · obtain ⟨rr, e1, r1, r2⟩ := hr s (by omega) i hi
          rw [ift, idx6, gi_nI (by omega) (by decide), nIc (by omega)]
          simp only [lt_]
          rw [e1, minI_nI (by omega) (by omega)]
          refine ⟨_, rfl, rfl, min m rr, rfl, by omega, fun t ht => ?_⟩
          rw [min_le, z4 t ht, r2 hs t ht]
          constructor
          · rintro ((h | ⟨q, h1, h2⟩) | ⟨h, h2⟩)
            · exact Or.inl h
            · exact Or.inr ⟨q, by omega, h2⟩
            · exact Or.inr ⟨i, by omega, h, h2⟩
          · rintro (h | ⟨q, h1, h2, h3⟩)
            · exact Or.inl (Or.inl h)
            · by_cases e : q = i
              · subst e; exact Or.inr ⟨h2, h3⟩
              · exact Or.inl (Or.inr ⟨q, by omega, h2, h3⟩))
      (by
        intro st hst
        obtain ⟨a, b⟩ := st
        obtain ⟨z1, m, z2, z3, z4⟩ := hst
        dsimp only at z1 z2
        subst z1; subst z2
        exact ⟨_, by show BX6_hours_14 (nI s) (nI n) reach (nI m) (nI n) = _; unfold BX6_hours_14; rw [if_pos (nI_le (Nat.le_refl n) (by omega))], m, rfl, z3, z4⟩)
    exact ⟨m, by rw [e, hm], h1, h2⟩
  unfold MX6_hours
  by_cases c : s = 0
  · subst c
    rw [if_pos (show nI 0 = 0 from rfl)]
    obtain ⟨m, l1, l2, l3⟩ := main 0 (by omega)
    rw [show (loopN FU (fun s_ : Int32 × Int32 => BX6_hours_14 (nI 0) (nI n) reach s_.1 s_.2) ((0 : Int32), (0 : Int32))) = some (nI m) from l1, Option.bind_some]
    refine ⟨m, rfl, l2, fun t ht => ?_⟩
    rw [l3 t ht]
    exact ⟨fun _ => ⟨p, 0, Nat.zero_le _, rfl, fun x hx => by unfold bitsP at hx; rw [Nat.zero_testBit] at hx; cases hx⟩, fun _ => Or.inl (Nat.zero_le _)⟩
  · rw [if_neg (nzI (by omega) (by omega))]
    obtain ⟨m, l1, l2, l3⟩ := main 1000000 (Nat.le_refl _)
    rw [show (loopN FU (fun s_ : Int32 × Int32 => BX6_hours_14 (nI s) (nI n) reach s_.1 s_.2) ((1000000 : Int32), (0 : Int32))) = some (nI m) from l1, Option.bind_some]
    have hne : ∃ x, bitsP s x := by
      rcases bits_0 (s := s) (by omega) with h | h
      · exact absurd h c
      · exact h
    refine ⟨m, rfl, l2, fun t ht => ?_⟩
    rw [l3 t ht, Vle_any hne]
    constructor
    · rintro (h | ⟨q, -, h1, h2⟩)
      · omega
      · exact ⟨q, h1, h2⟩
    · rintro ⟨q, h1, h2⟩
      exact Or.inr ⟨q, bitsP_ltn hs h1, h1, h2⟩
