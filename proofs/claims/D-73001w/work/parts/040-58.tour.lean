set_option maxRecDepth 100000
/-! tours -/
theorem sub_iff {s k : Nat} (hs : s < 64) (hk : k < 64) : (nI s &&& (nI k ^^^ (-1 : Int32))) = 0 ↔ ∀ x, bitsP s x → bitsP k x := by
  constructor
  · intro h x hx
    have hx6 := bitsP_lt hs hx
    have h1 : hasB (nI s &&& (nI k ^^^ (-1 : Int32))) (nI x) = false := by rw [h, hasB_0 (by omega)]
    rw [hasB_andn (by omega), hasB_nI (by omega), hasB_nI (by omega)] at h1
    unfold bitsP at hx ⊢
    rw [hx] at h1
    cases hb : k.testBit x
    · rw [hb] at h1; cases h1
    · rfl
  · intro h
    apply b_ext
    intro i hi
    rw [b_0, ← hasB_bt hi, hasB_andn hi, hasB_nI hi, hasB_nI hi]
    cases hb : s.testBit i
    · rfl
    · rw [show k.testBit i = true from h i hb]; rfl
theorem setF_nI {P : Nat → Bool} {n : Nat} (hn : n ≤ 6) : ∃ c, c < 2 ^ n ∧ setF P n = nI c ∧ ∀ x, bitsP c x ↔ (x < n ∧ P x = true) := by
  have h64 := pow_le hn
  obtain ⟨c, h1, h2⟩ := bits_of (fun x => P x = true) n hn
  refine ⟨c, h1, ?_, h2⟩
  apply b_ext
  intro i hi
  rw [← hasB_bt hi, ← hasB_bt hi, setF_has n i (by omega) hi, hasB_nI hi]
  have := h2 i
  unfold bitsP at this
  cases hc : c.testBit i
  · rw [hc] at this
    by_cases c1 : i < n
    · cases hp : P i
      · simp
      · exact absurd (this.mpr ⟨c1, hp⟩) (by decide)
    · simp [c1]
  · have := this.mp hc
    rw [decide_eq_true this.1, this.2]; rfl
/-- all of s are asked, one by one -/
def asksN (p g s : Nat) (x : AI) : Nat → Option AI
  | 0 => some x
  | i + 1 => (asksN p g s x i).bind fun y => if s.testBit i = true then MX7_asks (nI p) (nI i) y (nI g) else some y
theorem L_tourX {n p g s L hr : Nat} (hn : n ≤ 6) (hp : p < n) (hg : g < 2 ^ 20) (hs : s < 64) (hh : hr < 2000) {cat nights seed : Int32} {pk : Nat → Nat} {pr has hours v : AI} (hR : townR n (nI L) (nI hr) cat nights seed has hours v) (hM : moneyI n (nI L) cat has) (z5 : Int64) (z7 : Int32) (zr : AI) (a1 a3 a4 a5 : Int32) (na : Int64) (nl nh nc nn ns : Int32) (nhas nhours : AI) :
    ∃ r, loopN FU (fun s_ : Bool × Int32 × Int32 × AI × AI => BX6_tour_63 (nI p) (nI L) (nI g) (nI n) n pk pr z5 (nI s) z7 zr a1 a3 a4 a5 na nl nh nc nn ns nhas nhours s_.1 s_.2.1 s_.2.2.1 s_.2.2.2.1 s_.2.2.2.2) (true, (0 : Int32), nI hr, has, hours) = some r ∧
      ((r.1 = true ∧ (∀ q, q < n → s.testBit q = true → canA (nI L) pk pr p q = true) ∧ ∃ y hr', asksN p g s v n = some y ∧ r.2.2.2 = nI hr' ∧ townR n (nI L) (nI hr') cat nights seed r.2.1 r.2.2.1 y ∧ moneyI n (nI L) cat r.2.1) ∨ (r.1 = false ∧ ∃ q, q < n ∧ s.testBit q = true ∧ canA (nI L) pk pr p q = false)) := by
  refine loop_FU (f := fun s_ : Bool × Int32 × Int32 × AI × AI => BX6_tour_63 (nI p) (nI L) (nI g) (nI n) n pk pr z5 (nI s) z7 zr a1 a3 a4 a5 na nl nh nc nn ns nhas nhours s_.1 s_.2.1 s_.2.2.1 s_.2.2.2.1 s_.2.2.2.2)
    (fun i st => st.2.1 = nI i ∧ ((st.1 = true ∧ (∀ q, q < i → s.testBit q = true → canA (nI L) pk pr p q = true) ∧ ∃ y hr', asksN p g s v i = some y ∧ st.2.2.1 = nI hr' ∧ hr' ≤ hr + i ∧ townR n (nI L) (nI hr') cat nights seed st.2.2.2.1 st.2.2.2.2 y ∧ moneyI n (nI L) cat st.2.2.2.1) ∨ (st.1 = false ∧ ∃ q, q < n ∧ s.testBit q = true ∧ canA (nI L) pk pr p q = false)))
    (fun r => (r.1 = true ∧ (∀ q, q < n → s.testBit q = true → canA (nI L) pk pr p q = true) ∧ ∃ y hr', asksN p g s v n = some y ∧ r.2.2.2 = nI hr' ∧ townR n (nI L) (nI hr') cat nights seed r.2.1 r.2.2.1 y ∧ moneyI n (nI L) cat r.2.1) ∨ (r.1 = false ∧ ∃ q, q < n ∧ s.testBit q = true ∧ canA (nI L) pk pr p q = false)) n (by omega) (true, (0 : Int32), nI hr, has, hours)
    ⟨rfl, Or.inl ⟨rfl, fun q hq => absurd hq (Nat.not_lt_zero q), v, hr, rfl, rfl, Nat.le_refl _, hR, hM⟩⟩ ?_ ?_
  · intro i st hi hst
    obtain ⟨b, j, ho, ha, hs'⟩ := st
    obtain ⟨z1, z2⟩ := hst
    dsimp only at z1 z2
    subst z1
    refine Or.inl ?_
    show ∃ s', BX6_tour_63 (nI p) (nI L) (nI g) (nI n) n pk pr z5 (nI s) z7 zr a1 a3 a4 a5 na nl nh nc nn ns nhas nhours b (nI i) ho ha hs' = some (.inl s') ∧ _
    unfold BX6_tour_63
    rw [if_neg (nI_ge hi (by omega)), nI_1, M_has, Option.bind_some, hasB_nI (by omega)]
    rcases z2 with ⟨rfl, w1, y, hr', w2, rfl, w3, w4, w5⟩ | ⟨rfl, w1⟩
    · cases c1 : s.testBit i
      · rw [iff_]
        refine ⟨_, rfl, rfl, Or.inl ⟨rfl, fun q hq hb => ?_, y, hr', ?_, rfl, by omega, w4, w5⟩⟩
        · by_cases e : q = i
          · subst e; rw [c1] at hb; cases hb
          · exact w1 q (by omega) hb
        · rw [asksN, w2, Option.bind_some, if_neg (by rw [c1]; decide)]
      · rw [ift, ift, M_canAsk4 hn hp hi, Option.bind_some]
        cases c2 : canA (nI L) pk pr p i
        · rw [iff_]
          exact ⟨_, rfl, rfl, Or.inr ⟨rfl, i, hi, c1, c2⟩⟩
        · obtain ⟨d1, d2, d3⟩ := canA_of c2
          obtain ⟨m, ha2, y2, e1, e2, e3, e4, -, -⟩ := asks_R hn hp hi d1 hg (by omega) w4 w5 d2 d3
          rw [ift, e1, Option.bind_some]
          refine ⟨_, rfl, rfl, Or.inl ⟨rfl, fun q hq hb => ?_, y2, hr' + 1, ?_, rfl, by omega, e3, e4⟩⟩
          · by_cases e : q = i
            · subst e; exact c2
            · exact w1 q (by omega) hb
          · rw [asksN, w2, Option.bind_some, if_pos c1, e2]
    · cases c1 : s.testBit i
      · rw [iff_]
        exact ⟨_, rfl, rfl, Or.inr ⟨rfl, w1⟩⟩
      · rw [ift, iff_]
        exact ⟨_, rfl, rfl, Or.inr ⟨rfl, w1⟩⟩
  · intro st hst
    obtain ⟨b, j, ho, ha, hs'⟩ := st
    obtain ⟨z1, z2⟩ := hst
    dsimp only at z1 z2
    subst z1
    refine ⟨(b, ha, hs', ho), ?_, ?_⟩
    · show BX6_tour_63 (nI p) (nI L) (nI g) (nI n) n pk pr z5 (nI s) z7 zr a1 a3 a4 a5 na nl nh nc nn ns nhas nhours b (nI n) ho ha hs' = _
      unfold BX6_tour_63
      rw [if_pos (nI_le (Nat.le_refl n) (by omega))]
    · rcases z2 with ⟨w0, w1, y, hr', w2, w3, -, w4, w5⟩ | w
      · exact Or.inl ⟨w0, w1, y, hr', w2, w3, w4, w5⟩
      · exact Or.inr w
theorem L_tourM {n p g s L B : Nat} (hn : n ≤ 6) (hp : p < n) (hg : g < 2 ^ 20) (hs : s < 64) (hB : B + 6 < 2 ^ 20) {cat nights seed : Int32} {pk : Nat → Nat} {pr v x : AI} (hR : simR n L cat nights seed B x v) (hc : ∀ q, q < n → s.testBit q = true → canA (nI L) pk pr p q = true) (z3 z4 z8 zg zt : Int32) (z5 zw : Int64) (zc zc2 he th : AI) :
    ∃ x' y, loopN FU (fun s_ : Int32 × AI => BX7_bestTour_63 (nI p) (nI g) (nI n) z3 z4 z5 (nI s) z8 zg zw zt zc zc2 he th s_.1 s_.2) ((0 : Int32), x) = some x' ∧ asksN p g s v n = some y ∧ simR n L cat nights seed (B + n) x' y := by
  obtain ⟨r, e, y, h1, h2⟩ := loop_FU (f := fun s_ : Int32 × AI => BX7_bestTour_63 (nI p) (nI g) (nI n) z3 z4 z5 (nI s) z8 zg zw zt zc zc2 he th s_.1 s_.2) (fun i st => st.1 = nI i ∧ ∃ y, asksN p g s v i = some y ∧ simR n L cat nights seed (B + i) st.2 y) (fun r => ∃ y, asksN p g s v n = some y ∧ simR n L cat nights seed (B + n) r y) n (by omega) ((0 : Int32), x) ⟨rfl, v, rfl, hR⟩
    (by
      intro i st hi hst
      obtain ⟨j, f⟩ := st
      obtain ⟨z1, y, w1, w2⟩ := hst
      dsimp only at z1 w2
      subst z1
      refine Or.inl ?_
      show ∃ s', BX7_bestTour_63 (nI p) (nI g) (nI n) z3 z4 z5 (nI s) z8 zg zw zt zc zc2 he th (nI i) f = some (.inl s') ∧ _
      unfold BX7_bestTour_63
      rw [if_neg (nI_ge hi (by omega)), nI_1, M_bit, Option.bind_some, hasB_nI (by omega)]
      cases c1 : s.testBit i
      · rw [iff_]
        refine ⟨_, rfl, rfl, y, ?_, ?_⟩
        · rw [asksN, w1, Option.bind_some, if_neg (by rw [c1]; decide)]
        · obtain ⟨a, b, c, d1, d2, d3, d4⟩ := w2
          exact ⟨a, b, c, d1, d2, d3, by omega⟩
      · obtain ⟨d1, d2, d3⟩ := canA_of (hc i hi c1)
        obtain ⟨x', y', e1, e2, e3⟩ := w2.asks hn hp hi d1 hg (by omega) d2 d3
        rw [ift, e1, Option.bind_some]
        exact ⟨_, rfl, rfl, y', by rw [asksN, w1, Option.bind_some, if_pos c1, e2], e3⟩)
    (by
      intro st hst
      obtain ⟨j, f⟩ := st
      obtain ⟨z1, y, w1, w2⟩ := hst
      dsimp only at z1 w2
      subst z1
      exact ⟨f, by show BX7_bestTour_63 (nI p) (nI g) (nI n) z3 z4 z5 (nI s) z8 zg zw zt zc zc2 he th (nI n) f = _; unfold BX7_bestTour_63; rw [if_pos (nI_le (Nat.le_refl n) (by omega))], y, w1, w2⟩)
  exact ⟨r, y, e, h1, h2⟩
/-- a step of the search: a set that may be asked and come by -/
def tourS (Y : Nat → Bool) (V : Nat → Int64) (a : Int32 × Int64) (s : Nat) : Int32 × Int64 := if Y s = true then (if a.2 < V s then (nI s, V s) else a) else a
def tourV (n L p g : Nat) (pd v : AI) (s : Nat) : Int64 := match asksN p g s v n with
  | some y => valV n L p pd y
  | none => 0
theorem tourS_in {Y : Nat → Bool} {V : Nat → Int64} (h0 : Y 0 = true) (hv : (-1 : Int64) < V 0) (x : Int32) : ∀ i, ∃ b, b < i + 1 ∧ Y b = true ∧ foldF (tourS Y V) (x, -1) (i + 1) = (nI b, V b) := by
  intro i
  induction i with
  | zero => exact ⟨0, by omega, h0, by show tourS Y V (x, -1) 0 = _; unfold tourS; rw [if_pos h0, if_pos hv]⟩
  | succ i ih =>
    obtain ⟨b, h1, h2, h3⟩ := ih
    rw [foldF, h3]
    unfold tourS
    by_cases c : Y (i + 1) = true
    · rw [if_pos c]
      by_cases c2 : V b < V (i + 1)
      · rw [if_pos c2]; exact ⟨i + 1, by omega, c, rfl⟩
      · rw [if_neg c2]; exact ⟨b, by omega, h2, rfl⟩
    · rw [if_neg c]; exact ⟨b, by omega, h2, rfl⟩
theorem tourS_same {Y : Nat → Bool} {V : Nat → Int64} (h0 : Y 0 = true) (hv : (-1 : Int64) < V 0) (x x' : Int32) : ∀ i, foldF (tourS Y V) (x, -1) (i + 1) = foldF (tourS Y V) (x', -1) (i + 1) := by
  intro i
  induction i with
  | zero =>
    show tourS Y V (x, -1) 0 = tourS Y V (x', -1) 0
    unfold tourS
    rw [if_pos h0, if_pos h0, if_pos hv, if_pos hv]
  | succ i ih => exact congrArg (fun z => tourS Y V z (i + 1)) ih
theorem M_tour6 {n p g L hr m : Nat} (hn : n ≤ 6) (hp : p < n) (hg : g < 2 ^ 20) (hL : L < 64) (hh : hr < 2000) (hm : m ≤ 12) {cat nights seed : Int32} {pk : Nat → Nat} {pr pd has hours v : AI} (hR : townR n (nI L) (nI hr) cat nights seed has hours v) (hM : moneyI n (nI L) cat has) (Y : Nat → Bool) (hY : ∀ s, s < 2 ^ n → (Y s = true ↔ (∀ q, q < n → s.testBit q = true → canA (nI L) pk pr p q = true) ∧ ∃ e, Vle (nearP n pr) p m (bitsP s) e)) (hY0 : Y 0 = true) (hV0 : (-1 : Int64) < tourV n L p g pd v 0)
    (kset tl th tc tn ts nl nh nc nn ns : Int32) (reach thas thours nhas nhours : AI) (na : Int64) :
    ∃ r, MX6_tour (nI p) (nI m) kset (nI L) (nI hr) cat nights seed (nI g) (nI n) reach tl th tc tn ts thas thours has hours na nl nh nc nn ns nhas nhours n pk pd pr = some r ∧ r.1 = (foldF (tourS Y (tourV n L p g pd v)) (kset, -1) (2 ^ n)).1 ∧
      ∀ b, b < 2 ^ n → r.1 = nI b → ∃ h, r.2.1 = Int32.toInt64 (nI h) ∧ h ≤ 1000000 ∧ ∀ t, t < 1000000 → (h ≤ t ↔ ∃ e, Vle (nearP n pr) p t (bitsP b) e) := by
  have h64 := pow_le hn
  have hall : MX8_all (nI n) = some (nI (2 ^ n - 1)) := by
    unfold MX8_all
    rw [pow_n n (by omega), nI_m1 (by omega)]
  obtain ⟨reach', e0, g0⟩ := M_lay6 hn hp pr reach
  have hdead := hM.deadO
  obtain ⟨r, e, hr1, hr2⟩ := loop_FU (f := fun s_ : Int64 × Int32 × Int32 × Int32 × Int32 × Int32 × Int32 × Int32 × AI × AI × Int64 × Int32 × Int32 × Int32 × Int32 × Int32 × AI × AI => BX6_tour_21 (nI p) (nI m) (nI L) (nI hr) cat nights seed (nI g) (nI n) has hours n pk pd pr reach' s_.1 s_.2.1 s_.2.2.1 s_.2.2.2.1 s_.2.2.2.2.1 s_.2.2.2.2.2.1 s_.2.2.2.2.2.2.1 s_.2.2.2.2.2.2.2.1 s_.2.2.2.2.2.2.2.2.1 s_.2.2.2.2.2.2.2.2.2.1 s_.2.2.2.2.2.2.2.2.2.2.1 s_.2.2.2.2.2.2.2.2.2.2.2.1 s_.2.2.2.2.2.2.2.2.2.2.2.2.1 s_.2.2.2.2.2.2.2.2.2.2.2.2.2.1 s_.2.2.2.2.2.2.2.2.2.2.2.2.2.2.1 s_.2.2.2.2.2.2.2.2.2.2.2.2.2.2.2.1 s_.2.2.2.2.2.2.2.2.2.2.2.2.2.2.2.2.1 s_.2.2.2.2.2.2.2.2.2.2.2.2.2.2.2.2.2)
    (fun i st => st.2.1 = nI i ∧ (st.2.2.1, st.1) = foldF (tourS Y (tourV n L p g pd v)) (kset, -1) i) (fun r => r.2.2.2.2.1 = (foldF (tourS Y (tourV n L p g pd v)) (kset, -1) (2 ^ n)).1 ∧ True) (2 ^ n) (by omega) ((-1 : Int64), (0 : Int32), kset, tl, th, tc, tn, ts, thas, thours, na, nl, nh, nc, nn, ns, nhas, nhours) ⟨rfl, rfl⟩
    (by
      intro s st hs hst
      obtain ⟨s1, s2, s3, s4, s5, s6, s7, s8, s9, s10, s11, s12, s13, s14, s15, s16, s17, s18⟩ := st
      obtain ⟨z1, z2⟩ := hst
      dsimp only at z1 z2
      subst z1
      refine Or.inl ?_
      obtain ⟨hq, e1, hq1, hq2⟩ := M_hours6 hn hp hs pr reach' g0
      have hstep : foldF (tourS Y (tourV n L p g pd v)) (kset, -1) (s + 1) = tourS Y (tourV n L p g pd v) (s3, s1) s := by rw [foldF, ← z2]
      show ∃ s', BX6_tour_21 (nI p) (nI m) (nI L) (nI hr) cat nights seed (nI g) (nI n) has hours n pk pd pr reach' s1 (nI s) s3 s4 s5 s6 s7 s8 s9 s10 s11 s12 s13 s14 s15 s16 s17 s18 = some (.inl s') ∧ _
      unfold BX6_tour_21
      rw [hall, Option.bind_some, if_neg (nI_nlt (by omega) (by omega)), nI_1, e1, Option.bind_some]
      have no : Y s = false → foldF (tourS Y (tourV n L p g pd v)) (kset, -1) (s + 1) = (s3, s1) := fun h => by rw [hstep]; unfold tourS; rw [if_neg (by rw [h]; decide)]
      by_cases c1 : hq ≤ m
      · have hex := (hq2 m (by omega)).mp c1
        rw [if_pos (nI_le c1 (by omega)), M_become, Option.bind_some]
        obtain ⟨r24, f1, f2⟩ := L_tourX (s := s) (pk := pk) (pr := pr) hn hp hg (by omega) hh (become_R (t := s9) (u := s10) hn hR) (become_M (t := s9) hn hM) s1 s3 reach' (nI L) cat nights seed s11 s12 s13 s14 s15 s16 s17 s18
        dsimp only
        rw [f1, Option.bind_some]
        rcases f2 with ⟨w1, w2, y, hr', w3, w4, w5, w6⟩ | ⟨w1, q, w2, w3, w4⟩
        · have hYs : Y s = true := (hY s hs).mpr ⟨w2, hex⟩
          have hV : tourV n L p g pd v s = valV n L p pd y := by unfold tourV; rw [w3]
          obtain ⟨r26, k1, k2, -⟩ := M_sum5 (pd := pd) hn hp hL (nI hr') cat nights seed s12 s13 s14 s15 s16 s17 s18 r24.2.1 r24.2.2.1 w6.deadO
          have k3 : r26.1 = tourV n L p g pd v s := by rw [k2, hV, val_eq hn hp hL w5.1 w5.2.2.2.2.2.1 w5.2.2.2.2.2.2]
          rw [w1, ift, w4, k1, Option.bind_some, k3]
          by_cases c2 : 0 < lg_cmp (tourV n L p g pd v s) s1
          · rw [if_pos c2]
            obtain ⟨r29, l1, l2, -⟩ := M_sum5 (pd := pd) hn hp hL (nI hr') cat nights seed r26.2.2.1 r26.2.2.2.1 r26.2.2.2.2.1 r26.2.2.2.2.2.1 r26.2.2.2.2.2.2.1 r26.2.2.2.2.2.2.2.1 r26.2.2.2.2.2.2.2.2 r24.2.1 r24.2.2.1 w6.deadO
            have l3 : r29.1 = tourV n L p g pd v s := by rw [l2, hV, val_eq hn hp hL w5.1 w5.2.2.2.2.2.1 w5.2.2.2.2.2.2]
            rw [l1, Option.bind_some, l3]
            refine ⟨_, rfl, rfl, ?_⟩
            rw [hstep]; unfold tourS
            rw [if_pos hYs, if_pos (show s1 < tourV n L p g pd v s from (lg_cmp_gt _ _).mp c2)]
          · rw [if_neg c2]
            refine ⟨_, rfl, rfl, ?_⟩
            rw [hstep]; unfold tourS
            rw [if_pos hYs, if_neg (show ¬ s1 < tourV n L p g pd v s from fun z => c2 ((lg_cmp_gt _ _).mpr z))]
        · have hYs : Y s = false := by
            cases hb : Y s
            · rfl
            · have := ((hY s hs).mp hb).1 q w2 w3
              rw [w4] at this; cases this
          rw [w1, iff_]
          exact ⟨_, rfl, rfl, (no hYs).symm⟩
      · have hYs : Y s = false := by
          cases hb : Y s
          · rfl
          · exact absurd ((hq2 m (by omega)).mpr ((hY s hs).mp hb).2) c1
        rw [if_neg (fun z => c1 ((nI_leI (show hq < 2 ^ 31 by omega) (by omega)).mp z))]
        exact ⟨_, rfl, rfl, (no hYs).symm⟩)
    (by
      intro st hst
      obtain ⟨s1, s2, s3, s4, s5, s6, s7, s8, s9, s10, s11, s12, s13, s14, s15, s16, s17, s18⟩ := st
      obtain ⟨z1, z2⟩ := hst
      dsimp only at z1 z2
      subst z1
      refine ⟨(s9, s10, s17, s18, s3, s4, s5, s6, s7, s8, s11, s12, s13, s14, s15, s16), ?_, congrArg Prod.fst z2, trivial⟩
      show BX6_tour_21 (nI p) (nI m) (nI L) (nI hr) cat nights seed (nI g) (nI n) has hours n pk pd pr reach' s1 (nI (2 ^ n)) s3 s4 s5 s6 s7 s8 s9 s10 s11 s12 s13 s14 s15 s16 s17 s18 = _
      unfold BX6_tour_21
      rw [hall, Option.bind_some, if_pos (nI_lt (by omega) (by omega))])
  by_cases cb : ∃ b, b < 2 ^ n ∧ r.2.2.2.2.1 = nI b
  · obtain ⟨b, hb, eb⟩ := cb
    obtain ⟨hq, e1, hq1, hq2⟩ := M_hours6 hn hp hb pr reach' g0
    refine ⟨(nI b, Int32.toInt64 (nI hq), reach', r.2.2.2.2.2.1, r.2.2.2.2.2.2.1, r.2.2.2.2.2.2.2.1, r.2.2.2.2.2.2.2.2.1, r.2.2.2.2.2.2.2.2.2.1, r.1, r.2.1, r.2.2.2.2.2.2.2.2.2.2.1, r.2.2.2.2.2.2.2.2.2.2.2.1, r.2.2.2.2.2.2.2.2.2.2.2.2.1, r.2.2.2.2.2.2.2.2.2.2.2.2.2.1, r.2.2.2.2.2.2.2.2.2.2.2.2.2.2.1, r.2.2.2.2.2.2.2.2.2.2.2.2.2.2.2, r.2.2.1, r.2.2.2.1), ?_, by rw [← hr1, eb], ?_⟩
    · unfold MX6_tour
      rw [e0, Option.bind_some, e, Option.bind_some, eb, e1, Option.bind_some]
    · intro b' hb' eb'
      have : b = b' := (nI_eq (by omega) (by omega)).mp eb'
      subst this
      exact ⟨hq, rfl, hq1, hq2⟩
  · exfalso
    obtain ⟨b, hb, -, eb⟩ := tourS_in hY0 hV0 kset (2 ^ n - 1)
    rw [show 2 ^ n - 1 + 1 = 2 ^ n by omega] at hb eb
    exact cb ⟨b, hb, by rw [hr1, eb]⟩
/-- the model's search -/
def leastP (N : Nat → Nat → Prop) (p b h : Nat) : Prop := (∃ x, Vk N p h (bitsP b) x) ∧ ∀ t, t < h → ¬ ∃ x, Vk N p t (bitsP b) x
theorem M_bestTour7 {n p g L hr m : Nat} (hn : n ≤ 6) (hp : p < n) (hg : g < 2 ^ 20) (hL : L < 64) (hh : hr < 2000) (hm : m ≤ 12) {cat nights seed : Int32} {pk : Nat → Nat} {pr kind near pd dies has hours v : AI} (hk : kindR n pk pr kind near) (hds : ∀ j, j < n → dies j = pd j) (hR : townR n (nI L) (nI hr) cat nights seed has hours v) (hM : moneyI n (nI L) cat has) (Y : Nat → Bool) (hY : ∀ s, s < 2 ^ n → (Y s = true ↔ (∀ q, q < n → s.testBit q = true → canA (nI L) pk pr p q = true) ∧ ∃ e, Vle (nearP n pr) p m (bitsP s) e)) (hY0 : Y 0 = true) (hV0 : (-1 : Int64) < tourV n L p g pd v 0)
    (cg thn : Int32) (wh : Int64) (come cT x heir th : AI) :
    ∃ r, MX7_bestTour (nI p) (nI m) cg wh thn (nI g) (nI n) v kind near come cT x heir th dies = some r ∧ ∃ b h, b < 2 ^ n ∧ r.1 = nI b ∧ (foldF (tourS Y (tourV n L p g pd v)) (0, -1) (2 ^ n)).1 = nI b ∧ r.2.2.2.1 = nI h ∧ h ≤ m ∧ leastP (nearP n pr) p b h := by
  have h64 := pow_le hn
  obtain ⟨c, hc1, hc2, hc3⟩ := setF_nI (P := fun j => canA (nI L) pk pr p j) hn
  have hsub : ∀ s, s < 64 → ((nI s &&& (nI c ^^^ (-1 : Int32))) = 0 ↔ ∀ q, q < n → s.testBit q = true → canA (nI L) pk pr p q = true) ∨ 2 ^ n ≤ s := by
    intro s hs
    by_cases c0 : s < 2 ^ n
    · refine Or.inl ?_
      rw [sub_iff hs (by omega)]
      constructor
      · intro h q hq hb; exact ((hc3 q).mp (h q hb)).2
      · intro h q hb; exact (hc3 q).mpr ⟨bitsP_ltn c0 hb, h q (bitsP_ltn c0 hb) hb⟩
    · exact Or.inr (by omega)
  have hnear : ∀ a b, nearP n near a b ↔ nearP n pr a b := fun a b => by
    unfold nearP
    constructor
    · rintro ⟨h1, h2, h3⟩; exact ⟨h1, h2, by rw [← (hk a h1).2.2]; exact h3⟩
    · rintro ⟨h1, h2, h3⟩; exact ⟨h1, h2, by rw [(hk a h1).2.2]; exact h3⟩
  have hN : nearP n near = nearP n pr := funext (fun a => funext (fun b => propext (hnear a b)))
  obtain ⟨r, e, hr1⟩ := loop_FU (f := fun s_ : Int32 × Int64 × Int32 × Int32 × Int64 × Int32 × AI × AI × AI × AI × AI => BX7_bestTour_17 (nI p) (nI m) (nI g) (nI n) v near dies (nI c) s_.1 s_.2.1 s_.2.2.1 s_.2.2.2.1 s_.2.2.2.2.1 s_.2.2.2.2.2.1 s_.2.2.2.2.2.2.1 s_.2.2.2.2.2.2.2.1 s_.2.2.2.2.2.2.2.2.1 s_.2.2.2.2.2.2.2.2.2.1 s_.2.2.2.2.2.2.2.2.2.2)
    (fun i st => st.2.2.1 = nI i ∧ (st.1, st.2.1) = foldF (tourS Y (tourV n L p g pd v)) (0, -1) i ∧ ((i = 0) ∨ ∃ b h, b < i ∧ st.1 = nI b ∧ st.2.2.2.2.2.1 = nI h ∧ h ≤ m ∧ leastP (nearP n pr) p b h))
    (fun r => r.1 = (foldF (tourS Y (tourV n L p g pd v)) (0, -1) (c + 1)).1 ∧ ∃ b h, b < c + 1 ∧ r.1 = nI b ∧ r.2.2.2.2.2.2.2.2 = nI h ∧ h ≤ m ∧ leastP (nearP n pr) p b h) (c + 1) (by omega) ((0 : Int32), (-1 : Int64), (0 : Int32), cg, wh, thn, come, cT, x, heir, th) ⟨rfl, rfl, Or.inl rfl⟩
    (by
      intro s st hs hst
      obtain ⟨s1, s2, s3, s4, s5, s6, s7, s8, s9, s10, s11⟩ := st
      obtain ⟨z1, z2, z3⟩ := hst
      dsimp only at z1 z2 z3
      subst z1
      refine Or.inl ?_
      have hstep : foldF (tourS Y (tourV n L p g pd v)) (0, -1) (s + 1) = tourS Y (tourV n L p g pd v) (s1, s2) s := by rw [foldF, ← z2]
      have hs2n : s < 2 ^ n := by omega
      have no : Y s = false → s1 = (foldF (tourS Y (tourV n L p g pd v)) (0, -1) (s + 1)).1 ∧ (s1, s2) = foldF (tourS Y (tourV n L p g pd v)) (0, -1) (s + 1) ∧ ((s + 1 = 0) ∨ ∃ b h, b < s + 1 ∧ s1 = nI b ∧ s6 = nI h ∧ h ≤ m ∧ leastP (nearP n pr) p b h) := fun h => by
        have e1 : foldF (tourS Y (tourV n L p g pd v)) (0, -1) (s + 1) = (s1, s2) := by rw [hstep]; unfold tourS; rw [if_neg (by rw [h]; decide)]
        refine ⟨by rw [e1], e1.symm, Or.inr ?_⟩
        rcases z3 with w | ⟨b, h', w1, w2⟩
        · subst w; rw [hY0] at h; cases h
        · exact ⟨b, h', by omega, w2⟩
      show ∃ s', BX7_bestTour_17 (nI p) (nI m) (nI g) (nI n) v near dies (nI c) s1 s2 (nI s) s4 s5 s6 s7 s8 s9 s10 s11 = some (.inl s') ∧ _
      unfold BX7_bestTour_17
      rw [if_neg (nI_nlt (by omega) (by omega)), nI_1]
      rcases hsub s (by omega) with hsb | hsb
      · by_cases c1 : (nI s &&& (nI c ^^^ (-1 : Int32))) = 0
        · have hcan := hsb.mp c1
          rw [if_pos c1]
          obtain ⟨r5, e5, h5⟩ := M_hoursBy7 (m := m) hn hp (show s < 64 by omega) hm near s7 s8
          rw [hN] at h5
          rw [e5, Option.bind_some]
          rcases h5 with ⟨w1, w2⟩ | ⟨h, w1, w2, w3, w4⟩
          · have hYs : Y s = false := by
              cases hb : Y s
              · rfl
              · exact absurd ((hY s hs2n).mp hb).2 w2
            rw [if_pos w1]
            obtain ⟨-, n2, n3⟩ := no hYs
            exact ⟨_, rfl, rfl, n2, n3⟩
          · have hYs : Y s = true := (hY s hs2n).mpr ⟨hcan, by obtain ⟨x', hx'⟩ := w3; exact ⟨x', h, w1, hx'⟩⟩
            rw [w2, if_neg (show ¬ nI h = (9999 : Int32) from fun z => absurd ((nI_eq (b := 9999) (by omega) (by decide)).mp z) (by omega))]
            obtain ⟨x1, ex, hx⟩ := M_works7 v s9
            obtain ⟨x2, y, f1, f2, f3⟩ := L_tourM (s := s) (B := hr + 1) (pk := pk) (pr := pr) hn hp hg (show s < 64 by omega) (by omega) ⟨hr, has, hours, hR.copy hn hx, hR, hM, by omega⟩ hcan (nI c) s1 (nI h) s4 s6 s2 s5 r5.2.1 r5.2.2 s10 s11
            rw [ex, Option.bind_some, f1, Option.bind_some]
            have e5v := f3.val (pd := pd) hn hp hL
            obtain ⟨hr', has', hours', t1, t2, t3, t4⟩ := f3
            obtain ⟨r7, k1, k2, -⟩ := M_mean7 hn hp hL s4 x2 s10 dies s11 hours' has' t1.1 t1.2.2.2.2.2.1 t1.2.2.2.2.2.2
            have hw' : (fun set => weightF (nI L) set dies n) = (fun set => weightF (nI L) set pd n) := funext (fun s => weightF_congr n hds)
            have k3 : r7.1 = tourV n L p g pd v s := by
              unfold tourV
              rw [f2, k2, hw', val_eq hn hp hL t1.1 t1.2.2.2.2.2.1 t1.2.2.2.2.2.2, e5v]
            rw [k1, Option.bind_some, k3]
            by_cases c2 : 0 < lg_cmp (tourV n L p g pd v s) s2
            · rw [if_pos c2]
              refine ⟨_, rfl, rfl, ?_, Or.inr ⟨s, h, by omega, rfl, rfl, w1, w3, w4⟩⟩
              rw [hstep]; unfold tourS
              rw [if_pos hYs, if_pos (show s2 < tourV n L p g pd v s from (lg_cmp_gt _ _).mp c2)]
            · rw [if_neg c2]
              refine ⟨_, rfl, rfl, ?_, ?_⟩
              · rw [hstep]; unfold tourS
                rw [if_pos hYs, if_neg (show ¬ s2 < tourV n L p g pd v s from fun z => c2 ((lg_cmp_gt _ _).mpr z))]
              · rcases z3 with q | ⟨b, h', q1, q2⟩
                · subst q
                  have q3 : s2 = -1 := congrArg Prod.snd z2
                  rw [q3] at c2
                  exact absurd ((lg_cmp_gt _ _).mpr hV0) c2
                · exact Or.inr ⟨b, h', by omega, q2⟩
        · have hYs : Y s = false := by
            cases hb : Y s
            · rfl
            · exact absurd (hsb.mpr ((hY s hs2n).mp hb).1) c1
          rw [if_neg c1]
          obtain ⟨-, n2, n3⟩ := no hYs
          exact ⟨_, rfl, rfl, n2, n3⟩
      · omega)
    (by
      intro st hst
      obtain ⟨s1, s2, s3, s4, s5, s6, s7, s8, s9, s10, s11⟩ := st
      obtain ⟨z1, z2, z3⟩ := hst
      dsimp only at z1 z2 z3
      subst z1
      refine ⟨(s1, s7, s8, s9, s10, s11, s4, s5, s6), ?_, congrArg Prod.fst z2, ?_⟩
      · show BX7_bestTour_17 (nI p) (nI m) (nI g) (nI n) v near dies (nI c) s1 s2 (nI (c + 1)) s4 s5 s6 s7 s8 s9 s10 s11 = _
        unfold BX7_bestTour_17
        rw [if_pos (nI_lt (by omega) (by omega))]
      · rcases z3 with w | w
        · omega
        · exact w)
  obtain ⟨q1, b, h, q2, q3, q4, q5, q6⟩ := hr1
  have hstop : foldF (tourS Y (tourV n L p g pd v)) (0, -1) (2 ^ n) = foldF (tourS Y (tourV n L p g pd v)) (0, -1) (c + 1) := by
    have := foldF_stop (step := tourS Y (tourV n L p g pd v)) (a0 := ((0 : Int32), (-1 : Int64))) (m := c + 1) (2 ^ n - (c + 1)) (fun i a h1 h2 => by
      unfold tourS
      rw [if_neg]
      intro hYi
      have hi : i < 2 ^ n := by omega
      have := (hY i hi).mp hYi
      rcases hsub i (by omega) with w | w
      · have := sub_le (s := i) (L := c) (by omega) (by omega) (w.mpr this.1)
        omega
      · omega)
    rw [show c + 1 + (2 ^ n - (c + 1)) = 2 ^ n by omega] at this
    exact this
  refine ⟨(r.1, r.2.2.2.2.2.2.1, r.2.2.2.2.2.2.2.1, r.2.2.2.2.2.2.2.2, r.2.1, r.2.2.1, r.2.2.2.1, r.2.2.2.2.1, r.2.2.2.2.2.1), ?_, b, h, by omega, q3, by rw [hstop, ← q1, q3], q4, q5, q6⟩
  unfold MX7_bestTour
  rw [M_canAsk7 hn hp v hk, Option.bind_some, hR.1, hc2, e, Option.bind_some]
theorem in012 {q : Int32} (h : inB q 0 12 = true) : ∃ m, m ≤ 12 ∧ q = nI m := inB_nI (m := 12) (by decide) h
/-- both tours at once -/
theorem tour_both {n p g L hr m : Nat} (hn : n ≤ 6) (hp : p < n) (hg : g < 2 ^ 20) (hL : L < 2 ^ n) (hh : hr < 2000) (hm : m ≤ 12) {cat nights seed : Int32} {pk : Nat → Nat} {pr kind near pd dies has hours v : AI} (hk : kindR n pk pr kind near) {dN : Nat → Nat} (hd : ∀ j, j < n → pd j = nI (dN j) ∧ dN j ≤ 100) (hds : ∀ j, j < n → dies j = pd j) (hR : townR n (nI L) (nI hr) cat nights seed has hours v) (hM : moneyI n (nI L) cat has)
    (kset tl th tc tn ts nl nh nc nn ns cg thn : Int32) (reach thas thours nhas nhours come cT x heir then_ : AI) (na wh : Int64) :
    ∃ r q b h, MX6_tour (nI p) (nI m) kset (nI L) (nI hr) cat nights seed (nI g) (nI n) reach tl th tc tn ts thas thours has hours na nl nh nc nn ns nhas nhours n pk pd pr = some r ∧ MX7_bestTour (nI p) (nI m) cg wh thn (nI g) (nI n) v kind near come cT x heir then_ dies = some q ∧ r.1 = nI b ∧ q.1 = nI b ∧ r.2.1 = Int32.toInt64 (nI h) ∧ q.2.2.2.1 = nI h := by
  have h64 := pow_le hn
  obtain ⟨Y, hY⟩ : ∃ Y : Nat → Bool, ∀ s, Y s = true ↔ ((∀ q, q < n → s.testBit q = true → canA (nI L) pk pr p q = true) ∧ ∃ e, Vle (nearP n pr) p m (bitsP s) e) := ⟨fun s => @decide _ (Classical.propDecidable ((∀ q, q < n → s.testBit q = true → canA (nI L) pk pr p q = true) ∧ ∃ e, Vle (nearP n pr) p m (bitsP s) e)), fun s => @decide_eq_true_iff _ (Classical.propDecidable _)⟩
  have hY0 : Y 0 = true := (hY 0).mpr ⟨fun q _ h => (by rw [Nat.zero_testBit] at h; cases h), p, 0, Nat.zero_le _, rfl, fun x hx => (by unfold bitsP at hx; rw [Nat.zero_testBit] at hx; cases hx)⟩
  have hA0 : asksN p g 0 v n = some v := by
    have : ∀ i, asksN p g 0 v i = some v := by
      intro i
      induction i with
      | zero => rfl
      | succ i ih => rw [asksN, ih, Option.bind_some, if_neg (by rw [Nat.zero_testBit]; decide)]
    exact this n
  have hV0 : (-1 : Int64) < tourV n L p g pd v 0 := by
    unfold tourV
    rw [hA0]
    exact isL_gt (val_isL hn hp (by omega) hd hR hM)
  obtain ⟨r, e, r1, r2⟩ := M_tour6 (pd := pd) hn hp hg (show L < 64 by omega) hh hm hR hM Y (fun s _ => hY s) hY0 hV0 kset tl th tc tn ts nl nh nc nn ns reach thas thours nhas nhours na
  obtain ⟨q, f, b, h, q1, q2, q3, q4, q5, q6⟩ := M_bestTour7 (pd := pd) hn hp hg (show L < 64 by omega) hh hm hk hds hR hM Y (fun s _ => hY s) hY0 hV0 cg thn wh come cT x heir then_
  have hb : r.1 = nI b := by
    have e2 := tourS_same hY0 hV0 kset 0 (2 ^ n - 1)
    rw [show 2 ^ n - 1 + 1 = 2 ^ n by omega] at e2
    rw [r1, e2, q3]
  obtain ⟨h', g1, g2, g3⟩ := r2 b q1 hb
  have hhh : h' = h := by
    have a1 : h' ≤ h := (g3 h (by omega)).mpr (by obtain ⟨x', hx'⟩ := q6.1; exact ⟨x', h, Nat.le_refl h, hx'⟩)
    by_cases c : h' < h
    · obtain ⟨x', k, k1, k2⟩ := (g3 h' (by omega)).mp (Nat.le_refl h')
      exact absurd ⟨x', k2⟩ (q6.2 k (by omega))
    · omega
  exact ⟨r, q, b, h, e, f, hb, q2, by rw [g1, hhh], q4⟩
/-! op 25: apart -/
theorem op_apart {n : Nat} (h0 : 0 < n) (hn : n ≤ 6) {pk : Nat → Nat} {pr kind near : AI} (hk : kindR n pk pr kind near) (p q : Int32) (come cT : AI) :
    ∃ a tr rM, MX1_apart p q (nI n) n pr = some (a, tr, -1) ∧ MX7_apart p q (nI n) come cT near = some (a, 0, tr, -1, rM) ∧ ¬ tr = 4 := by
  unfold MX1_apart MX7_apart MX1_anew MX1_no MX7_refused MX7_good
  rw [M_isP1 h0 hn, M_isP1 h0 hn, M_isP7, M_isP7]
  simp only [Option.bind_some]
  cases c1 : isP n p
  · rw [iff_, iff_]; exact ⟨_, _, _, rfl, rfl, by decide⟩
  · rw [ift, ift]
    cases c2 : isP n q
    · rw [iff_, iff_]; exact ⟨_, _, _, rfl, rfl, by decide⟩
    · rw [ift, ift]
      obtain ⟨i, hi, rfl⟩ := isP_of hn c1
      obtain ⟨j, hj, rfl⟩ := isP_of hn c2
      have h64 := pow_le hn
      have hj64 : 2 ^ j < 64 := by
        have : ∀ p, p < 6 → 2 ^ p < 64 := by decide
        exact this j (by omega)
      obtain ⟨d, e, d1, d2, d3⟩ := M_apart6 hn hi hj pr
      obtain ⟨r, f, hr⟩ := M_hoursBy7 (m := 6) hn hi hj64 (by decide) near come cT
      have hN : nearP n near = nearP n pr := funext (fun a => funext (fun b => propext (by
        unfold nearP
        constructor
        · rintro ⟨h1, h2, h3⟩; exact ⟨h1, h2, by rw [← (hk a h1).2.2]; exact h3⟩
        · rintro ⟨h1, h2, h3⟩; exact ⟨h1, h2, by rw [(hk a h1).2.2]; exact h3⟩)))
      rw [hN] at hr
      have hone : ∀ x, bitsP (2 ^ j) x ↔ x = j := fun x => by
        unfold bitsP
        rw [Nat.testBit_two_pow, decide_eq_true_iff]
        exact eq_comm
      have hany : ∀ t, (∃ x, Vle (nearP n pr) i t (bitsP (2 ^ j)) x) ↔ Dle (nearP n pr) i t j := fun t => by
        rw [Vle_any ⟨j, (hone j).mpr rfl⟩]
        constructor
        · rintro ⟨o, h1, h2⟩
          rw [(hone o).mp h1] at h2
          exact (Vle_one hone).mp h2
        · intro h
          exact ⟨j, (hone j).mpr rfl, (Vle_one hone).mpr h⟩
      rw [e, Option.bind_some, pow_n j (by omega), show (6 : Int32) = nI 6 from rfl, f, Option.bind_some]
      rcases hr with ⟨w1, w2⟩ | ⟨h, w1, w2, w3, w4⟩
      · have hd : d = 1000000 := by
          rcases d2 with q | q
          · exact absurd ((hany 6).mpr ((d3 6 (by decide)).mp (by omega))) w2
          · exact q
        rw [hd, if_pos (show nI 1000000 = (1000000 : Int32) from rfl), if_pos w1]
        exact ⟨_, _, _, rfl, rfl, by decide⟩
      · have hd : d = h := by
          have a1 : d ≤ h := (d3 h (by omega)).mpr ((hany h).mp (by obtain ⟨x', hx'⟩ := w3; exact ⟨x', h, Nat.le_refl h, hx'⟩))
          by_cases c : d < h
          · obtain ⟨x', k, k1, k2⟩ := (hany d).mpr ((d3 d (by omega)).mp (Nat.le_refl d))
            exact absurd ⟨x', k2⟩ (w4 k (by omega))
          · omega
        rw [hd, if_neg (show ¬ nI h = (1000000 : Int32) from fun z => absurd ((nI_eq (b := 1000000) (by omega) (by decide)).mp z) (by omega)), w2, if_neg (show ¬ nI h = (9999 : Int32) from fun z => absurd ((nI_eq (b := 9999) (by omega) (by decide)).mp z) (by omega))]
        exact ⟨_, _, _, rfl, rfl, by decide⟩
/-! op 23: tour; op 24: tourHours -/
theorem op_tour {n g : Nat} (h0 : 0 < n) (hn : n ≤ 6) (hg : g < 2 ^ 20) {liv hour cat nights seed : Int32} {has hours v : AI} (hR : townR n liv hour cat nights seed has hours v) (hI : townI n liv hour cat nights seed has) {pk : Nat → Nat} {pr kind near pd dies : AI} (hk : kindR n pk pr kind near) {dN : Nat → Nat} (hd : ∀ j, j < n → pd j = nI (dN j) ∧ dN j ≤ 100) (hds : ∀ j, j < n → dies j = pd j) (p q : Int32)
    (kset tl th tc tn ts nl nh nc nn ns cg thn : Int32) (reach thas thours nhas nhours come cT x heir then_ : AI) (km na wh : Int64) :
    ∃ a tr rX rM, MX1_tour p q (nI g) (nI n) liv hour cat nights seed kset km na reach has hours tl th tc tn ts nl nh nc nn ns thas thours nhas nhours n pk pd pr = some (a, tr, -1, rX) ∧ MX7_tour p q cg wh thn (nI g) (nI n) v x heir then_ come cT kind dies near = some (a, 0, tr, -1, rM) ∧ ¬ tr = 4 := by
  have hM := hI.money
  obtain ⟨L, hN, cN, hr, nN, sN, hL, hL2, -, -, -, -, hhr, hhr2, -⟩ := hI
  subst hL; subst hhr
  unfold MX1_tour MX7_tour MX1_anew MX1_no MX7_refused MX7_good
  rw [M_in]
  simp only [Option.bind_some]
  rw [M_planWhy1 h0 hn, M_refNum7, hR.1]
  simp only [Option.bind_some]
  rcases whyN_cases n (nI L) p (inB q 0 12) with ⟨e, e1, e2, -⟩ | e
  · obtain ⟨k, hk6, rfl⟩ := isP_of hn e1
    obtain ⟨m, hm, rfl⟩ := in012 e2
    obtain ⟨r, w, b, h, a1, a2, a3, a4, a5, a6⟩ := tour_both hn hk6 hg hL2 (show hr < 2000 by omega) hm hk hd hds hR hM kset tl th tc tn ts nl nh nc nn ns cg thn reach thas thours nhas nhours come cT x heir then_ na wh
    rw [e, if00, if_pos (show (0 : Int32) ≤ 0 by decide), a1, Option.bind_some, a2, Option.bind_some]
    rw [a3, a4]
    exact ⟨_, _, _, _, rfl, rfl, by decide⟩
  · rcases e with e | e | e <;> rw [e, if_neg (by decide), if_neg (by decide)] <;> exact ⟨_, _, _, _, rfl, rfl, by decide⟩
theorem op_tourHours {n g : Nat} (h0 : 0 < n) (hn : n ≤ 6) (hg : g < 2 ^ 20) {liv hour cat nights seed : Int32} {has hours v : AI} (hR : townR n liv hour cat nights seed has hours v) (hI : townI n liv hour cat nights seed has) {pk : Nat → Nat} {pr kind near pd dies : AI} (hk : kindR n pk pr kind near) {dN : Nat → Nat} (hd : ∀ j, j < n → pd j = nI (dN j) ∧ dN j ≤ 100) (hds : ∀ j, j < n → dies j = pd j) (p q : Int32)
    (kset tl th tc tn ts nl nh nc nn ns cg thn : Int32) (reach thas thours nhas nhours come cT x heir then_ : AI) (km na wh : Int64) :
    ∃ a tr rX rM, MX1_tourHours p q (nI g) (nI n) liv hour cat nights seed kset km na reach has hours tl th tc tn ts nl nh nc nn ns thas thours nhas nhours n pk pd pr = some (a, tr, -1, rX) ∧ MX7_tourHours p q cg wh thn (nI g) (nI n) v x heir then_ come cT kind dies near = some (a, 0, tr, -1, rM) ∧ ¬ tr = 4 := by
  have hM := hI.money
  obtain ⟨L, hN, cN, hr, nN, sN, hL, hL2, -, -, -, -, hhr, hhr2, -⟩ := hI
  subst hL; subst hhr
  unfold MX1_tourHours MX7_tourHours MX1_anew MX1_no MX7_refused MX7_good
  rw [M_in]
  simp only [Option.bind_some]
  rw [M_planWhy1 h0 hn, M_refNum7, hR.1]
  simp only [Option.bind_some]
  rcases whyN_cases n (nI L) p (inB q 0 12) with ⟨e, e1, e2, -⟩ | e
  · obtain ⟨k, hk6, rfl⟩ := isP_of hn e1
    obtain ⟨m, hm, rfl⟩ := in012 e2
    obtain ⟨r, w, b, h, a1, a2, a3, a4, a5, a6⟩ := tour_both hn hk6 hg hL2 (show hr < 2000 by omega) hm hk hd hds hR hM kset tl th tc tn ts nl nh nc nn ns cg thn reach thas thours nhas nhours come cT x heir then_ na wh
    rw [e, if00, if_pos (show (0 : Int32) ≤ 0 by decide), a1, Option.bind_some, a2, Option.bind_some]
    rw [a5, a6, Int32.toInt32_toInt64]
    exact ⟨_, _, _, _, rfl, rfl, by decide⟩
  · rcases e with e | e | e <;> rw [e, if_neg (by decide), if_neg (by decide)] <;> exact ⟨_, _, _, _, rfl, rfl, by decide⟩
