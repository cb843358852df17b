set_option maxRecDepth 100000
/-! fits, fitAt, heirBy, look, lookLeaves -/
theorem op_fits {n m : Nat} (hn : n ≤ 6) {b o t g : Nat → Nat} {hby hof hat hgive by_ of_ give asked ch pt went : AI} (hI : heardI n m b o t g) (hX' : heardX m b o t g hby hof hat hgive) (hM' : heardM m b o t g by_ of_ give asked) (hr : hrel0 ch asked) (hw : ∀ j, j < n → went j = pt j) (hour tl th tc tn ts fh : Int32) (thas thours pw x chas hr' pI hI' : AI) :
    ∃ a tr rX rM, MX1_fits hour (nI n) (nI m) hat hgive tl th tc tn ts ch hby hof thas thours n pw pt = some (a, tr, -1, rX) ∧ MX7_fits fh hour (nI n) (nI m) x hr' pI hI' chas went asked by_ of_ give = some (a, 0, tr, -1, rM) ∧ ¬ tr = 4 := by
  have hC := codN_343 hI
  obtain ⟨r, e, r1, -⟩ := M_fitting7 hn hI hM' hr hw (-1) (kp := 0) (by decide) fh hour pI hI' x chas hr'
  obtain ⟨q, f, q1⟩ := loop_FU (f := fun s_ : Int32 × Int32 × Int32 × Int32 × Int32 × Int32 × Int32 × AI × AI => BX1_fits_21 hour (nI n) (nI m) hat hgive ch hby hof n pw pt 0 (-1) s_.1 s_.2.1 s_.2.2.1 s_.2.2.2.1 s_.2.2.2.2.1 s_.2.2.2.2.2.1 s_.2.2.2.2.2.2.1 s_.2.2.2.2.2.2.2.1 s_.2.2.2.2.2.2.2.2)
    (fun i s => s.1 = nI (cntN (fitB n b o t g m ch pt) i) ∧ s.2.1 = nI i) (fun r => r.1 = nI (cntN (fitB n b o t g m ch pt) (codN t g m))) (codN t g m) (by omega) ((0 : Int32), (0 : Int32), tl, th, tc, tn, ts, thas, thours) ⟨rfl, rfl⟩
    (by
      intro i s hi hs
      obtain ⟨s1, s2, s3, s4, s5, s6, s7, s8, s9⟩ := s
      obtain ⟨z1, z2⟩ := hs
      dsimp only at z1 z2
      subst z1; subst z2
      refine Or.inl ?_
      obtain ⟨d, d1, d2, -⟩ := M_doesFit1 hn (code := i) (by omega) hI hX' hour s8 s9 ch pw pt
      show ∃ s', BX1_fits_21 hour (nI n) (nI m) hat hgive ch hby hof n pw pt 0 (-1) (nI (cntN (fitB n b o t g m ch pt) i)) (nI i) s3 s4 s5 s6 s7 s8 s9 = some (.inl s') ∧ _
      unfold BX1_fits_21
      rw [M_choices1 hI hX', Option.bind_some, if_neg (nI_ge hi (by omega)), d1, Option.bind_some, d2]
      cases hf : fitB n b o t g m ch pt i
      · rw [iff_]
        exact ⟨_, rfl, by rw [cntN_skip hf]; exact Int32.add_zero _, nI_1 _⟩
      · rw [ift]
        exact ⟨_, rfl, by rw [cntN_step hf]; exact nI_1 _, nI_1 _⟩)
    (by
      intro s hs
      obtain ⟨s1, s2, s3, s4, s5, s6, s7, s8, s9⟩ := s
      obtain ⟨z1, z2⟩ := hs
      dsimp only at z1 z2
      subst z1; subst z2
      refine ⟨(nI (cntN (fitB n b o t g m ch pt) (codN t g m)), s8, s9, s3, s4, s5, s6, s7), ?_, rfl⟩
      show BX1_fits_21 hour (nI n) (nI m) hat hgive ch hby hof n pw pt 0 (-1) _ (nI (codN t g m)) s3 s4 s5 s6 s7 s8 s9 = _
      unfold BX1_fits_21
      rw [M_choices1 hI hX', Option.bind_some, if_pos (nI_le (Nat.le_refl _) (by omega))])
  unfold MX1_fits MX7_fits MX1_anew MX7_good
  rw [Option.bind_some]
  dsimp only
  rw [f, Option.bind_some, show (0 : Int32) = nI 0 from rfl, e, Option.bind_some, Option.bind_some, r1, q1]
  exact ⟨_, _, _, _, rfl, rfl, by decide⟩
theorem op_fitAt {n m : Nat} (hn : n ≤ 6) {b o t g : Nat → Nat} {hby hof hat hgive by_ of_ give asked ch pt went : AI} (hI : heardI n m b o t g) (hX' : heardX m b o t g hby hof hat hgive) (hM' : heardM m b o t g by_ of_ give asked) (hr : hrel0 ch asked) (hw : ∀ j, j < n → went j = pt j) (p k : Int32) (hour tl th tc tn ts fn fh : Int32) (thas thours pw x chas hr' pI hI' : AI) :
    ∃ a tr rX rM, MX1_fitAt p k hour (nI n) (nI m) hat hgive tl th tc tn ts ch hby hof thas thours n pw pt = some (a, tr, -1, rX) ∧ MX7_fitAt p k fn fh hour (nI n) (nI m) x hr' pI hI' chas went asked by_ of_ give = some (a, 0, tr, -1, rM) ∧ ¬ tr = 4 := by
  have hC := codN_343 hI
  have hm := hI.1
  have nope : ∃ a tr rX, MX1_fitAt p k hour (nI n) (nI m) hat hgive tl th tc tn ts ch hby hof thas thours n pw pt = some (a, tr, -1, rX) ∧ ((0 ≤ k ∧ k < nI m) → ∃ kp, kp < m ∧ k = nI kp ∧ ((∃ c, c < codN t g m ∧ fitB n b o t g m ch pt c = true ∧ nI (cntN (fitB n b o t g m ch pt) c) = p ∧ a = nI (loN t g kp + chN t g m c kp) ∧ tr = 0) ∨ ((∀ c, c < codN t g m → fitB n b o t g m ch pt c = true → ¬ nI (cntN (fitB n b o t g m ch pt) c) = p) ∧ a = -1 ∧ tr = 1))) ∧ (¬ (0 ≤ k ∧ k < nI m) → a = -1 ∧ tr = 1) := by
    have hin : inB k 0 (nI m - 1) = (decide (0 ≤ k) && decide (k < nI m)) := by
      unfold inB
      by_cases c : 0 ≤ k
      · obtain ⟨j, hj, rfl⟩ := nI_of (x := k) (Int32.not_lt.mpr c)
        by_cases c0 : m = 0
        · subst c0
          have h1 : ¬ nI j ≤ nI 0 - 1 := fun z => absurd (Int32.le_trans (nI_pos' hj) z) (by decide)
          have h2 : ¬ nI j < nI 0 := nI_nlt (by omega) hj
          simp [h1, h2]
        · rw [nI_m1 (by omega)]
          have : nI j ≤ nI (m - 1) ↔ nI j < nI m := by rw [nI_leI hj (by omega), nI_ltI hj (by omega)]; omega
          simp [this]
      · simp [c]
    unfold MX1_fitAt MX1_anew MX1_no
    rw [Option.bind_some]
    dsimp only
    rw [M_in, Option.bind_some, hin]
    by_cases c : 0 ≤ k ∧ k < nI m
    · obtain ⟨j, hj, rfl⟩ := nI_of (x := k) (Int32.not_lt.mpr c.1)
      have hjm : j < m := (nI_ltI hj (by omega)).mp c.2
      obtain ⟨-, -, j3, j4⟩ := hI.2.1 j hjm
      rw [decide_eq_true c.1, decide_eq_true c.2, Bool.and_true, ift]
      obtain ⟨q, f, q1⟩ := loop_FU (f := fun s_ : Int32 × Int32 × Int32 × Int32 × Int32 × Int32 × Int32 × AI × AI => BX1_fitAt_39 p hour (nI n) (nI m) hat hgive ch hby hof n pw pt 0 (-1) s_.1 s_.2.1 s_.2.2.1 s_.2.2.2.1 s_.2.2.2.2.1 s_.2.2.2.2.2.1 s_.2.2.2.2.2.2.1 s_.2.2.2.2.2.2.2.1 s_.2.2.2.2.2.2.2.2)
        (fun i s => s.1 = nI (cntN (fitB n b o t g m ch pt) i) ∧ s.2.1 = nI i ∧ ∀ c, c < i → fitB n b o t g m ch pt c = true → ¬ nI (cntN (fitB n b o t g m ch pt) c) = p)
        (fun r => (∃ z c, r = .inl z ∧ c < codN t g m ∧ fitB n b o t g m ch pt c = true ∧ nI (cntN (fitB n b o t g m ch pt) c) = p ∧ z.1 = nI c) ∨ (∃ z, r = .inr z ∧ ∀ c, c < codN t g m → fitB n b o t g m ch pt c = true → ¬ nI (cntN (fitB n b o t g m ch pt) c) = p)) (codN t g m) (by omega) ((0 : Int32), (0 : Int32), tl, th, tc, tn, ts, thas, thours) ⟨rfl, rfl, fun c hc => by omega⟩
        (by
          intro i s hi hs
          obtain ⟨s1, s2, s3, s4, s5, s6, s7, s8, s9⟩ := s
          obtain ⟨z1, z2, z3⟩ := hs
          dsimp only at z1 z2 z3
          subst z1; subst z2
          obtain ⟨d, d1, d2, -⟩ := M_doesFit1 hn (code := i) (by omega) hI hX' hour s8 s9 ch pw pt
          show (∃ s', BX1_fitAt_39 p hour (nI n) (nI m) hat hgive ch hby hof n pw pt 0 (-1) (nI (cntN (fitB n b o t g m ch pt) i)) (nI i) s3 s4 s5 s6 s7 s8 s9 = some (.inl s') ∧ _) ∨ (∃ r, BX1_fitAt_39 p hour (nI n) (nI m) hat hgive ch hby hof n pw pt 0 (-1) (nI (cntN (fitB n b o t g m ch pt) i)) (nI i) s3 s4 s5 s6 s7 s8 s9 = some (.inr r) ∧ _)
          unfold BX1_fitAt_39
          rw [M_choices1 hI hX', Option.bind_some, if_neg (nI_ge hi (by omega)), d1, Option.bind_some, d2]
          cases hf : fitB n b o t g m ch pt i
          · rw [iff_]
            refine Or.inl ⟨_, rfl, by rw [cntN_skip hf], nI_1 _, fun c hc hfc => ?_⟩
            by_cases e : c = i
            · subst e; rw [hf] at hfc; cases hfc
            · exact z3 c (by omega) hfc
          · rw [ift]
            by_cases c2 : nI (cntN (fitB n b o t g m ch pt) i) = p
            · rw [if_pos c2]
              exact Or.inr ⟨_, rfl, Or.inl ⟨_, i, rfl, hi, hf, c2, rfl⟩⟩
            · rw [if_neg c2]
              refine Or.inl ⟨_, rfl, by rw [cntN_step hf]; exact nI_1 _, nI_1 _, fun c hc hfc => ?_⟩
              by_cases e : c = i
              · subst e; exact c2
              · exact z3 c (by omega) hfc)
        (by
          intro s hs
          obtain ⟨s1, s2, s3, s4, s5, s6, s7, s8, s9⟩ := s
          obtain ⟨z1, z2, z3⟩ := hs
          dsimp only at z1 z2 z3
          subst z1; subst z2
          refine ⟨.inr (s8, s9, s3, s4, s5, s6, s7), ?_, Or.inr ⟨_, rfl, z3⟩⟩
          show BX1_fitAt_39 p hour (nI n) (nI m) hat hgive ch hby hof n pw pt 0 (-1) _ (nI (codN t g m)) s3 s4 s5 s6 s7 s8 s9 = _
          unfold BX1_fitAt_39
          rw [M_choices1 hI hX', Option.bind_some, if_pos (nI_le (Nat.le_refl _) (by omega))])
      rw [f, Option.bind_some]
      rcases q1 with ⟨z, c', rfl, w1, w2, w3, w4⟩ | ⟨z, rfl, w1⟩
      · dsimp only
        rw [w4, M_earliest8 hm hjm j3 j4 hX', Option.bind_some, M_choice1 hjm (by omega) hI hX', Option.bind_some, nI_add]
        exact ⟨_, _, _, rfl, fun _ => ⟨j, hjm, rfl, Or.inl ⟨c', w1, w2, w3, rfl, rfl⟩⟩, fun z => absurd c z⟩
      · dsimp only
        exact ⟨_, _, _, rfl, fun _ => ⟨j, hjm, rfl, Or.inr ⟨w1, rfl, rfl⟩⟩, fun z => absurd c z⟩
    · have : (decide (0 ≤ k) && decide (k < nI m)) = false := by
        by_cases c1 : 0 ≤ k
        · have : ¬ k < nI m := fun z => c ⟨c1, z⟩
          simp [this]
        · simp [c1]
      rw [this, iff_]
      exact ⟨_, _, _, rfl, fun z => absurd z c, fun _ => ⟨rfl, rfl⟩⟩
  obtain ⟨a, tr, rX, e1, e2, e3⟩ := nope
  refine ⟨a, tr, rX, ?_⟩
  rw [e1]
  unfold MX7_fitAt MX7_refused MX7_good
  by_cases cp : p < 0
  · rw [if_pos cp]
    have : a = -1 ∧ tr = 1 := by
      by_cases c : 0 ≤ k ∧ k < nI m
      · obtain ⟨kp, hkp, rfl, h⟩ := e2 c
        rcases h with ⟨c', w1, w2, w3, -⟩ | ⟨-, h1, h2⟩
        · have := cntN_le (P := fitB n b o t g m ch pt) c'
          rw [← w3] at cp
          exact absurd cp (nI_pos (by omega))
        · exact ⟨h1, h2⟩
      · exact e3 c
    rw [this.1, this.2]
    exact ⟨_, rfl, rfl, by decide⟩
  · rw [if_neg cp]
    by_cases ck : k < 0
    · rw [if_pos ck]
      obtain ⟨h1, h2⟩ := e3 (fun z => absurd ck (Int32.not_lt.mpr z.1))
      rw [h1, h2]
      exact ⟨_, rfl, rfl, by decide⟩
    · rw [if_neg ck]
      by_cases ck2 : k < nI m
      · rw [if_pos ck2]
        obtain ⟨kp, hkp, rfl, h⟩ := e2 ⟨Int32.not_lt.mp ck, ck2⟩
        obtain ⟨r, e, r1, r2, -⟩ := M_fitting7 hn hI hM' hr hw p (kp := kp) (by omega) fh hour pI hI' x chas hr'
        rw [e, Option.bind_some]
        rcases r2 with ⟨w1, w2⟩ | ⟨w1, c1, w2, w3, w4, w5⟩
        · rw [w1, iff_]
          rcases h with ⟨c', v1, v2, v3, -⟩ | ⟨-, h1, h2⟩
          · exact absurd v3 (w2 c' v1 v2)
          · rw [h1, h2]; exact ⟨_, rfl, rfl, by decide⟩
        · rw [w1, ift]
          rcases h with ⟨c', v1, v2, v3, v4, v5⟩ | ⟨h0, -, -⟩
          · have l1 := cntN_le (P := fitB n b o t g m ch pt) c'
            have l2 := cntN_le (P := fitB n b o t g m ch pt) c1
            have hcc : c' = c1 := cntN_inj v2 w3 ((nI_eq (by omega) (by omega)).mp (v3.trans w4.symm))
            rw [v4, v5, hcc, w5 hkp]
            exact ⟨_, rfl, rfl, by decide⟩
          · exact absurd w4 (h0 c1 w2 w3)
      · rw [if_neg ck2]
        obtain ⟨h1, h2⟩ := e3 (fun z => ck2 z.2)
        rw [h1, h2]
        exact ⟨_, rfl, rfl, by decide⟩
theorem op_heirBy {n m : Nat} (h0 : 0 < n) (hn : n ≤ 6) {b o t g : Nat → Nat} {hby hof hat hgive by_ of_ give asked ch pt went : AI} (hI : heardI n m b o t g) (hX' : heardX m b o t g hby hof hat hgive) (hM' : heardM m b o t g by_ of_ give asked) (hr : hrel0 ch asked) (hw : ∀ j, j < n → went j = pt j) (p q : Int32) (hour tl th tc tn ts fn fh : Int32) (thas thours pw x chas hr' pI hI' : AI) :
    ∃ a tr rX rM, MX1_heirBy p q hour (nI n) (nI m) hat hgive tl th tc tn ts ch hby hof thas thours n pw pt = some (a, tr, -1, rX) ∧ MX7_heirBy p q fn fh hour (nI n) (nI m) x hr' pI hI' chas went asked by_ of_ give = some (a, 0, tr, -1, rM) ∧ ¬ tr = 4 := by
  have hC := codN_343 hI
  unfold MX1_heirBy MX7_heirBy MX1_anew MX7_good MX1_no MX7_refused
  rw [Option.bind_some]
  dsimp only
  rw [M_areTwo1 h0 hn, M_areTwo7]
  simp only [Option.bind_some]
  by_cases c : (isP n p && (isP n q && decide (p ≠ q))) = false
  · rw [if_pos (b2i_f c), if_pos (b2i_f c)]
    exact ⟨_, _, _, _, rfl, rfl, by decide⟩
  · have ct : (isP n p && (isP n q && decide (p ≠ q))) = true := (by cases hb : (isP n p && (isP n q && decide (p ≠ q))); exact absurd hb c; rfl)
    rw [if_neg (b2i_t ct), if_neg (b2i_t ct)]
    have c' : isP n p = true ∧ isP n q = true := by
      cases h1 : isP n p <;> cases h2 : isP n q <;> simp [h1, h2] at c ⊢
    obtain ⟨i0, hi0, rfl⟩ := isP_of hn c'.1
    obtain ⟨j0, hj0, rfl⟩ := isP_of hn c'.2
    obtain ⟨r, e, -, -, -, r4⟩ := M_fitting7 hn hI hM' hr hw (-1) (kp := 0) (by decide) fh hour pI hI' x chas hr'
    obtain ⟨z, f, q1⟩ := loop_FU (f := fun s_ : Int32 × Int32 × Int32 × Int32 × Int32 × Int32 × Int32 × AI × AI => BX1_heirBy_24 (nI i0) (nI j0) hour (nI n) (nI m) hat hgive ch hby hof n pw pt 0 (-1) s_.1 s_.2.1 s_.2.2.1 s_.2.2.2.1 s_.2.2.2.2.1 s_.2.2.2.2.2.1 s_.2.2.2.2.2.2.1 s_.2.2.2.2.2.2.2.1 s_.2.2.2.2.2.2.2.2)
      (fun i s => s.1 = nI (cntN (fun c => fitB n b o t g m ch pt c && decide (hrN n b o t g m ch c j0 = nI i0)) i) ∧ s.2.1 = nI i) (fun r => r.1 = nI (cntN (fun c => fitB n b o t g m ch pt c && decide (hrN n b o t g m ch c j0 = nI i0)) (codN t g m))) (codN t g m) (by omega) ((0 : Int32), (0 : Int32), tl, th, tc, tn, ts, thas, thours) ⟨rfl, rfl⟩
      (by
        intro i s hi hs
        obtain ⟨s1, s2, s3, s4, s5, s6, s7, s8, s9⟩ := s
        obtain ⟨z1, z2⟩ := hs
        dsimp only at z1 z2
        subst z1; subst z2
        refine Or.inl ?_
        obtain ⟨d, d1, d2, d3, d4⟩ := M_doesFit1 hn (code := i) (by omega) hI hX' hour s8 s9 ch pw pt
        show ∃ s', BX1_heirBy_24 (nI i0) (nI j0) hour (nI n) (nI m) hat hgive ch hby hof n pw pt 0 (-1) (nI (cntN (fun c => fitB n b o t g m ch pt c && decide (hrN n b o t g m ch c j0 = nI i0)) i)) (nI i) s3 s4 s5 s6 s7 s8 s9 = some (.inl s') ∧ _
        unfold BX1_heirBy_24
        rw [M_choices1 hI hX', Option.bind_some, if_neg (nI_ge hi (by omega)), d1, Option.bind_some, d2]
        cases hf : fitB n b o t g m ch pt i
        · rw [iff_]
          exact ⟨_, rfl, by rw [cnt_no (Q := fun c => hrN n b o t g m ch c j0 = nI i0) hf]; exact Int32.add_zero _, nI_1 _⟩
        · have hH : heirF (nI (2 ^ n - 1)) (hX d.2.2.2.2.2.2.2) j0 n = hrN n b o t g m ch i j0 := heirX_congr hn (by omega) d4
          rw [ift, d3, M_heir4 hn (by omega), Option.bind_some, hH]
          by_cases c2 : hrN n b o t g m ch i j0 = nI i0
          · rw [if_pos c2]
            exact ⟨_, rfl, by rw [cnt_and (Q := fun c => hrN n b o t g m ch c j0 = nI i0) hf, if_pos c2], nI_1 _⟩
          · rw [if_neg c2]
            exact ⟨_, rfl, by rw [cnt_and (Q := fun c => hrN n b o t g m ch c j0 = nI i0) hf, if_neg c2]; exact Int32.add_zero _, nI_1 _⟩)
      (by
        intro s hs
        obtain ⟨s1, s2, s3, s4, s5, s6, s7, s8, s9⟩ := s
        obtain ⟨z1, z2⟩ := hs
        dsimp only at z1 z2
        subst z1; subst z2
        refine ⟨(nI (cntN (fun c => fitB n b o t g m ch pt c && decide (hrN n b o t g m ch c j0 = nI i0)) (codN t g m)), s8, s9, s3, s4, s5, s6, s7), ?_, rfl⟩
        show BX1_heirBy_24 (nI i0) (nI j0) hour (nI n) (nI m) hat hgive ch hby hof n pw pt 0 (-1) _ (nI (codN t g m)) s3 s4 s5 s6 s7 s8 s9 = _
        unfold BX1_heirBy_24
        rw [M_choices1 hI hX', Option.bind_some, if_pos (nI_le (Nat.le_refl _) (by omega))])
    rw [f, Option.bind_some, show MX7_fitting (-1) 0 fh hour (nI n) (nI m) asked by_ of_ give pI hI' x chas hr' went = some r from e, Option.bind_some, idx6, gi_nI (by omega) (by decide), nIc (by omega), r4 i0 (by omega) j0 hj0, q1]
    exact ⟨_, _, _, _, rfl, rfl, by decide⟩
/-! look, lookLeaves -/
def mxS (f : Nat → Nat) (a h : Nat) : Nat := if a < f h then f h else a
def mxN (f : Nat → Nat) : Nat := foldF (mxS f) 0 7
theorem mxF_le {f : Nat → Nat} {B : Nat} (h : ∀ v, v < 7 → f v ≤ B) : ∀ i, i ≤ 7 → foldF (mxS f) 0 i ≤ B := by
  intro i
  induction i with
  | zero => intro _; exact Nat.zero_le _
  | succ i ih =>
    intro hi
    show (if foldF (mxS f) 0 i < f i then f i else foldF (mxS f) 0 i) ≤ B
    split
    · exact h i (by omega)
    · exact ih (by omega)
theorem mxF_ge {f : Nat → Nat} : ∀ i v, v < i → f v ≤ foldF (mxS f) 0 i := by
  intro i
  induction i with
  | zero => intro v h; omega
  | succ i ih =>
    intro v hv
    show f v ≤ (if foldF (mxS f) 0 i < f i then f i else foldF (mxS f) 0 i)
    by_cases c : v = i
    · subst c; split <;> omega
    · have := ih v (by omega)
      split <;> omega
theorem maxI_nI {a b : Nat} (ha : a < 2 ^ 31) (hb : b < 2 ^ 31) : maxI (nI a) (nI b) = nI (if a < b then b else a) := by
  unfold maxI
  by_cases c : a < b
  · rw [if_pos (nI_lt c hb), if_pos c]
  · rw [if_neg (nI_nlt (by omega) (by omega)), if_neg c]
/-- how often each choice of the k-th hour fits -/
def oftN (n : Nat) (b o t g : Nat → Nat) (m : Nat) (ch pt : AI) (k v : Nat) : Nat := cntN (fun c => fitB n b o t g m ch pt c && decide (chN t g m c k = v)) (codN t g m)
def mostN (n : Nat) (b o t g : Nat → Nat) (m : Nat) (ch pt : AI) (k : Nat) : Nat := mxN (oftN n b o t g m ch pt k)
theorem mostN_le {n m : Nat} {b o t g : Nat → Nat} {ch pt : AI} (hI : heardI n m b o t g) (k : Nat) : mostN n b o t g m ch pt k ≤ 343 := mxF_le (fun v _ => Nat.le_trans (cntN_le _) (codN_343 hI)) 7 (Nat.le_refl 7)
theorem mostN_0 {n m : Nat} {b o t g : Nat → Nat} {ch pt : AI} (h : cntN (fitB n b o t g m ch pt) (codN t g m) = 0) (k : Nat) : mostN n b o t g m ch pt k = 0 := by
  have := mxF_le (f := oftN n b o t g m ch pt k) (B := 0) (fun v _ => by
    have := cntN_imp (P := fun c => fitB n b o t g m ch pt c && decide (chN t g m c k = v)) (Q := fitB n b o t g m ch pt) (codN t g m) (fun c _ hc => by
      cases hf : fitB n b o t g m ch pt c
      · simp [hf] at hc
      · rfl)
    unfold oftN
    omega) 7 (Nat.le_refl 7)
  unfold mostN mxN
  omega
theorem mostN_pos {n m k : Nat} {b o t g : Nat → Nat} {ch pt : AI} (hI : heardI n m b o t g) (hk : k < m) (h : 0 < cntN (fitB n b o t g m ch pt) (codN t g m)) : 0 < mostN n b o t g m ch pt k := by
  obtain ⟨c, h1, h2⟩ := cntN_ex _ h
  obtain ⟨-, -, j3, j4⟩ := hI.2.1 k hk
  have hv := chN_lt (t := t) (g := g) (m := m) (code := c) j3 j4
  have h3 : 0 < oftN n b o t g m ch pt k (chN t g m c k) := cntN_of h1 (by show (fitB n b o t g m ch pt c && decide (chN t g m c k = chN t g m c k)) = true; rw [h2]; simp)
  exact Nat.lt_of_lt_of_le h3 (mxF_ge 7 _ hv)
theorem M_leaves1 {n m k : Nat} (hn : n ≤ 6) (hk : k < m) {b o t g : Nat → Nat} {hby hof hat hgive ch pt : AI} (hI : heardI n m b o t g) (hX' : heardX m b o t g hby hof hat hgive) (hour tl th tc tn ts : Int32) (often thas thours pw : AI) :
    ∃ r, MX1_leaves (nI k) often hour (nI n) (nI m) hat hgive tl th tc tn ts ch hby hof thas thours n pw pt = some r ∧ r.1 = nI (mostN n b o t g m ch pt k) := by
  have hC := codN_343 hI
  obtain ⟨-, -, j3, j4⟩ := hI.2.1 k hk
  obtain ⟨p1, e1, a1, -⟩ := loop_copy (f := fun s_ : Int32 × AI => BX1_leaves_2 s_.1 s_.2) 7 0 (fun _ => 0) (by decide) often (by
    intro i a hi
    show BX1_leaves_2 (nI i) a = _
    unfold BX1_leaves_2
    rw [if_neg (show ¬ (6 : Int32) < nI i from nI_nlt (b := i) (a := 6) (by omega) (by decide)), nI_1, gi_nI hi (by decide), nIc (by omega), Nat.zero_add]) (by
    intro a
    show BX1_leaves_2 (nI 7) a = _
    unfold BX1_leaves_2
    rw [if_pos (by decide)])
  obtain ⟨q, f, q1⟩ := loop_FU (f := fun s_ : Int32 × AI × Int32 × Int32 × Int32 × Int32 × Int32 × AI × AI => BX1_leaves_23 (nI k) hour (nI n) (nI m) hat hgive ch hby hof n pw pt s_.1 s_.2.1 s_.2.2.1 s_.2.2.2.1 s_.2.2.2.2.1 s_.2.2.2.2.2.1 s_.2.2.2.2.2.2.1 s_.2.2.2.2.2.2.2.1 s_.2.2.2.2.2.2.2.2)
    (fun i s => s.1 = nI i ∧ ∀ v, v < 7 → s.2.1 v = nI (cntN (fun c => fitB n b o t g m ch pt c && decide (chN t g m c k = v)) i)) (fun r => ∀ v, v < 7 → r.1 v = nI (oftN n b o t g m ch pt k v)) (codN t g m) (by omega) ((0 : Int32), p1, tl, th, tc, tn, ts, thas, thours) ⟨rfl, fun v hv => by have := a1 v hv; rw [Nat.zero_add] at this; exact this⟩
    (by
      intro i s hi hs
      obtain ⟨s1, s2, s3, s4, s5, s6, s7, s8, s9⟩ := s
      obtain ⟨z1, z2⟩ := hs
      dsimp only at z1 z2
      subst z1
      refine Or.inl ?_
      obtain ⟨d, d1, d2, -⟩ := M_doesFit1 hn (code := i) (by omega) hI hX' hour s8 s9 ch pw pt
      have hv := chN_lt (t := t) (g := g) (m := m) (code := i) j3 j4
      show ∃ s', BX1_leaves_23 (nI k) hour (nI n) (nI m) hat hgive ch hby hof n pw pt (nI i) s2 s3 s4 s5 s6 s7 s8 s9 = some (.inl s') ∧ _
      unfold BX1_leaves_23
      rw [M_choices1 hI hX', Option.bind_some, if_neg (nI_ge hi (by omega)), d1, Option.bind_some, d2]
      cases hf : fitB n b o t g m ch pt i
      · rw [iff_]
        exact ⟨_, rfl, nI_1 _, fun v hv => by rw [cnt_no (Q := fun c => chN t g m c k = v) hf]; exact z2 v hv⟩
      · rw [ift, M_choice1 hk (by omega) hI hX', Option.bind_some, gi_nI hv (by decide), gi_nI hv (by decide), nIc (by omega)]
        refine ⟨_, rfl, nI_1 _, fun v hv' => ?_⟩
        show upd s2 _ _ v = _
        rw [cnt_and (Q := fun c => chN t g m c k = v) hf]
        by_cases c : chN t g m i k = v
        · subst c; rw [pk_us, if_pos rfl, z2 _ hv]
        · rw [pk_un (Ne.symm c), if_neg c, z2 v hv'])
    (by
      intro s hs
      obtain ⟨s1, s2, s3, s4, s5, s6, s7, s8, s9⟩ := s
      obtain ⟨z1, z2⟩ := hs
      dsimp only at z1 z2
      subst z1
      refine ⟨(s2, s8, s9, s3, s4, s5, s6, s7), ?_, z2⟩
      show BX1_leaves_23 (nI k) hour (nI n) (nI m) hat hgive ch hby hof n pw pt (nI (codN t g m)) s2 s3 s4 s5 s6 s7 s8 s9 = _
      unfold BX1_leaves_23
      rw [M_choices1 hI hX', Option.bind_some, if_pos (nI_le (Nat.le_refl _) (by omega))])
  have hof7 : ∀ v, oftN n b o t g m ch pt k v ≤ 343 := fun v => Nat.le_trans (cntN_le _) hC
  have hfl : ∀ i, i ≤ 7 → foldF (mxS (oftN n b o t g m ch pt k)) 0 i ≤ 343 := mxF_le (fun v _ => hof7 v)
  obtain ⟨w, e3, hw⟩ := loop_FU (f := fun s_ : Int32 × Int32 => BX1_leaves_64 q.1 q.2.2.2.1 q.2.2.2.2.1 q.2.2.2.2.2.1 q.2.2.2.2.2.2.1 q.2.2.2.2.2.2.2 q.2.1 q.2.2.1 s_.1 s_.2) (fun i s => s = (nI (foldF (mxS (oftN n b o t g m ch pt k)) 0 i), nI i)) (fun r => r = nI (mostN n b o t g m ch pt k)) 7 (by decide) ((0 : Int32), (0 : Int32)) rfl
    (by
      intro i s hi hs
      subst hs
      refine Or.inl ⟨_, ?_, rfl⟩
      show BX1_leaves_64 q.1 q.2.2.2.1 q.2.2.2.2.1 q.2.2.2.2.2.1 q.2.2.2.2.2.2.1 q.2.2.2.2.2.2.2 q.2.1 q.2.2.1 (nI (foldF (mxS (oftN n b o t g m ch pt k)) 0 i)) (nI i) = _
      unfold BX1_leaves_64
      have := hof7 i
      have := hfl i (by omega)
      rw [if_neg (show ¬ (6 : Int32) < nI i from nI_nlt (b := i) (a := 6) (by omega) (by decide)), nI_1, gi_nI hi (by decide), nIc (by omega), q1 i hi, maxI_nI (by omega) (by omega)]
      rfl)
    (by
      intro s hs
      subst hs
      exact ⟨_, by show BX1_leaves_64 q.1 q.2.2.2.1 q.2.2.2.2.1 q.2.2.2.2.2.1 q.2.2.2.2.2.2.1 q.2.2.2.2.2.2.2 q.2.1 q.2.2.1 _ (nI 7) = _; unfold BX1_leaves_64; rw [if_pos (by decide)]; rfl, rfl⟩)
  refine ⟨(w, q.1, q.2.2.2.1, q.2.2.2.2.1, q.2.2.2.2.2.1, q.2.2.2.2.2.2.1, q.2.2.2.2.2.2.2, q.2.1, q.2.2.1), ?_, hw⟩
  · unfold MX1_leaves
    rw [e1, Option.bind_some, f, Option.bind_some, e3, Option.bind_some]
/-- the heard ask whose hour tells most -/
def lkS (f : Nat → Nat) (a : Int32 × Int32) (k : Nat) : Int32 × Int32 := if a.1 = -2 then (nI k, nI (f k)) else if nI (f k) < a.2 then (nI k, nI (f k)) else a
def lkF (f : Nat → Nat) (m : Nat) : Int32 × Int32 := foldF (lkS f) ((-2 : Int32), (-2 : Int32)) m
theorem lkF_in {f : Nat → Nat} : ∀ m, (m = 0 ∧ lkF f m = (-2, -2)) ∨ ∃ j, j < m ∧ lkF f m = (nI j, nI (f j)) := by
  intro m
  induction m with
  | zero => exact Or.inl ⟨rfl, rfl⟩
  | succ m ih =>
    refine Or.inr ?_
    show ∃ j, j < m + 1 ∧ lkS f (lkF f m) m = _
    unfold lkS
    by_cases c : (lkF f m).1 = -2
    · rw [if_pos c]; exact ⟨m, by omega, rfl⟩
    · rw [if_neg c]
      by_cases c2 : nI (f m) < (lkF f m).2
      · rw [if_pos c2]; exact ⟨m, by omega, rfl⟩
      · rw [if_neg c2]
        rcases ih with ⟨h1, h2⟩ | ⟨j, h1, h2⟩
        · rw [h2] at c; exact absurd rfl c
        · exact ⟨j, by omega, h2⟩
def lkX (a : Int32 × Int32) : Int32 × Int32 := if a.1 = -2 then (-2, 1000000) else a
theorem M_lookOf1 {n m : Nat} (hn : n ≤ 6) {b o t g : Nat → Nat} {hby hof hat hgive ch pt : AI} (hI : heardI n m b o t g) (hX' : heardX m b o t g hby hof hat hgive) (hour tl th tc tn ts : Int32) (often thas thours pw : AI) :
    ∃ r, MX1_lookOf hour (nI n) (nI m) tl th tc tn ts often ch hby hof hat hgive thas thours n pw pt = some r ∧ r.1 = if cntN (fitB n b o t g m ch pt) (codN t g m) = 0 then -2 else (lkF (mostN n b o t g m ch pt) m).1 := by
  have hm := hI.1
  obtain ⟨q, f, q1⟩ := loop_FU (f := fun s_ : Int32 × Int32 × Int32 × Int32 × Int32 × Int32 × Int32 × Int32 × AI × AI × AI => BX1_lookOf_8 hour (nI n) (nI m) ch hby hof hat hgive n pw pt s_.1 s_.2.1 s_.2.2.1 s_.2.2.2.1 s_.2.2.2.2.1 s_.2.2.2.2.2.1 s_.2.2.2.2.2.2.1 s_.2.2.2.2.2.2.2.1 s_.2.2.2.2.2.2.2.2.1 s_.2.2.2.2.2.2.2.2.2.1 s_.2.2.2.2.2.2.2.2.2.2)
    (fun i s => s.2.2.1 = nI i ∧ ((cntN (fitB n b o t g m ch pt) (codN t g m) = 0 ∧ s.1 = -2) ∨ (0 < cntN (fitB n b o t g m ch pt) (codN t g m) ∧ (s.1, s.2.1) = lkX (lkF (mostN n b o t g m ch pt) i)))) (fun r => r.1 = if cntN (fitB n b o t g m ch pt) (codN t g m) = 0 then -2 else (lkF (mostN n b o t g m ch pt) m).1) m (by omega) ((-2 : Int32), (1000000 : Int32), (0 : Int32), tl, th, tc, tn, ts, often, thas, thours)
    ⟨rfl, by
      by_cases c : cntN (fitB n b o t g m ch pt) (codN t g m) = 0
      · exact Or.inl ⟨c, rfl⟩
      · exact Or.inr ⟨by omega, rfl⟩⟩
    (by
      intro i s hi hs
      obtain ⟨s1, s2, s3, s4, s5, s6, s7, s8, s9, s10, s11⟩ := s
      obtain ⟨z1, z2⟩ := hs
      dsimp only at z1 z2
      subst z1
      refine Or.inl ?_
      obtain ⟨d, d1, d2⟩ := M_leaves1 (pt := pt) (ch := ch) hn hi hI hX' hour s4 s5 s6 s7 s8 s9 s10 s11 pw
      have hle := mostN_le (ch := ch) (pt := pt) hI i
      show ∃ s', BX1_lookOf_8 hour (nI n) (nI m) ch hby hof hat hgive n pw pt s1 s2 (nI i) s4 s5 s6 s7 s8 s9 s10 s11 = some (.inl s') ∧ _
      unfold BX1_lookOf_8
      rw [if_neg (nI_ge hi (by omega)), nI_1, d1, Option.bind_some, d2]
      rcases z2 with ⟨w1, w2⟩ | ⟨w1, w2⟩
      · rw [mostN_0 w1, if_pos (show nI 0 = 0 from rfl)]
        exact ⟨_, rfl, rfl, Or.inl ⟨w1, w2⟩⟩
      · have hp := mostN_pos (ch := ch) (pt := pt) hI hi w1
        rw [if_neg (nzI hp (by omega))]
        have e1 : s1 = (lkX (lkF (mostN n b o t g m ch pt) i)).1 := congrArg Prod.fst w2
        have e2 : s2 = (lkX (lkF (mostN n b o t g m ch pt) i)).2 := congrArg Prod.snd w2
        have eS : lkF (mostN n b o t g m ch pt) (i + 1) = lkS (mostN n b o t g m ch pt) (lkF (mostN n b o t g m ch pt) i) i := rfl
        rcases lkF_in (f := mostN n b o t g m ch pt) i with ⟨h1, h2⟩ | ⟨j, h1, h2⟩
        · rw [h2] at e1 e2 eS
          have e2' : s2 = 1000000 := e2
          rw [e2', if_pos (show nI (mostN n b o t g m ch pt i) < (1000000 : Int32) from nI_lt (b := 1000000) (by omega) (by decide))]
          refine ⟨_, rfl, rfl, Or.inr ⟨w1, ?_⟩⟩
          rw [eS]
          unfold lkS
          rw [if_pos rfl]
          unfold lkX
          rw [if_neg (nI_ne_m2 (by omega))]
        · have hjle := mostN_le (ch := ch) (pt := pt) hI j
          rw [h2] at e1 e2 eS
          have hx : lkX (nI j, nI (mostN n b o t g m ch pt j)) = (nI j, nI (mostN n b o t g m ch pt j)) := by unfold lkX; rw [if_neg (nI_ne_m2 (by omega))]
          rw [hx] at e1 e2
          have e1 : s1 = nI j := e1
          have e2 : s2 = nI (mostN n b o t g m ch pt j) := e2
          subst e1; subst e2
          unfold lkS at eS
          rw [if_neg (show ¬ nI j = -2 from nI_ne_m2 (by omega))] at eS
          by_cases c2 : nI (mostN n b o t g m ch pt i) < nI (mostN n b o t g m ch pt j)
          · rw [if_pos c2]
            rw [if_pos c2] at eS
            refine ⟨_, rfl, rfl, Or.inr ⟨w1, ?_⟩⟩
            rw [eS]
            unfold lkX
            rw [if_neg (nI_ne_m2 (by omega))]
          · rw [if_neg c2]
            rw [if_neg c2] at eS
            refine ⟨_, rfl, rfl, Or.inr ⟨w1, ?_⟩⟩
            rw [eS, hx])
    (by
      intro s hs
      obtain ⟨s1, s2, s3, s4, s5, s6, s7, s8, s9, s10, s11⟩ := s
      obtain ⟨z1, z2⟩ := hs
      dsimp only at z1 z2
      subst z1
      refine ⟨(s1, s9, s10, s11, s4, s5, s6, s7, s8), ?_, ?_⟩
      · show BX1_lookOf_8 hour (nI n) (nI m) ch hby hof hat hgive n pw pt s1 s2 (nI m) s4 s5 s6 s7 s8 s9 s10 s11 = _
        unfold BX1_lookOf_8
        rw [if_pos (nI_le (Nat.le_refl m) (by omega))]
      · rcases z2 with ⟨w1, w2⟩ | ⟨w1, w2⟩
        · rw [if_pos w1]; exact w2
        · rw [if_neg (by omega)]
          have e1 : s1 = (lkX (lkF (mostN n b o t g m ch pt) m)).1 := congrArg Prod.fst w2
          show s1 = _
          rw [e1]
          rcases lkF_in (f := mostN n b o t g m ch pt) m with ⟨h1, h2⟩ | ⟨j, h1, h2⟩
          · rw [h2]; rfl
          · rw [h2]; unfold lkX; rw [if_neg (nI_ne_m2 (by omega))])
  refine ⟨(q.1, q.2.2.2.2.1, q.2.2.2.2.2.1, q.2.2.2.2.2.2.1, q.2.2.2.2.2.2.2.1, q.2.2.2.2.2.2.2.2, q.2.1, q.2.2.1, q.2.2.2.1), ?_, q1⟩
  unfold MX1_lookOf
  rw [f, Option.bind_some]
theorem M_looks7 {n m : Nat} (hn : n ≤ 6) {b o t g : Nat → Nat} {by_ of_ give asked ch pt went : AI} (hI : heardI n m b o t g) (hM' : heardM m b o t g by_ of_ give asked) (hr : hrel0 ch asked) (hw : ∀ j, j < n → went j = pt j) (fh hour : Int32) (pI hI' x chas hr' : AI) :
    ∃ r, MX7_looks fh hour (nI n) (nI m) x hr' pI hI' chas went asked by_ of_ give = some r ∧ (r.1, r.2.2.2.1) = if cntN (fitB n b o t g m ch pt) (codN t g m) = 0 then (-2, -2) else lkF (mostN n b o t g m ch pt) m := by
  have hm := hI.1
  have hC := codN_343 hI
  obtain ⟨r, e, r1, -, r3, -⟩ := M_fitting7 hn hI hM' hr hw (-1) (kp := 0) (by decide) fh hour pI hI' x chas hr'
  have hT := cntN_le (P := fitB n b o t g m ch pt) (codN t g m)
  obtain ⟨q, f, q1⟩ := loop_FU (f := fun s_ : Int32 × Int32 × Int32 => BX7_looks_18 (nI m) r.2.1 r.2.2.1 r.2.2.2.2.2.1 r.2.2.2.2.2.2 r.2.2.2.1 r.2.2.2.2.1 s_.1 s_.2.1 s_.2.2)
    (fun i s => s.2.1 = nI i ∧ ((cntN (fitB n b o t g m ch pt) (codN t g m) = 0 ∧ i = 0 ∧ (s.1, s.2.2) = (-2, -2)) ∨ (0 < cntN (fitB n b o t g m ch pt) (codN t g m) ∧ (s.1, s.2.2) = lkF (mostN n b o t g m ch pt) i))) (fun r => r = if cntN (fitB n b o t g m ch pt) (codN t g m) = 0 then (-2, -2) else lkF (mostN n b o t g m ch pt) m) m (by omega) ((-2 : Int32), (0 : Int32), (-2 : Int32))
    ⟨rfl, by
      by_cases c : cntN (fitB n b o t g m ch pt) (codN t g m) = 0
      · exact Or.inl ⟨c, rfl, rfl⟩
      · exact Or.inr ⟨by omega, rfl⟩⟩
    (by
      intro i s hi hs
      obtain ⟨s1, s2, s3⟩ := s
      obtain ⟨z1, z2⟩ := hs
      dsimp only at z1 z2
      subst z1
      show (∃ s', BX7_looks_18 (nI m) r.2.1 r.2.2.1 r.2.2.2.2.2.1 r.2.2.2.2.2.2 r.2.2.2.1 r.2.2.2.2.1 s1 (nI i) s3 = some (.inl s') ∧ _) ∨ (∃ w, BX7_looks_18 (nI m) r.2.1 r.2.2.1 r.2.2.2.2.2.1 r.2.2.2.2.2.2 r.2.2.2.1 r.2.2.2.2.1 s1 (nI i) s3 = some (.inr w) ∧ _)
      unfold BX7_looks_18
      rw [if_neg (nI_ge hi (by omega)), nI_1, r1]
      rcases z2 with ⟨w1, -, w2⟩ | ⟨w1, w2⟩
      · rw [w1, if_pos (show nI 0 ≤ 0 by decide)]
        exact Or.inr ⟨_, rfl, by rw [if_pos rfl]; exact w2⟩
      · rw [if_neg (nI_nle w1 (by omega))]
        have hof7 : ∀ v, oftN n b o t g m ch pt i v ≤ 343 := fun v => Nat.le_trans (cntN_le _) hC
        have hfl : ∀ j, j ≤ 7 → foldF (mxS (oftN n b o t g m ch pt i)) 0 j ≤ 343 := mxF_le (fun v _ => hof7 v)
        obtain ⟨y, e3, hy⟩ := loop_FU (f := fun s_ : Int32 × Int32 => BX7_looks_41 s1 (nI i) (nI (cntN (fitB n b o t g m ch pt) (codN t g m))) r.2.2.1 s3 r.2.2.2.2.2.1 r.2.2.2.2.2.2 r.2.2.2.1 r.2.2.2.2.1 s_.1 s_.2) (fun v s => s = (nI (foldF (mxS (oftN n b o t g m ch pt i)) 0 v), nI v)) (fun r => r = nI (mostN n b o t g m ch pt i)) 7 (by decide) ((0 : Int32), (0 : Int32)) rfl
          (by
            intro v s hv hs
            subst hs
            refine Or.inl ⟨_, ?_, rfl⟩
            show BX7_looks_41 s1 (nI i) (nI (cntN (fitB n b o t g m ch pt) (codN t g m))) r.2.2.1 s3 r.2.2.2.2.2.1 r.2.2.2.2.2.2 r.2.2.2.1 r.2.2.2.2.1 (nI (foldF (mxS (oftN n b o t g m ch pt i)) 0 v)) (nI v) = _
            unfold BX7_looks_41
            simp only [lt_]
            have h1 := hof7 v
            have h2 := hfl v (by omega)
            rw [if_neg (show ¬ (7 : Int32) ≤ nI v from nI_ge (b := 7) hv (by decide)), nI_1, show (7 : Int32) = nI 7 from rfl, pk_mul, nI_add, gi_nI (by omega) (by decide), nIc (by omega), r3 i hi v hv]
            show (if nI (oftN n b o t g m ch pt i v) ≤ _ then _ else _) = some (Sum.inl (nI (mxS (oftN n b o t g m ch pt i) (foldF (mxS (oftN n b o t g m ch pt i)) 0 v) v), nI (v + 1)))
            generalize foldF (mxS (oftN n b o t g m ch pt i)) 0 v = A at h2 ⊢
            unfold mxS
            by_cases c : A < oftN n b o t g m ch pt i v
            · rw [if_neg (nI_ge c (by omega)), gi_nI (by omega) (by decide), if_pos c]; rfl
            · rw [if_pos (nI_le (by omega) (by omega)), if_neg c])
          (by
            intro s hs
            subst hs
            exact ⟨_, by show BX7_looks_41 s1 (nI i) (nI (cntN (fitB n b o t g m ch pt) (codN t g m))) r.2.2.1 s3 r.2.2.2.2.2.1 r.2.2.2.2.2.2 r.2.2.2.1 r.2.2.2.2.1 _ (nI 7) = _; unfold BX7_looks_41; rw [if_pos (by decide)]; rfl, rfl⟩)
        rw [e3, Option.bind_some, hy]
        have e1 : s1 = (lkF (mostN n b o t g m ch pt) i).1 := congrArg Prod.fst w2
        have e2 : s3 = (lkF (mostN n b o t g m ch pt) i).2 := congrArg Prod.snd w2
        have eS : lkF (mostN n b o t g m ch pt) (i + 1) = lkS (mostN n b o t g m ch pt) (lkF (mostN n b o t g m ch pt) i) i := rfl
        unfold lkS at eS
        rw [← e1, ← e2, ← w2] at eS
        refine Or.inl ?_
        by_cases c1 : s1 = -2
        · rw [if_pos c1]
          rw [if_pos c1] at eS
          exact ⟨_, rfl, rfl, Or.inr ⟨w1, eS.symm⟩⟩
        · rw [if_neg c1]
          rw [if_neg c1] at eS
          by_cases c2 : nI (mostN n b o t g m ch pt i) < s3
          · rw [if_pos c2]
            rw [if_pos c2] at eS
            exact ⟨_, rfl, rfl, Or.inr ⟨w1, eS.symm⟩⟩
          · rw [if_neg c2]
            rw [if_neg c2] at eS
            exact ⟨_, rfl, rfl, Or.inr ⟨w1, eS.symm⟩⟩)
    (by
      intro s hs
      obtain ⟨s1, s2, s3⟩ := s
      obtain ⟨z1, z2⟩ := hs
      dsimp only at z1 z2
      subst z1
      refine ⟨(s1, s3), ?_, ?_⟩
      · show BX7_looks_18 (nI m) r.2.1 r.2.2.1 r.2.2.2.2.2.1 r.2.2.2.2.2.2 r.2.2.2.1 r.2.2.2.2.1 s1 (nI m) s3 = _
        unfold BX7_looks_18
        rw [if_pos (nI_le (Nat.le_refl m) (by omega))]
      · rcases z2 with ⟨w1, -, w2⟩ | ⟨w1, w2⟩
        · rw [if_pos w1]; exact w2
        · rw [if_neg (by omega)]; exact w2)
  refine ⟨(q.1, r.2.1, r.2.2.1, q.2, r.2.2.2.2.2.1, r.2.2.2.2.2.2, r.2.2.2.1, r.2.2.2.2.1), ?_, q1⟩
  unfold MX7_looks
  rw [show MX7_fitting (-1) 0 fh hour (nI n) (nI m) asked by_ of_ give pI hI' x chas hr' went = some r from e, Option.bind_some, f, Option.bind_some]
theorem op_look {n m : Nat} (hn : n ≤ 6) {b o t g : Nat → Nat} {hby hof hat hgive by_ of_ give asked ch pt went : AI} (hI : heardI n m b o t g) (hX' : heardX m b o t g hby hof hat hgive) (hM' : heardM m b o t g by_ of_ give asked) (hr : hrel0 ch asked) (hw : ∀ j, j < n → went j = pt j) (hour tl th tc tn ts fh : Int32) (often thas thours pw x chas hr' pI hI' : AI) :
    ∃ a tr rX rM, MX1_look hour (nI n) (nI m) tl th tc tn ts often ch hby hof hat hgive thas thours n pw pt = some (a, tr, -1, rX) ∧ MX7_look fh hour (nI n) (nI m) x hr' pI hI' chas went asked by_ of_ give = some (a, 0, tr, -1, rM) ∧ ¬ tr = 4 := by
  obtain ⟨r, e, r1⟩ := M_lookOf1 (ch := ch) (pt := pt) hn hI hX' hour tl th tc tn ts often thas thours pw
  obtain ⟨q, f, q1⟩ := M_looks7 (pt := pt) hn hI hM' hr hw fh hour pI hI' x chas hr'
  have q2 : q.1 = r.1 := by
    have := congrArg Prod.fst q1
    rw [r1]
    by_cases c : cntN (fitB n b o t g m ch pt) (codN t g m) = 0
    · rw [if_pos c] at this ⊢; exact this
    · rw [if_neg c] at this ⊢; exact this
  unfold MX1_look MX7_look MX1_anew MX7_good
  rw [Option.bind_some, e, Option.bind_some, f, Option.bind_some, Option.bind_some, q2]
  exact ⟨_, _, _, _, rfl, rfl, by decide⟩
theorem op_lookLeaves {n m : Nat} (hn : n ≤ 6) {b o t g : Nat → Nat} {hby hof hat hgive by_ of_ give asked ch pt went : AI} (hI : heardI n m b o t g) (hX' : heardX m b o t g hby hof hat hgive) (hM' : heardM m b o t g by_ of_ give asked) (hr : hrel0 ch asked) (hw : ∀ j, j < n → went j = pt j) (hour tl th tc tn ts fh : Int32) (often thas thours pw x chas hr' pI hI' : AI) :
    ∃ a tr rX rM, MX1_lookLeaves hour (nI n) (nI m) tl th tc tn ts often ch hby hof hat hgive thas thours n pw pt = some (a, tr, -1, rX) ∧ MX7_lookLeaves fh hour (nI n) (nI m) x hr' pI hI' chas went asked by_ of_ give = some (a, 0, tr, -1, rM) ∧ ¬ tr = 4 := by
  obtain ⟨r, e, r1⟩ := M_lookOf1 (ch := ch) (pt := pt) hn hI hX' hour tl th tc tn ts often thas thours pw
  obtain ⟨q, f, q1⟩ := M_looks7 (pt := pt) hn hI hM' hr hw fh hour pI hI' x chas hr'
  have hm := hI.1
  unfold MX1_lookLeaves MX7_lookLeaves MX1_anew MX7_good
  rw [Option.bind_some, e, Option.bind_some, f, Option.bind_some, Option.bind_some]
  dsimp only
  by_cases c : cntN (fitB n b o t g m ch pt) (codN t g m) = 0
  · rw [if_pos c] at q1 r1
    rw [if_pos r1, show q.2.2.2.1 = -2 from congrArg Prod.snd q1]
    exact ⟨_, _, _, _, rfl, rfl, by decide⟩
  · rw [if_neg c] at q1 r1
    rcases lkF_in (f := mostN n b o t g m ch pt) m with ⟨h1, h2⟩ | ⟨j, h1, h2⟩
    · rw [h2] at q1 r1
      rw [if_pos r1, show q.2.2.2.1 = -2 from congrArg Prod.snd q1]
      exact ⟨_, _, _, _, rfl, rfl, by decide⟩
    · rw [h2] at q1 r1
      have r1 : r.1 = nI j := r1
      obtain ⟨w, w1, w2⟩ := M_leaves1 (pt := pt) (ch := ch) hn h1 hI hX' hour r.2.1 r.2.2.1 r.2.2.2.1 r.2.2.2.2.1 r.2.2.2.2.2.1 r.2.2.2.2.2.2.1 r.2.2.2.2.2.2.2.1 r.2.2.2.2.2.2.2.2 pw
      rw [r1, if_neg (nI_ne_m2 (by omega)), w1, Option.bind_some, w2, show q.2.2.2.1 = nI (mostN n b o t g m ch pt j) from congrArg Prod.snd q1]
      exact ⟨_, _, _, _, rfl, rfl, by decide⟩
