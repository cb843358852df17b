set_option maxRecDepth 100000
/-! reading on both sides: the lines -/
def cntR (n m : Nat) (s : ZS) (hour gives people nears askeds heards wents : Int32) : Prop :=
  people = nI n ∧ s.2.2.2.2.2.2.2.1 = hour ∧ (hour = -1 ∨ ∃ t, t ≤ 99 ∧ hour = nI t) ∧ s.2.2.2.2.2.2.2.2.1 = gives ∧ (∃ g, g ≤ 9 ∧ gives = nI g) ∧ s.2.2.2.2.2.2.2.2.2.2.1 = nears ∧ (∃ k, k ≤ 9 ∧ nears = nI k) ∧ s.2.2.2.2.2.2.2.2.2.2.2.1 = askeds ∧ (∃ k, k ≤ 12 ∧ askeds = nI k) ∧ s.2.2.2.2.2.2.2.2.2.2.2.2.1 = nI m ∧ heards = nI m ∧ m ≤ 3 ∧ s.2.2.2.2.2.2.2.2.2.2.2.2.2.1 = wents ∧ zok s.2.2.2.2.2.1 s.2.2.2.2.2.2.2.2.2.2.2.2.2.2.2.2.2.2.2.1 = true
def perR (n : Nat) (s : ZS) (went kind near has dies : AI) : Prop :=
  (∀ k, k < n → kind k = nI (s.2.2.2.2.2.2.2.2.2.2.2.2.2.2.2.2.2.2.2.2.1 k) ∧ s.2.2.2.2.2.2.2.2.2.2.2.2.2.2.2.2.2.2.2.2.2.2.1 k = nI k ∧ s.2.2.2.2.2.2.2.2.2.2.2.2.2.2.2.2.2.2.2.2.2.2.2.1 k = has k ∧ (∃ x, x ≤ 99 ∧ has k = nI x) ∧ s.2.2.2.2.2.2.2.2.2.2.2.2.2.2.2.2.2.2.2.2.2.2.2.2.1 k = dies k ∧ (∃ x, x ≤ 100 ∧ dies k = nI x) ∧ s.2.2.2.2.2.2.2.2.2.2.2.2.2.2.2.2.2.2.2.2.2.2.2.2.2.1 k = near k ∧ s.2.2.2.2.2.2.2.2.2.2.2.2.2.2.2.2.2.2.2.2.2.2.2.2.2.2.2.1 k = went k) ∧ ∀ k, n ≤ k → k < 6 → near k = 0 ∧ went k = -1
def askR (n : Nat) (s : ZS) (asked : AI) : Prop :=
  (∀ j, j < 36 → (s.2.2.2.2.2.2.2.2.2.2.2.2.2.2.1 j = -2 ∧ asked j = -1) ∨ (s.2.2.2.2.2.2.2.2.2.2.2.2.2.2.1 j = asked j ∧ ∃ t, t ≤ 99 ∧ asked j = nI t)) ∧ (∀ a b, a < n → b < 6 → (hasB (s.2.2.2.2.2.2.2.2.2.2.2.2.2.2.2.2.2.2.2.2.2.2.2.2.2.2.1 a) (nI b) = true ↔ ¬ asked (6 * a + b) = -1)) ∧ ∀ a b, a < 6 → b < 6 → (n ≤ a ∨ n ≤ b) → asked (6 * a + b) = -1
def hrdR (n m : Nat) (s : ZS) (by_ of_ give asked : AI) : Prop := ∃ b o t g, heardI n m b o t g ∧ heardX m b o t g s.2.2.2.2.2.2.2.2.2.2.2.2.2.2.2.1 s.2.2.2.2.2.2.2.2.2.2.2.2.2.2.2.2.1 s.2.2.2.2.2.2.2.2.2.2.2.2.2.2.2.2.2.1 s.2.2.2.2.2.2.2.2.2.2.2.2.2.2.2.2.2.2.1 ∧ heardM m b o t g by_ of_ give asked
def cityR (n m : Nat) (s : ZS) (hour gives people nears askeds heards wents : Int32) (went : AI) (name : AL) (kind near asked by_ of_ give has dies : AI) : Prop :=
  phR n s name ∧ cntR n m s hour gives people nears askeds heards wents ∧ perR n s went kind near has dies ∧ askR n s asked ∧ hrdR n m s by_ of_ give asked
theorem cntR_sm {n m : Nat} {s t : ZS} {hour gives people nears askeds heards wents : Int32} (h : zsm s t) (q : cntR n m s hour gives people nears askeds heards wents) : cntR n m t hour gives people nears askeds heards wents := by
  unfold cntR at q ⊢
  rw [zr_hr h.1, zr_gv h.1, zr_nm h.1, zr_am h.1, zr_hm h.1, zr_wm h.1, zr_ak h.1, zr_np h.1]
  exact q
theorem perR_sm {n : Nat} {s t : ZS} {went kind near has dies : AI} (h : zsm s t) (q : perR n s went kind near has dies) : perR n t went kind near has dies := by
  unfold perR at q ⊢
  rw [zr_pk h.1, zr_pu h.1, zr_pw h.1, zr_pd h.1, zr_pr h.1, zr_pt h.1]
  exact q
theorem askR_sm {n : Nat} {s t : ZS} {asked : AI} (h : zsm s t) (q : askR n s asked) : askR n t asked := by
  unfold askR at q ⊢
  rw [zr_hs h.1, zr_ps h.1]
  exact q
theorem hrdR_sm {n m : Nat} {s t : ZS} {by_ of_ give asked : AI} (h : zsm s t) (q : hrdR n m s by_ of_ give asked) : hrdR n m t by_ of_ give asked := by
  unfold hrdR at q ⊢
  rw [zr_hb h.1, zr_ho h.1, zr_ha h.1, zr_hg h.1]
  exact q
theorem cityR_sm {n m : Nat} {s t : ZS} {hour gives people nears askeds heards wents : Int32} {went : AI} {name : AL} {kind near asked by_ of_ give has dies : AI} (h : zsm s t) (q : cityR n m s hour gives people nears askeds heards wents went name kind near asked by_ of_ give has dies) : cityR n m t hour gives people nears askeds heards wents went name kind near asked by_ of_ give has dies :=
  ⟨phR_sm h q.1, cntR_sm h q.2.1, perR_sm h q.2.2.1, askR_sm h q.2.2.2.1, hrdR_sm h q.2.2.2.2⟩
theorem in_nI {v : Int32} {hi : Nat} (hh : hi < 2 ^ 31) (h : inB v 0 (nI hi) = true) : ∃ t, t ≤ hi ∧ v = nI t := by
  obtain ⟨b, -, h2, e⟩ := inR_of (lo := 0) (hi := hi) (by decide) hh h
  exact ⟨b, h2, e⟩
set_option maxHeartbeats 4000000 in
theorem cityLine_sim {z e n m : Nat} (hz : z ≤ 900) (tx : AI) {s : ZS} {spot sort place number : Int32} {word : Int64} (h : TR z e s spot sort place number word) (ht : s.2.1 = 2) {hour gives people nears askeds heards wents : Int32} {name : AL} (hp : phR n s name) (hc : cntR n m s hour gives people nears askeds heards wents) (f wa : Int32) :
    (∃ er a c d w hh gg, MZ_cityLine tx (nI z) s = some (.inl er) ∧ erO er.1 ∧ MX7_readCity (nI z) spot sort place number f wa word hour gives tx = some (a, 5, c, d, er.1, er.2, w, hh, gg)) ∨
    (∃ e' s1 s' a b c d w hh gg, MZ_cityLine tx (nI z) s = some (.inr s') ∧ MX7_readCity (nI z) spot sort place number f wa word hour gives tx = some (a, b, c, d, f, wa, w, hh, gg) ∧ TR z e' s1 a b c d w ∧ zsm s s1 ∧ s' = ((s1.1, s1.2.1, s1.2.2.1, s1.2.2.2.1, s1.2.2.2.2.1, s1.2.2.2.2.2.1, s1.2.2.2.2.2.2.1, hh, gg, s1.2.2.2.2.2.2.2.2.2.1, s1.2.2.2.2.2.2.2.2.2.2.1, s1.2.2.2.2.2.2.2.2.2.2.2.1, s1.2.2.2.2.2.2.2.2.2.2.2.2.1, s1.2.2.2.2.2.2.2.2.2.2.2.2.2.1, s1.2.2.2.2.2.2.2.2.2.2.2.2.2.2.1, s1.2.2.2.2.2.2.2.2.2.2.2.2.2.2.2.1, s1.2.2.2.2.2.2.2.2.2.2.2.2.2.2.2.2.1, s1.2.2.2.2.2.2.2.2.2.2.2.2.2.2.2.2.2.1, s1.2.2.2.2.2.2.2.2.2.2.2.2.2.2.2.2.2.2.1, s1.2.2.2.2.2.2.2.2.2.2.2.2.2.2.2.2.2.2.2.1, s1.2.2.2.2.2.2.2.2.2.2.2.2.2.2.2.2.2.2.2.2.1, s1.2.2.2.2.2.2.2.2.2.2.2.2.2.2.2.2.2.2.2.2.2.1, s1.2.2.2.2.2.2.2.2.2.2.2.2.2.2.2.2.2.2.2.2.2.2.1, s1.2.2.2.2.2.2.2.2.2.2.2.2.2.2.2.2.2.2.2.2.2.2.2.1, s1.2.2.2.2.2.2.2.2.2.2.2.2.2.2.2.2.2.2.2.2.2.2.2.2.1, s1.2.2.2.2.2.2.2.2.2.2.2.2.2.2.2.2.2.2.2.2.2.2.2.2.2.1, s1.2.2.2.2.2.2.2.2.2.2.2.2.2.2.2.2.2.2.2.2.2.2.2.2.2.2.1, s1.2.2.2.2.2.2.2.2.2.2.2.2.2.2.2.2.2.2.2.2.2.2.2.2.2.2.2.1, s1.2.2.2.2.2.2.2.2.2.2.2.2.2.2.2.2.2.2.2.2.2.2.2.2.2.2.2.2.1, s1.2.2.2.2.2.2.2.2.2.2.2.2.2.2.2.2.2.2.2.2.2.2.2.2.2.2.2.2.2.1, s1.2.2.2.2.2.2.2.2.2.2.2.2.2.2.2.2.2.2.2.2.2.2.2.2.2.2.2.2.2.2.1, s1.2.2.2.2.2.2.2.2.2.2.2.2.2.2.2.2.2.2.2.2.2.2.2.2.2.2.2.2.2.2.2) : ZS) ∧ ¬ b = 5 ∧ e < e' ∧ (∃ t, t ≤ 99 ∧ hh = nI t) ∧ ∃ g, g ≤ 9 ∧ gg = nI g) := by
  obtain ⟨-, hhr, hv, -⟩ := hc
  have hni := hp.ni
  have h5 : ¬ sort = 5 := by
    rcases h.cases with ⟨a, -⟩ | ⟨-, b, -⟩
    · exact absurd ht a
    · rw [b]; decide
  rcases hv with hv | ⟨t, ht9, hv⟩
  · obtain ⟨e1, s1, a1, b1, c1, d1, w1, g1, g2, g3, g4, g5, g6, g7⟩ := step_of hz tx h hni (Or.inl ht)
    have hA : ∀ x, (MZ_after tx (nI z) s1 7 (0 : Int32) (99 : Int32)) = x → MZ_cityLine tx (nI z) s = x.bind fun r5_ => match r5_ with
        | .inl e => some (.inl e)
        | .inr r5 => (MZ_after tx (nI z) r5.2 8 (0 : Int32) (9 : Int32)).bind fun r8_ => match r8_ with
          | .inl e => some (.inl e)
          | .inr r8 => some (.inr ((r8.2.1, r8.2.2.1, r8.2.2.2.1, r8.2.2.2.2.1, r8.2.2.2.2.2.1, r8.2.2.2.2.2.2.1, r8.2.2.2.2.2.2.2.1, r5.1, r8.1, r8.2.2.2.2.2.2.2.2.2.2.1, r8.2.2.2.2.2.2.2.2.2.2.2.1, r8.2.2.2.2.2.2.2.2.2.2.2.2.1, r8.2.2.2.2.2.2.2.2.2.2.2.2.2.1, r8.2.2.2.2.2.2.2.2.2.2.2.2.2.2.1, r8.2.2.2.2.2.2.2.2.2.2.2.2.2.2.2.1, r8.2.2.2.2.2.2.2.2.2.2.2.2.2.2.2.2.1, r8.2.2.2.2.2.2.2.2.2.2.2.2.2.2.2.2.2.1, r8.2.2.2.2.2.2.2.2.2.2.2.2.2.2.2.2.2.2.1, r8.2.2.2.2.2.2.2.2.2.2.2.2.2.2.2.2.2.2.2.1, r8.2.2.2.2.2.2.2.2.2.2.2.2.2.2.2.2.2.2.2.2.1, r8.2.2.2.2.2.2.2.2.2.2.2.2.2.2.2.2.2.2.2.2.2.1, r8.2.2.2.2.2.2.2.2.2.2.2.2.2.2.2.2.2.2.2.2.2.2.1, r8.2.2.2.2.2.2.2.2.2.2.2.2.2.2.2.2.2.2.2.2.2.2.2.1, r8.2.2.2.2.2.2.2.2.2.2.2.2.2.2.2.2.2.2.2.2.2.2.2.2.1, r8.2.2.2.2.2.2.2.2.2.2.2.2.2.2.2.2.2.2.2.2.2.2.2.2.2.1, r8.2.2.2.2.2.2.2.2.2.2.2.2.2.2.2.2.2.2.2.2.2.2.2.2.2.2.1, r8.2.2.2.2.2.2.2.2.2.2.2.2.2.2.2.2.2.2.2.2.2.2.2.2.2.2.2.1, r8.2.2.2.2.2.2.2.2.2.2.2.2.2.2.2.2.2.2.2.2.2.2.2.2.2.2.2.2.1, r8.2.2.2.2.2.2.2.2.2.2.2.2.2.2.2.2.2.2.2.2.2.2.2.2.2.2.2.2.2.1, r8.2.2.2.2.2.2.2.2.2.2.2.2.2.2.2.2.2.2.2.2.2.2.2.2.2.2.2.2.2.2.1, r8.2.2.2.2.2.2.2.2.2.2.2.2.2.2.2.2.2.2.2.2.2.2.2.2.2.2.2.2.2.2.2.1, r8.2.2.2.2.2.2.2.2.2.2.2.2.2.2.2.2.2.2.2.2.2.2.2.2.2.2.2.2.2.2.2.2) : ZS)) := by
      intro x hx
      unfold MZ_cityLine
      rw [hhr, hv, if_pos (by decide), g1, Option.bind_some, hx]
      rfl
    have hB : MX7_readCity (nI z) spot sort place number f wa word hour gives tx = (MX7_readPart 7 (0 : Int32) (99 : Int32) (nI z) a1 b1 c1 d1 f wa w1 tx).bind fun r10 =>
        (MX7_readPart 8 (0 : Int32) (9 : Int32) (nI z) r10.2.1 r10.2.2.1 r10.2.2.2.1 r10.2.2.2.2.1 r10.2.2.2.2.2.1 r10.2.2.2.2.2.2.1 r10.2.2.2.2.2.2.2 tx).bind fun r12 =>
        if r12.2.2.1 = (5 : Int32) then
          some (r12.2.1, r12.2.2.1, r12.2.2.2.1, r12.2.2.2.2.1, r12.2.2.2.2.2.1, r12.2.2.2.2.2.2.1, r12.2.2.2.2.2.2.2, hour, gives)
        else
          some (r12.2.1, r12.2.2.1, r12.2.2.2.1, r12.2.2.2.2.1, r12.2.2.2.2.2.1, r12.2.2.2.2.2.2.1, r12.2.2.2.2.2.2.2, r10.1, r12.1) := by
      unfold MX7_readCity
      rw [if_pos hv, Option.bind_some]
      dsimp only
      rw [g2, Option.bind_some]
    rcases part_sim hz tx g3 g5 (niI_sm g4 hni) (k := 7) (by decide) (by decide) 0 99 f wa with ⟨er, v, a, c, d, w, k1, k2, k3⟩ | ⟨v, e2, s2, a2, b2, c2, d2, w2, k1, k2, k3, k4, k5, k6, k7⟩
    · refine Or.inl ⟨er, a, c, d, w, hour, gives, (hA _ k1).trans rfl, k2, ?_⟩
      rw [hB, k3, Option.bind_some]
      dsimp only
      rw [over_part, Option.bind_some]
      dsimp only
      rw [if_pos rfl]
    · have hA2 := (hA _ k1).trans (Option.bind_some _ _)
      dsimp only at hA2
      rcases part_sim hz tx k3 k5 (niI_sm (zsm_tr g4 k4) hni) (k := 8) (by decide) (by decide) 0 9 f wa with ⟨er, v', a, c, d, w, j1, j2, j3⟩ | ⟨v', e3, s3, a3, b3, c3, d3, w3, j1, j2, j3, j4, j5, j6, j7⟩
      · refine Or.inl ⟨er, a, c, d, w, hour, gives, ?_, j2, ?_⟩
        · rw [hA2, j1]; rfl
        · rw [hB, k2, Option.bind_some]
          dsimp only
          rw [j3, Option.bind_some]
          dsimp only
          rw [if_pos rfl]
      · refine Or.inr ⟨e3, s3, _, a3, b3, c3, d3, w3, v, v', ?_, ?_, j3, zsm_tr g4 (zsm_tr k4 j4), rfl, j5, by omega, in_nI (by decide) k7, in_nI (by decide) j7⟩
        · rw [hA2, j1]; rfl
        · rw [hB, k2, Option.bind_some]
          dsimp only
          rw [j2, Option.bind_some]
          dsimp only
          rw [if_neg j5]
  · have hn : ¬ hour = -1 := by rw [hv]; exact nI_nm1 (by omega)
    refine Or.inl ⟨((3 : Int32), s.2.2.1), spot, place, number, word, hour, gives, ?_, ⟨3, by decide, by decide, rfl⟩, ?_⟩
    · unfold MZ_cityLine
      rw [hhr, hv, if_neg (by intro q; exact nI_pos (show t < 2 ^ 31 by omega) q)]
    · unfold MX7_readCity
      rw [if_neg hn, flawN h5, Option.bind_some, Option.bind_some, h.pl]
      dsimp only
      rw [goesOn5, Option.bind_some]
      dsimp only
      rw [over_part, Option.bind_some]
      dsimp only
      rw [over_part, Option.bind_some]
      dsimp only
      rw [if_pos rfl]
theorem M_mayAsk {n k k2 : Nat} (hn : n ≤ 6) (hk : k < n) (hk2 : k2 < n) {pk : Nat → Nat} {kind near : AI} (h1 : kind k = nI (pk k)) (h2 : kind k2 = nI (pk k2)) (l1 : pk k < 4) (l2 : pk k2 < 4) (h3 : ¬ pk k = 3) : MX14_mayAsk (nI k) (nI k2) kind near = some (mayBeK (pk k2) (near k2) (nI k)) := by
  unfold MX14_mayAsk
  rw [gi_nI (by omega) (by decide), nIc (by omega), h1, if_neg (show ¬ nI (pk k) = (3 : Int32) from fun q => h3 ((nI_eq (by omega) (by decide)).mp q)), gi_nI (by omega) (by decide), nIc (by omega), h2]
  generalize pk k2 = x at l2 ⊢
  rcases (show x = 0 ∨ x = 1 ∨ x = 2 ∨ x = 3 by omega) with q | q | q | q
  · subst q; rw [if_neg (by decide), gi_nI (by omega) (by decide), if_neg (by decide)]; rfl
  · subst q; rw [if_pos (show nI 1 = (1 : Int32) from rfl)]; rfl
  · subst q
    rw [if_neg (by decide), gi_nI (by omega) (by decide), if_pos (show nI 2 = (2 : Int32) from rfl), gi_nI (by omega) (by decide), M_bit, Option.bind_some, mayBe_2]
    cases hasB (near k2) (nI k) <;> rfl
  · subst q; rw [if_neg (by decide), gi_nI (by omega) (by decide), if_neg (by decide)]; rfl
theorem mayAsk_f {x : Nat} : mayAskK x = false ↔ x = 3 := by
  unfold mayAskK
  by_cases h : x = 3
  · simp [h]
  · simp [h]
theorem over_pair {n : Nat} (hn : n ≤ 6) (size spot place number f wa : Int32) (word : Int64) (name : AL) (kind tx asked near : AI) : MX7_readPair size spot 5 place number f wa word (nI n) name kind tx asked near = some (0, spot, 5, place, number, f, wa, word, 0) := by
  unfold MX7_readPair
  rw [over_ph hn, Option.bind_some]
  dsimp only
  rw [if_pos rfl, Option.bind_some]
  dsimp only
  rw [goesOn5, Option.bind_some]
  dsimp only
  rw [over_ph hn, Option.bind_some]
  dsimp only
  rw [if_pos rfl, Option.bind_some]
  dsimp only
  rw [if_pos rfl, Option.bind_some]
  rfl
theorem TR.tk5 {z e : Nat} {s : ZS} {spot sort place number : Int32} {word : Int64} (h : TR z e s spot sort place number word) (ht : s.2.1 = 2) : ¬ sort = 5 := by
  rcases h.cases with ⟨a, -⟩ | ⟨-, b, -⟩
  · exact absurd ht a
  · rw [b]; decide
set_option maxHeartbeats 4000000 in
theorem asking_sim {z e n : Nat} (hz : z ≤ 900) (tx : AI) {s : ZS} {spot sort place number : Int32} {word : Int64} (h : TR z e s spot sort place number word) (h5 : ¬ sort = 5) {name : AL} (hp : phR n s name) {went kind near has dies asked : AI} (hr : perR n s went kind near has dies) (ha : askR n s asked) (f wa : Int32) :
    (∃ er a c d w p q, MZ_asking tx (nI z) s = some (.inl er) ∧ erO er.1 ∧ MX7_readPair (nI z) spot sort place number f wa word (nI n) name kind tx asked near = some (p, a, 5, c, d, er.1, er.2, w, q)) ∨
    (∃ k k2 e' s' a b c d w, k < n ∧ k2 < n ∧ ¬ k = k2 ∧ asked (6 * k + k2) = -1 ∧ MZ_asking tx (nI z) s = some (.inr (k2, s')) ∧ MX7_readPair (nI z) spot sort place number f wa word (nI n) name kind tx asked near = some (nI k, a, b, c, d, f, wa, w, nI k2) ∧ TR z e' s' a b c d w ∧ zsm ((s.1, s.2.1, s.2.2.1, s.2.2.2.1, s.2.2.2.2.1, some k, s.2.2.2.2.2.2.1, s.2.2.2.2.2.2.2.1, s.2.2.2.2.2.2.2.2.1, s.2.2.2.2.2.2.2.2.2.1, s.2.2.2.2.2.2.2.2.2.2.1, s.2.2.2.2.2.2.2.2.2.2.2.1, s.2.2.2.2.2.2.2.2.2.2.2.2.1, s.2.2.2.2.2.2.2.2.2.2.2.2.2.1, s.2.2.2.2.2.2.2.2.2.2.2.2.2.2.1, s.2.2.2.2.2.2.2.2.2.2.2.2.2.2.2.1, s.2.2.2.2.2.2.2.2.2.2.2.2.2.2.2.2.1, s.2.2.2.2.2.2.2.2.2.2.2.2.2.2.2.2.2.1, s.2.2.2.2.2.2.2.2.2.2.2.2.2.2.2.2.2.2.1, s.2.2.2.2.2.2.2.2.2.2.2.2.2.2.2.2.2.2.2.1, s.2.2.2.2.2.2.2.2.2.2.2.2.2.2.2.2.2.2.2.2.1, s.2.2.2.2.2.2.2.2.2.2.2.2.2.2.2.2.2.2.2.2.2.1, s.2.2.2.2.2.2.2.2.2.2.2.2.2.2.2.2.2.2.2.2.2.2.1, s.2.2.2.2.2.2.2.2.2.2.2.2.2.2.2.2.2.2.2.2.2.2.2.1, s.2.2.2.2.2.2.2.2.2.2.2.2.2.2.2.2.2.2.2.2.2.2.2.2.1, s.2.2.2.2.2.2.2.2.2.2.2.2.2.2.2.2.2.2.2.2.2.2.2.2.2.1, s.2.2.2.2.2.2.2.2.2.2.2.2.2.2.2.2.2.2.2.2.2.2.2.2.2.2.1, s.2.2.2.2.2.2.2.2.2.2.2.2.2.2.2.2.2.2.2.2.2.2.2.2.2.2.2.1, s.2.2.2.2.2.2.2.2.2.2.2.2.2.2.2.2.2.2.2.2.2.2.2.2.2.2.2.2.1, s.2.2.2.2.2.2.2.2.2.2.2.2.2.2.2.2.2.2.2.2.2.2.2.2.2.2.2.2.2.1, s.2.2.2.2.2.2.2.2.2.2.2.2.2.2.2.2.2.2.2.2.2.2.2.2.2.2.2.2.2.2.1, s.2.2.2.2.2.2.2.2.2.2.2.2.2.2.2.2.2.2.2.2.2.2.2.2.2.2.2.2.2.2.2) : ZS) s' ∧ ¬ b = 5 ∧ e ≤ e') := by
  have hn := hp.1
  rcases ph_sim tx h h5 hp f wa with ⟨er, k1, k2, k3⟩ | ⟨k, hk, k1, k2, ht⟩
  · refine Or.inl ⟨er, spot, place, number, word, 0, 0, ?_, k2, ?_⟩
    · unfold MZ_asking
      rw [k1]; rfl
    · unfold MX7_readPair
      rw [k3, Option.bind_some]
      dsimp only
      rw [if_pos rfl, Option.bind_some]
      dsimp only
      rw [goesOn5, Option.bind_some]
      dsimp only
      rw [over_ph hn, Option.bind_some]
      dsimp only
      rw [if_pos rfl, Option.bind_some]
      dsimp only
      rw [if_pos rfl, Option.bind_some]
      rfl
  have hpk := hp.2.2.1
  have hnp := hp.2.2.2.2.2
  obtain ⟨r1, r2, -⟩ := hr.1 k hk
  have hkl := hpk k hk
  have hA : MZ_asking tx (nI z) s = if b2i (mayAskK (s.2.2.2.2.2.2.2.2.2.2.2.2.2.2.2.2.2.2.2.2.1 k)) = 0 then some (.inl ((7 : Int32), s.2.2.1)) else (MZ_step tx (nI z) ((s.1, s.2.1, s.2.2.1, s.2.2.2.1, s.2.2.2.2.1, some k, s.2.2.2.2.2.2.1, s.2.2.2.2.2.2.2.1, s.2.2.2.2.2.2.2.2.1, s.2.2.2.2.2.2.2.2.2.1, s.2.2.2.2.2.2.2.2.2.2.1, s.2.2.2.2.2.2.2.2.2.2.2.1, s.2.2.2.2.2.2.2.2.2.2.2.2.1, s.2.2.2.2.2.2.2.2.2.2.2.2.2.1, s.2.2.2.2.2.2.2.2.2.2.2.2.2.2.1, s.2.2.2.2.2.2.2.2.2.2.2.2.2.2.2.1, s.2.2.2.2.2.2.2.2.2.2.2.2.2.2.2.2.1, s.2.2.2.2.2.2.2.2.2.2.2.2.2.2.2.2.2.1, s.2.2.2.2.2.2.2.2.2.2.2.2.2.2.2.2.2.2.1, s.2.2.2.2.2.2.2.2.2.2.2.2.2.2.2.2.2.2.2.1, s.2.2.2.2.2.2.2.2.2.2.2.2.2.2.2.2.2.2.2.2.1, s.2.2.2.2.2.2.2.2.2.2.2.2.2.2.2.2.2.2.2.2.2.1, s.2.2.2.2.2.2.2.2.2.2.2.2.2.2.2.2.2.2.2.2.2.2.1, s.2.2.2.2.2.2.2.2.2.2.2.2.2.2.2.2.2.2.2.2.2.2.2.1, s.2.2.2.2.2.2.2.2.2.2.2.2.2.2.2.2.2.2.2.2.2.2.2.2.1, s.2.2.2.2.2.2.2.2.2.2.2.2.2.2.2.2.2.2.2.2.2.2.2.2.2.1, s.2.2.2.2.2.2.2.2.2.2.2.2.2.2.2.2.2.2.2.2.2.2.2.2.2.2.1, s.2.2.2.2.2.2.2.2.2.2.2.2.2.2.2.2.2.2.2.2.2.2.2.2.2.2.2.1, s.2.2.2.2.2.2.2.2.2.2.2.2.2.2.2.2.2.2.2.2.2.2.2.2.2.2.2.2.1, s.2.2.2.2.2.2.2.2.2.2.2.2.2.2.2.2.2.2.2.2.2.2.2.2.2.2.2.2.2.1, s.2.2.2.2.2.2.2.2.2.2.2.2.2.2.2.2.2.2.2.2.2.2.2.2.2.2.2.2.2.2.1, s.2.2.2.2.2.2.2.2.2.2.2.2.2.2.2.2.2.2.2.2.2.2.2.2.2.2.2.2.2.2.2) : ZS)).bind fun r8 =>
      (MZ_personHere tx (nI z) r8).bind fun r11_ => match r11_ with
      | .inl e => some (.inl e)
      | .inr r11 =>
        (r11.2.2.2.2.2.2.1).bind fun i14 =>
        gn i14 r11.2.2.2.2.2.2.2.2.2.2.2.2.2.2.2.2.2.2.2.2.1 <|
        gn i14 r11.2.2.2.2.2.2.2.2.2.2.2.2.2.2.2.2.2.2.2.2.1 <|
        gn r11.1 r11.2.2.2.2.2.2.2.2.2.2.2.2.2.2.2.2.2.2.2.2.1 <|
        if i14 = r11.1 then
          some (.inl ((3 : Int32), r11.2.2.2.1))
        else
          gn i14 r11.2.2.2.2.2.2.2.2.2.2.2.2.2.2.2.2.2.2.2.2.1 <|
          gn (r11.2.2.2.2.2.2.2.2.2.2.2.2.2.2.2.2.2.2.2.2.2.1 i14) 4 <|
          gn r11.1 r11.2.2.2.2.2.2.2.2.2.2.2.2.2.2.2.2.2.2.2.2.1 <|
          gn (r11.2.2.2.2.2.2.2.2.2.2.2.2.2.2.2.2.2.2.2.2.2.1 r11.1) 4 <|
          (MX1_has (r11.2.2.2.2.2.2.2.2.2.2.2.2.2.2.2.2.2.2.2.2.2.2.2.2.2.2.2.1 i14) (r11.2.2.2.2.2.2.2.2.2.2.2.2.2.2.2.2.2.2.2.2.2.2.2.1 r11.1)).bind fun r24 =>
          if (b2i r24) = 0 then
            gn i14 r11.2.2.2.2.2.2.2.2.2.2.2.2.2.2.2.2.2.2.2.2.1 <|
            gn (r11.2.2.2.2.2.2.2.2.2.2.2.2.2.2.2.2.2.2.2.2.2.1 i14) 4 <|
            gn r11.1 r11.2.2.2.2.2.2.2.2.2.2.2.2.2.2.2.2.2.2.2.2.1 <|
            gn (r11.2.2.2.2.2.2.2.2.2.2.2.2.2.2.2.2.2.2.2.2.2.1 r11.1) 4 <|
            if (b2i (mayBeK (r11.2.2.2.2.2.2.2.2.2.2.2.2.2.2.2.2.2.2.2.2.2.1 r11.1) (r11.2.2.2.2.2.2.2.2.2.2.2.2.2.2.2.2.2.2.2.2.2.2.2.2.2.2.1 r11.1) (r11.2.2.2.2.2.2.2.2.2.2.2.2.2.2.2.2.2.2.2.2.2.2.2.1 i14))) = 0 then
              some (.inl ((7 : Int32), r11.2.2.2.1))
            else
              gn r11.1 r11.2.2.2.2.2.2.2.2.2.2.2.2.2.2.2.2.2.2.2.2.1 <|
              (MZ_step tx (nI z) r11.2).bind fun r32 =>
              some (.inr (r11.1, r32))
          else
            some (.inl ((3 : Int32), r11.2.2.2.1)) := by
    unfold MZ_asking
    rw [k1, Option.bind_some]
    dsimp only
    rw [Option.bind_some, gn_of (by omega), gn_of (by omega), gn_of hkl]
    rfl
  have hB : MX7_readPair (nI z) spot sort place number f wa word (nI n) name kind tx asked near =
      Option.bind (if (nI (s.2.2.2.2.2.2.2.2.2.2.2.2.2.2.2.2.2.2.2.2.1 k)) = (3 : Int32) then
        (MX7_flaw (7 : Int32) sort place f wa).bind fun r10 =>
        some (r10.1, r10.2.1, r10.2.2)
      else
        some (sort, f, wa)) fun r12 =>
      (MX7_goesOn (nI z) spot r12.1 place number word tx).bind fun r14 =>
      (MX7_personAtHand r14.2.1 r14.2.2.1 r12.2.1 r12.2.2 r14.2.2.2.2 (nI n) name).bind fun r16 =>
      Option.bind (if r16.2.1 = (5 : Int32) then
        some (r16.2.1, r16.2.2.1, r16.2.2.2)
      else
        if nI k = r16.1 then
          (MX7_flaw (3 : Int32) r16.2.1 r14.2.2.1 r16.2.2.1 r16.2.2.2).bind fun r27 =>
          some (r27.1, r27.2.1, r27.2.2)
        else
          gi (((6 : Int32) * nI k) + r16.1) 36 <|
          if (asked (Int32.toNatClampNeg (((6 : Int32) * nI k) + r16.1))) = (-1 : Int32) then
            some (r16.2.1, r16.2.2.1, r16.2.2.2)
          else
            (MX7_flaw (3 : Int32) r16.2.1 r14.2.2.1 r16.2.2.1 r16.2.2.2).bind fun r31 =>
            some (r31.1, r31.2.1, r31.2.2)
      ) fun r33 =>
      Option.bind (if r33.1 = (5 : Int32) then
        some (r33.1, r33.2.1, r33.2.2)
      else
        (MX14_mayAsk (nI k) r16.1 kind near).bind fun r41 =>
        if (b2i r41) = 0 then
          (MX7_flaw (7 : Int32) r33.1 r14.2.2.1 r33.2.1 r33.2.2).bind fun r44 =>
          some (r44.1, r44.2.1, r44.2.2)
        else
          some (r33.1, r33.2.1, r33.2.2)
      ) fun r46 =>
      (MX7_goesOn (nI z) r14.1 r46.1 r14.2.2.1 r14.2.2.2.1 r14.2.2.2.2 tx).bind fun r48 =>
      some (nI k, r48.1, r48.2.1, r48.2.2.1, r48.2.2.2.1, r46.2.1, r46.2.2, r48.2.2.2.2, r16.1) := by
    unfold MX7_readPair
    rw [k2, Option.bind_some]
    dsimp only
    rw [if_neg h5, gi_nI (by omega) (by decide), nIc (by omega), r1]
  by_cases c3 : s.2.2.2.2.2.2.2.2.2.2.2.2.2.2.2.2.2.2.2.2.1 k = 3
  · refine Or.inl ⟨((7 : Int32), s.2.2.1), spot, place, number, word, nI k, 0, ?_, ⟨7, by decide, by decide, rfl⟩, ?_⟩
    · rw [hA, if_pos (b2i_f (mayAsk_f.mpr c3))]
    · rw [hB, c3, if_pos (show nI 3 = 3 from rfl), flawN h5, Option.bind_some, Option.bind_some, h.pl]
      dsimp only
      rw [goesOn5, Option.bind_some]
      dsimp only
      rw [over_ph hn, Option.bind_some]
      dsimp only
      rw [if_pos rfl, Option.bind_some]
      dsimp only
      rw [if_pos rfl, Option.bind_some]
      rfl
  have hm3 : mayAskK (s.2.2.2.2.2.2.2.2.2.2.2.2.2.2.2.2.2.2.2.2.1 k) = true := by
    cases q : mayAskK (s.2.2.2.2.2.2.2.2.2.2.2.2.2.2.2.2.2.2.2.2.1 k) with
    | true => rfl
    | false => exact absurd (mayAsk_f.mp q) c3
  have hph0 : phR n ((s.1, s.2.1, s.2.2.1, s.2.2.2.1, s.2.2.2.2.1, some k, s.2.2.2.2.2.2.1, s.2.2.2.2.2.2.2.1, s.2.2.2.2.2.2.2.2.1, s.2.2.2.2.2.2.2.2.2.1, s.2.2.2.2.2.2.2.2.2.2.1, s.2.2.2.2.2.2.2.2.2.2.2.1, s.2.2.2.2.2.2.2.2.2.2.2.2.1, s.2.2.2.2.2.2.2.2.2.2.2.2.2.1, s.2.2.2.2.2.2.2.2.2.2.2.2.2.2.1, s.2.2.2.2.2.2.2.2.2.2.2.2.2.2.2.1, s.2.2.2.2.2.2.2.2.2.2.2.2.2.2.2.2.1, s.2.2.2.2.2.2.2.2.2.2.2.2.2.2.2.2.2.1, s.2.2.2.2.2.2.2.2.2.2.2.2.2.2.2.2.2.2.1, s.2.2.2.2.2.2.2.2.2.2.2.2.2.2.2.2.2.2.2.1, s.2.2.2.2.2.2.2.2.2.2.2.2.2.2.2.2.2.2.2.2.1, s.2.2.2.2.2.2.2.2.2.2.2.2.2.2.2.2.2.2.2.2.2.1, s.2.2.2.2.2.2.2.2.2.2.2.2.2.2.2.2.2.2.2.2.2.2.1, s.2.2.2.2.2.2.2.2.2.2.2.2.2.2.2.2.2.2.2.2.2.2.2.1, s.2.2.2.2.2.2.2.2.2.2.2.2.2.2.2.2.2.2.2.2.2.2.2.2.1, s.2.2.2.2.2.2.2.2.2.2.2.2.2.2.2.2.2.2.2.2.2.2.2.2.2.1, s.2.2.2.2.2.2.2.2.2.2.2.2.2.2.2.2.2.2.2.2.2.2.2.2.2.2.1, s.2.2.2.2.2.2.2.2.2.2.2.2.2.2.2.2.2.2.2.2.2.2.2.2.2.2.2.1, s.2.2.2.2.2.2.2.2.2.2.2.2.2.2.2.2.2.2.2.2.2.2.2.2.2.2.2.2.1, s.2.2.2.2.2.2.2.2.2.2.2.2.2.2.2.2.2.2.2.2.2.2.2.2.2.2.2.2.2.1, s.2.2.2.2.2.2.2.2.2.2.2.2.2.2.2.2.2.2.2.2.2.2.2.2.2.2.2.2.2.2.1, s.2.2.2.2.2.2.2.2.2.2.2.2.2.2.2.2.2.2.2.2.2.2.2.2.2.2.2.2.2.2.2) : ZS) name := hp
  obtain ⟨e1, s1, a1, b1, c1, d1, w1, g1, g2, g3, g4, g5, g6, -⟩ := step_of hz tx (s := ((s.1, s.2.1, s.2.2.1, s.2.2.2.1, s.2.2.2.2.1, some k, s.2.2.2.2.2.2.1, s.2.2.2.2.2.2.2.1, s.2.2.2.2.2.2.2.2.1, s.2.2.2.2.2.2.2.2.2.1, s.2.2.2.2.2.2.2.2.2.2.1, s.2.2.2.2.2.2.2.2.2.2.2.1, s.2.2.2.2.2.2.2.2.2.2.2.2.1, s.2.2.2.2.2.2.2.2.2.2.2.2.2.1, s.2.2.2.2.2.2.2.2.2.2.2.2.2.2.1, s.2.2.2.2.2.2.2.2.2.2.2.2.2.2.2.1, s.2.2.2.2.2.2.2.2.2.2.2.2.2.2.2.2.1, s.2.2.2.2.2.2.2.2.2.2.2.2.2.2.2.2.2.1, s.2.2.2.2.2.2.2.2.2.2.2.2.2.2.2.2.2.2.1, s.2.2.2.2.2.2.2.2.2.2.2.2.2.2.2.2.2.2.2.1, s.2.2.2.2.2.2.2.2.2.2.2.2.2.2.2.2.2.2.2.2.1, s.2.2.2.2.2.2.2.2.2.2.2.2.2.2.2.2.2.2.2.2.2.1, s.2.2.2.2.2.2.2.2.2.2.2.2.2.2.2.2.2.2.2.2.2.2.1, s.2.2.2.2.2.2.2.2.2.2.2.2.2.2.2.2.2.2.2.2.2.2.2.1, s.2.2.2.2.2.2.2.2.2.2.2.2.2.2.2.2.2.2.2.2.2.2.2.2.1, s.2.2.2.2.2.2.2.2.2.2.2.2.2.2.2.2.2.2.2.2.2.2.2.2.2.1, s.2.2.2.2.2.2.2.2.2.2.2.2.2.2.2.2.2.2.2.2.2.2.2.2.2.2.1, s.2.2.2.2.2.2.2.2.2.2.2.2.2.2.2.2.2.2.2.2.2.2.2.2.2.2.2.1, s.2.2.2.2.2.2.2.2.2.2.2.2.2.2.2.2.2.2.2.2.2.2.2.2.2.2.2.2.1, s.2.2.2.2.2.2.2.2.2.2.2.2.2.2.2.2.2.2.2.2.2.2.2.2.2.2.2.2.2.1, s.2.2.2.2.2.2.2.2.2.2.2.2.2.2.2.2.2.2.2.2.2.2.2.2.2.2.2.2.2.2.1, s.2.2.2.2.2.2.2.2.2.2.2.2.2.2.2.2.2.2.2.2.2.2.2.2.2.2.2.2.2.2.2) : ZS)) (show TR z e ((s.1, s.2.1, s.2.2.1, s.2.2.2.1, s.2.2.2.2.1, some k, s.2.2.2.2.2.2.1, s.2.2.2.2.2.2.2.1, s.2.2.2.2.2.2.2.2.1, s.2.2.2.2.2.2.2.2.2.1, s.2.2.2.2.2.2.2.2.2.2.1, s.2.2.2.2.2.2.2.2.2.2.2.1, s.2.2.2.2.2.2.2.2.2.2.2.2.1, s.2.2.2.2.2.2.2.2.2.2.2.2.2.1, s.2.2.2.2.2.2.2.2.2.2.2.2.2.2.1, s.2.2.2.2.2.2.2.2.2.2.2.2.2.2.2.1, s.2.2.2.2.2.2.2.2.2.2.2.2.2.2.2.2.1, s.2.2.2.2.2.2.2.2.2.2.2.2.2.2.2.2.2.1, s.2.2.2.2.2.2.2.2.2.2.2.2.2.2.2.2.2.2.1, s.2.2.2.2.2.2.2.2.2.2.2.2.2.2.2.2.2.2.2.1, s.2.2.2.2.2.2.2.2.2.2.2.2.2.2.2.2.2.2.2.2.1, s.2.2.2.2.2.2.2.2.2.2.2.2.2.2.2.2.2.2.2.2.2.1, s.2.2.2.2.2.2.2.2.2.2.2.2.2.2.2.2.2.2.2.2.2.2.1, s.2.2.2.2.2.2.2.2.2.2.2.2.2.2.2.2.2.2.2.2.2.2.2.1, s.2.2.2.2.2.2.2.2.2.2.2.2.2.2.2.2.2.2.2.2.2.2.2.2.1, s.2.2.2.2.2.2.2.2.2.2.2.2.2.2.2.2.2.2.2.2.2.2.2.2.2.1, s.2.2.2.2.2.2.2.2.2.2.2.2.2.2.2.2.2.2.2.2.2.2.2.2.2.2.1, s.2.2.2.2.2.2.2.2.2.2.2.2.2.2.2.2.2.2.2.2.2.2.2.2.2.2.2.1, s.2.2.2.2.2.2.2.2.2.2.2.2.2.2.2.2.2.2.2.2.2.2.2.2.2.2.2.2.1, s.2.2.2.2.2.2.2.2.2.2.2.2.2.2.2.2.2.2.2.2.2.2.2.2.2.2.2.2.2.1, s.2.2.2.2.2.2.2.2.2.2.2.2.2.2.2.2.2.2.2.2.2.2.2.2.2.2.2.2.2.2.1, s.2.2.2.2.2.2.2.2.2.2.2.2.2.2.2.2.2.2.2.2.2.2.2.2.2.2.2.2.2.2.2) : ZS) spot sort place number word from h) hph0.ni (Or.inl ht)
  rw [hm3, if_neg (by decide), g1, Option.bind_some] at hA
  rw [if_neg (show ¬ nI (s.2.2.2.2.2.2.2.2.2.2.2.2.2.2.2.2.2.2.2.2.1 k) = (3 : Int32) from fun q => c3 ((nI_eq (by omega) (by decide)).mp q)), Option.bind_some] at hB
  dsimp only at hB
  rw [g2, Option.bind_some] at hB
  dsimp only at hB
  have hp1 := phR_sm g4 hph0
  have hak : s1.2.2.2.2.2.1 = some k := zr_ak g4.1
  have hpk1 : s1.2.2.2.2.2.2.2.2.2.2.2.2.2.2.2.2.2.2.2.2.1 = s.2.2.2.2.2.2.2.2.2.2.2.2.2.2.2.2.2.2.2.2.1 := by have h9 := zr_pk g4.1; exact h9
  have hpr1 : s1.2.2.2.2.2.2.2.2.2.2.2.2.2.2.2.2.2.2.2.2.2.2.2.2.2.1 = s.2.2.2.2.2.2.2.2.2.2.2.2.2.2.2.2.2.2.2.2.2.2.2.2.2.1 := by have h9 := zr_pr g4.1; exact h9
  have hps1 : s1.2.2.2.2.2.2.2.2.2.2.2.2.2.2.2.2.2.2.2.2.2.2.2.2.2.2.1 = s.2.2.2.2.2.2.2.2.2.2.2.2.2.2.2.2.2.2.2.2.2.2.2.2.2.2.1 := by have h9 := zr_ps g4.1; exact h9
  have hpu1 : s1.2.2.2.2.2.2.2.2.2.2.2.2.2.2.2.2.2.2.2.2.2.2.1 = s.2.2.2.2.2.2.2.2.2.2.2.2.2.2.2.2.2.2.2.2.2.2.1 := by have h9 := zr_pu g4.1; exact h9
  have hnp1 : s1.2.2.2.2.2.2.2.2.2.2.2.2.2.2.2.2.2.2.2.1 = n := (zr_np g4.1).trans hnp
  rcases ph_sim tx g3 g5 hp1 f wa with ⟨er, j1, j2, j3⟩ | ⟨k', hk', j1, j2, ht1⟩
  · refine Or.inl ⟨er, a1, c1, d1, w1, nI k, 0, ?_, j2, ?_⟩
    · rw [hA, j1]; rfl
    · rw [hB, j3, Option.bind_some]
      dsimp only
      rw [if_pos rfl, Option.bind_some]
      dsimp only
      rw [if_pos rfl, Option.bind_some]
      dsimp only
      rw [goesOn5]
      rfl
  rw [j1, Option.bind_some] at hA
  dsimp only at hA
  rw [hak, Option.bind_some, hnp1, hpk1, hpr1, hps1, hpu1, gn_of hk, gn_of hk, gn_of hk'] at hA
  rw [j2, Option.bind_some] at hB
  dsimp only at hB
  rw [if_neg g5] at hB
  obtain ⟨q1, q2, -, -, -, -, q7, -⟩ := hr.1 k' hk'
  have hkl' := hpk k' hk'
  by_cases ce : k = k'
  · refine Or.inl ⟨((3 : Int32), s1.2.2.1), a1, c1, d1, w1, nI k, nI k', ?_, ⟨3, by decide, by decide, rfl⟩, ?_⟩
    · rw [hA, if_pos ce]
    · rw [hB, if_pos (by rw [ce]), flawN g5, Option.bind_some, Option.bind_some, g3.pl]
      dsimp only
      rw [if_pos rfl, Option.bind_some]
      dsimp only
      rw [goesOn5]
      rfl
  rw [if_neg ce, gn_of hk, gn_of hkl, gn_of hk', gn_of hkl', M_has, Option.bind_some, q2] at hA
  rw [if_neg (fun q => ce ((nI_eq (by omega) (by omega)).mp q)), idx6, gi_nI (by omega) (by decide), nIc (by omega)] at hB
  have hb := ha.2.1 k k' hk (by omega)
  by_cases ca : asked (6 * k + k') = -1
  · have hf : hasB (s.2.2.2.2.2.2.2.2.2.2.2.2.2.2.2.2.2.2.2.2.2.2.2.2.2.2.1 k) (nI k') = false := by
      cases q : hasB (s.2.2.2.2.2.2.2.2.2.2.2.2.2.2.2.2.2.2.2.2.2.2.2.2.2.2.1 k) (nI k') with
      | false => rfl
      | true => exact absurd ca (hb.mp q)
    rw [hf, if_pos (b2i_f rfl), gn_of hk, gn_of hkl, gn_of hk', gn_of hkl', r2, q7] at hA
    rw [if_pos ca, Option.bind_some] at hB
    dsimp only at hB
    rw [if_neg g5, M_mayAsk hn hk hk' r1 q1 hkl hkl' c3, Option.bind_some] at hB
    by_cases cm : mayBeK (s.2.2.2.2.2.2.2.2.2.2.2.2.2.2.2.2.2.2.2.2.1 k') (near k') (nI k) = true
    · rw [cm, if_neg (by decide), gn_of hk'] at hA
      rw [cm, if_neg (by decide), Option.bind_some] at hB
      dsimp only at hB
      obtain ⟨e2, s2, a2, b2, c2, d2, w2, f1, f2, f3, f4, f5, f6, -⟩ := step_of hz tx g3 hp1.ni (Or.inl ht1)
      refine Or.inr ⟨k, k', e2, s2, a2, b2, c2, d2, w2, hk, hk', ce, ca, ?_, ?_, f3, zsm_tr g4 f4, f5, by omega⟩
      · rw [hA, f1]; rfl
      · rw [hB, f2]; rfl
    · have cm : mayBeK (s.2.2.2.2.2.2.2.2.2.2.2.2.2.2.2.2.2.2.2.2.1 k') (near k') (nI k) = false := by simpa using cm
      refine Or.inl ⟨((7 : Int32), s1.2.2.1), a1, c1, d1, w1, nI k, nI k', ?_, ⟨7, by decide, by decide, rfl⟩, ?_⟩
      · rw [hA, cm]; rfl
      · rw [hB, cm, if_pos (show b2i false = 0 from rfl), flawN g5, Option.bind_some, Option.bind_some, g3.pl]
        dsimp only
        rw [goesOn5]
        rfl
  · have hf : hasB (s.2.2.2.2.2.2.2.2.2.2.2.2.2.2.2.2.2.2.2.2.2.2.2.2.2.2.1 k) (nI k') = true := hb.mpr ca
    refine Or.inl ⟨((3 : Int32), s1.2.2.1), a1, c1, d1, w1, nI k, nI k', ?_, ⟨3, by decide, by decide, rfl⟩, ?_⟩
    · rw [hA, hf, if_neg (by decide)]
    · rw [hB, if_neg ca, flawN g5, Option.bind_some, Option.bind_some, g3.pl]
      dsimp only
      rw [if_pos rfl, Option.bind_some]
      dsimp only
      rw [goesOn5]
      rfl
