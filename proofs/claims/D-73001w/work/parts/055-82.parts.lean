set_option maxRecDepth 100000
/-! reading on both sides: parts of a line -/
theorem over_part (k : Nat) (lo hi size spot place number f wa : Int32) (word : Int64) (tx : AI) : MX7_readPart k lo hi size spot 5 place number f wa word tx = some (lo, spot, 5, place, number, f, wa, word) := by
  unfold MX7_readPart
  rw [isWord5]
  rfl
theorem step_of {z e : Nat} (hz : z ≤ 900) (tx : AI) {s : ZS} {spot sort place number : Int32} {word : Int64} (h : TR z e s spot sort place number word) (hni : niI s) (ht : s.2.1 = 2 ∨ s.2.1 = 3 ∨ s.2.1 = 59) :
    ∃ e' s' a b c d w, MZ_step tx (nI z) s = some s' ∧ MX7_goesOn (nI z) spot sort place number word tx = some (a, b, c, d, w) ∧ TR z e' s' a b c d w ∧ zsm s s' ∧ ¬ b = 5 ∧ e ≤ e' ∧ (¬ b = 1 → ¬ b = 0 → e < e') := by
  obtain ⟨h5, hen, hsp, he⟩ : ¬ sort = 5 ∧ s.1 = nI e ∧ spot = nI e ∧ e ≤ z := by
    obtain ⟨-, h⟩ := h
    rcases h with ⟨a, b⟩ | ⟨a, b⟩ | ⟨a, b, c, d, q, -⟩ | ⟨a, b, c, d, q, -⟩ | ⟨a, b, c, d, q⟩
    · rw [a] at ht; exact absurd ht (by decide)
    · rw [a] at ht; exact absurd ht (by decide)
    · exact ⟨by rw [b]; decide, c, d, q⟩
    · exact ⟨by rw [b]; decide, c, d, q⟩
    · exact ⟨by rw [b]; decide, c, d, q⟩
  rw [hsp]
  exact step_sim hz tx s he hen hni sort place number word h5
/-- what a fault tells -/
def erO (k : Int32) : Prop := ∃ m, 1 ≤ m ∧ m ≤ 7 ∧ k = nI m
theorem part_sim {z e : Nat} (hz : z ≤ 900) (tx : AI) {s : ZS} {spot sort place number : Int32} {word : Int64} (h : TR z e s spot sort place number word) (h5 : ¬ sort = 5) (hni : niI s) {k : Nat} (h1 : 1 ≤ k) (hk : k < 18) (lo hi f wa : Int32) :
    (∃ er v a c d w, MZ_after tx (nI z) s k lo hi = some (.inl er) ∧ erO er.1 ∧ MX7_readPart k lo hi (nI z) spot sort place number f wa word tx = some (v, a, 5, c, d, er.1, er.2, w)) ∨
    (∃ v e' s' a b c d w, MZ_after tx (nI z) s k lo hi = some (.inr (v, s')) ∧ MX7_readPart k lo hi (nI z) spot sort place number f wa word tx = some (v, a, b, c, d, f, wa, w) ∧ TR z e' s' a b c d w ∧ zsm s s' ∧ ¬ b = 5 ∧ e < e' ∧ inB v lo hi = true) := by
  have hz : z ≤ 900 := hz
  by_cases q : isK s k = true
  · have ht := isK_tk q
    obtain ⟨e1, s1, a, b, c, d, w, g1, g2, g3, g4, g5, g6, g7⟩ := step_of hz tx h hni (Or.inl ht)
    have hA : MZ_must tx (nI z) s k = some (.inr s1) := by
      unfold MZ_must
      rw [M_takes h, if_pos q, g1]
      rfl
    by_cases c3 : b = 3
    · obtain ⟨ht3, -, -, -, -, hwh⟩ := (g3.h3).resolve_left (fun x => x.2 c3)
      by_cases ci : inB d lo hi = true
      · obtain ⟨e2, s2, a2, b2, c2, d2, w2, k1, k2, k3, k4, k5, k6, k7⟩ := step_of hz tx g3 (niI_sm g4 hni) (Or.inr (Or.inl ht3))
        refine Or.inr ⟨d, e2, s2, a2, b2, c2, d2, w2, ?_, ?_, k3, zsm_tr g4 k4, k5, ?_, ci⟩
        · unfold MZ_after
          rw [hA]
          show (if s1.2.1 = (3 : Int32) then _ else _) = _
          rw [if_pos ht3, M_in, hwh, Option.bind_some, if_neg (b2i_t ci), k1]
          rfl
        · unfold MX7_readPart
          rw [M_isWord h h1 hk, q, Option.bind_some, if_neg (by decide), Option.bind_some]
          dsimp only
          rw [g2, Option.bind_some]
          dsimp only
          rw [if_pos c3, M_in7, Option.bind_some, if_neg (b2i_t ci), Option.bind_some]
          dsimp only
          rw [if_neg g5, Option.bind_some, k2]
          rfl
        · have := g7 (by rw [c3]; decide) (by rw [c3]; decide)
          omega
      · refine Or.inl ⟨((4 : Int32), s1.2.2.1), lo, a, c, d, w, ?_, ⟨4, by decide, by decide, rfl⟩, ?_⟩
        · unfold MZ_after
          rw [hA]
          show (if s1.2.1 = (3 : Int32) then _ else _) = _
          rw [if_pos ht3, M_in, hwh, Option.bind_some, if_pos (b2i_f (by simpa using ci))]
        · unfold MX7_readPart
          rw [M_isWord h h1 hk, q, Option.bind_some, if_neg (by decide), Option.bind_some]
          dsimp only
          rw [g2, Option.bind_some]
          dsimp only
          rw [if_pos c3, M_in7, Option.bind_some, if_pos (b2i_f (by simpa using ci)), flawN g5, Option.bind_some, Option.bind_some]
          dsimp only
          rw [if_pos rfl, Option.bind_some, goesOn5, g3.pl]
          rfl
    · have ht3 := ((g3.h3).resolve_right (fun x => c3 x.2.1)).1
      refine Or.inl ⟨((1 : Int32), s1.2.2.1), lo, a, c, d, w, ?_, ⟨1, by decide, by decide, rfl⟩, ?_⟩
      · unfold MZ_after
        rw [hA]
        show (if s1.2.1 = (3 : Int32) then _ else _) = _
        rw [if_neg ht3]
      · unfold MX7_readPart
        rw [M_isWord h h1 hk, q, Option.bind_some, if_neg (by decide), Option.bind_some]
        dsimp only
        rw [g2, Option.bind_some]
        dsimp only
        rw [if_neg c3, flawN g5, Option.bind_some, Option.bind_some]
        dsimp only
        rw [if_pos rfl, Option.bind_some, goesOn5, g3.pl]
        rfl
  · have q : isK s k = false := by simpa using q
    refine Or.inl ⟨((1 : Int32), s.2.2.1), lo, spot, place, number, word, ?_, ⟨1, by decide, by decide, rfl⟩, ?_⟩
    · unfold MZ_after MZ_must
      rw [M_takes h, q, if_neg (by decide)]
      rfl
    · unfold MX7_readPart
      rw [M_isWord h h1 hk, q, Option.bind_some, if_pos (show b2i false = 0 from rfl), flawN h5, Option.bind_some, Option.bind_some]
      dsimp only
      rw [goesOn5, Option.bind_some]
      dsimp only
      rw [if_neg (by decide), flaw5, Option.bind_some, Option.bind_some]
      dsimp only
      rw [if_pos rfl, Option.bind_some, goesOn5, h.pl]
      rfl
theorem over_begin (p0 p1 size spot place number f wa hour : Int32) (word : Int64) (tx : AI) : MX7_lineBegins p0 p1 size spot 5 place number f wa word hour tx = some (spot, 5, place, number, f, wa, word) := by
  unfold MX7_lineBegins
  by_cases h1 : p0 = p1
  · rw [if_pos h1, flaw5, Option.bind_some]
    by_cases h2 : hour = -1
    · rw [if_pos h2]; rfl
    · rw [if_neg h2]; rfl
  · rw [if_neg h1]
    by_cases h2 : hour = -1
    · rw [if_pos h2]; rfl
    · rw [if_neg h2]; rfl
theorem begin_sim {z e : Nat} (hz : z ≤ 900) (tx : AI) {s : ZS} {spot sort place number : Int32} {word : Int64} (h : TR z e s spot sort place number word) (ht : s.2.1 = 2) (hni : niI s) {hour : Int32} (hh : s.2.2.2.2.2.2.2.1 = hour) (hv : hour = -1 ∨ ∃ t, t ≤ 99 ∧ hour = nI t) (b : Bool) {p0 p1 : Int32} (hb : b = true ↔ ¬ p0 = p1) (f wa : Int32) :
    (∃ er a c d w, MZ_begins tx (nI z) s b = some (.inl er) ∧ erO er.1 ∧ MX7_lineBegins p0 p1 (nI z) spot sort place number f wa word hour tx = some (a, 5, c, d, er.1, er.2, w)) ∨
    (∃ e' s' a b_ c d w, MZ_begins tx (nI z) s b = some (.inr s') ∧ MX7_lineBegins p0 p1 (nI z) spot sort place number f wa word hour tx = some (a, b_, c, d, f, wa, w) ∧ TR z e' s' a b_ c d w ∧ zsm s s' ∧ ¬ b_ = 5 ∧ e ≤ e' ∧ (∃ t, t ≤ 99 ∧ hour = nI t) ∧ ¬ p0 = p1) := by
  have h5 : ¬ sort = 5 := by
    rcases h.cases with ⟨a, -⟩ | ⟨-, b, -⟩
    · exact absurd ht a
    · rw [b]; decide
  cases b with
  | false =>
    have hp : p0 = p1 := Decidable.byContradiction fun q => absurd (hb.mpr q) (by decide)
    refine Or.inl ⟨((5 : Int32), s.2.2.1), spot, place, number, word, rfl, ⟨5, by decide, by decide, rfl⟩, ?_⟩
    unfold MX7_lineBegins
    rw [if_pos hp, flawN h5, Option.bind_some, h.pl]
    by_cases h2 : hour = -1
    · rw [if_pos h2]; rfl
    · rw [if_neg h2]; rfl
  | true =>
    have hp : ¬ p0 = p1 := hb.mp rfl
    rcases hv with hv | ⟨t, ht9, hv⟩
    · refine Or.inl ⟨((6 : Int32), s.2.2.1), spot, place, number, word, ?_, ⟨6, by decide, by decide, rfl⟩, ?_⟩
      · unfold MZ_begins
        rw [if_neg (by decide), hh, hv, if_neg (by decide)]
      · unfold MX7_lineBegins
        rw [if_neg hp, if_pos hv, flawN h5, Option.bind_some, h.pl]
        rfl
    · obtain ⟨e1, s1, a, b, c, d, w, g1, g2, g3, g4, g5, g6, g7⟩ := step_of hz tx h hni (Or.inl ht)
      have hn : ¬ hour = -1 := by rw [hv]; intro q; have := nI_pos' (show t < 2 ^ 31 by omega); rw [q] at this; exact absurd this (by decide)
      refine Or.inr ⟨e1, s1, a, b, c, d, w, ?_, ?_, g3, g4, g5, g6, ⟨t, ht9, hv⟩, hp⟩
      · unfold MZ_begins
        rw [if_neg (by decide), hh, hv, if_pos (nI_pos' (by omega)), g1]
        rfl
      · unfold MX7_lineBegins
        rw [if_neg hp, if_neg hn, g2]
        rfl
theorem over_ph {n : Nat} (hn : n ≤ 6) (place f wa : Int32) (word : Int64) (name : AL) : MX7_personAtHand 5 place f wa word (nI n) name = some (0, 5, f, wa) := by
  obtain ⟨r, hr⟩ := find_any hn name word
  unfold MX7_personAtHand
  rw [isName5, Option.bind_some, if_pos (show b2i false = 0 from rfl), flaw5, Option.bind_some, Option.bind_some, hr, Option.bind_some]
  dsimp only
  by_cases c : r = -1
  · rw [if_pos c, flaw5]; rfl
  · rw [if_neg c]; rfl
/-- the persons told so far, by names alone -/
def phR (n : Nat) (s : ZS) (name : AL) : Prop := n ≤ 6 ∧ nmR n s name ∧ (∀ k, k < n → s.2.2.2.2.2.2.2.2.2.2.2.2.2.2.2.2.2.2.2.2.1 k < 4) ∧ s.2.2.2.2.2.2.2.2.2.1 = nI n ∧ s.2.2.2.2.2.2.2.2.2.2.2.2.2.2.2.2.2.2.2.2.2.2.2.2.2.2.2.2.2.2.2 = n ∧ s.2.2.2.2.2.2.2.2.2.2.2.2.2.2.2.2.2.2.2.1 = n
theorem phR_sm {n : Nat} {s t : ZS} {name : AL} (h : zsm s t) (q : phR n s name) : phR n t name := by
  obtain ⟨q1, q2, q3, q4, q5, q6⟩ := q
  refine ⟨q1, fun k hk => ?_, by rw [zr_pk h.1]; exact q3, by rw [zr_pm h.1]; exact q4, by rw [zr_cn h.1]; exact q5, by rw [zr_np h.1]; exact q6⟩
  obtain ⟨a, b, c⟩ := q2 k hk
  rw [zr_ni h.1, (h.2.2 _ a).1, (h.2.2 _ a).2]
  exact ⟨Nat.lt_of_lt_of_le a h.2.1, b, c⟩
theorem phR.ni {n : Nat} {s : ZS} {name : AL} (q : phR n s name) : niI s := fun k hk => by
  obtain ⟨q1, q2, q3, q4, q5, q6⟩ := q
  rw [q6] at hk
  exact (q2 k hk).1
theorem nI_nm1 {k : Nat} (h : k < 2 ^ 31) : ¬ nI k = -1 := by intro q; have := nI_pos' h; rw [q] at this; exact absurd this (by decide)
theorem ph_sim {z e n : Nat} (tx : AI) {s : ZS} {spot sort place number : Int32} {word : Int64} (h : TR z e s spot sort place number word) (h5 : ¬ sort = 5) {name : AL} (hp : phR n s name) (f wa : Int32) :
    (∃ er, MZ_personHere tx (nI z) s = some (.inl er) ∧ erO er.1 ∧ MX7_personAtHand sort place f wa word (nI n) name = some (0, 5, er.1, er.2)) ∨
    (∃ k, k < n ∧ MZ_personHere tx (nI z) s = some (.inr (k, s)) ∧ MX7_personAtHand sort place f wa word (nI n) name = some (nI k, sort, f, wa) ∧ s.2.1 = 2) := by
  obtain ⟨hn, hr, hpk, hpm, hcn, hnp⟩ := hp
  by_cases q : isNm s = true
  · have ht : s.2.1 = 2 := by unfold isNm at q; simp only [Bool.and_eq_true, decide_eq_true_eq] at q; exact q.1
    obtain ⟨i, o, hi, hs, hf, hm, hk, -, -⟩ := M_find hn tx hr hpk hpm hcn hnp h ht
    cases o with
    | none =>
      refine Or.inl ⟨((2 : Int32), s.2.2.1), ?_, ⟨2, by decide, by decide, rfl⟩, ?_⟩
      · unfold MZ_personHere
        rw [M_mustName h, if_pos q, Option.bind_some]
        dsimp only
        rw [hi, Option.bind_some, gn_of hs, hf]
        rfl
      · unfold MX7_personAtHand
        rw [M_isName h, q, Option.bind_some, if_neg (by decide), Option.bind_some, hm, Option.bind_some]
        dsimp only
        rw [if_pos (show fdV none = -1 from rfl), flawN h5, h.pl]
        rfl
    | some k =>
      have hkn := hk k rfl
      refine Or.inr ⟨k, hkn, ?_, ?_, ht⟩
      · unfold MZ_personHere
        rw [M_mustName h, if_pos q, Option.bind_some]
        dsimp only
        rw [hi, Option.bind_some, gn_of hs, hf]
        rfl
      · unfold MX7_personAtHand
        rw [M_isName h, q, Option.bind_some, if_neg (by decide), Option.bind_some, hm, Option.bind_some]
        dsimp only
        rw [if_neg (show ¬ fdV (some k) = -1 from nI_nm1 (by omega)), Option.bind_some]
        dsimp only
        rw [if_neg h5]
        rfl
  · have q : isNm s = false := by simpa using q
    refine Or.inl ⟨((1 : Int32), s.2.2.1), ?_, ⟨1, by decide, by decide, rfl⟩, ?_⟩
    · unfold MZ_personHere
      rw [M_mustName h, q, if_neg (by decide)]
      rfl
    · obtain ⟨r, hr⟩ := find_any hn name word
      unfold MX7_personAtHand
      rw [M_isName h, q, Option.bind_some, if_pos (show b2i false = 0 from rfl), flawN h5, Option.bind_some, Option.bind_some, hr, Option.bind_some, h.pl]
      dsimp only
      by_cases c : r = -1
      · rw [if_pos c, flaw5]; rfl
      · rw [if_neg c]; rfl
