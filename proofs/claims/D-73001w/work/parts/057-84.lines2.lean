set_option maxRecDepth 100000
/-! reading on both sides: near, asked, heard, went -/
theorem lim_lt {k M : Nat} (hM : M < 2 ^ 31) (hk : k ≤ M) : (nI k = nI M) ↔ nI M ≤ nI k := by
  rw [nI_eq (by omega) hM, nI_leI hM (by omega)]
  omega
set_option maxHeartbeats 4000000 in
theorem nearLine_sim {z e n m : Nat} (hz : z ≤ 900) (tx : AI) {s : ZS} {spot sort place number : Int32} {word : Int64} (h : TR z e s spot sort place number word) (ht : s.2.1 = 2) {hour gives people nears askeds heards wents : Int32} {name : AL} {went kind near asked has dies : AI} (hp : phR n s name) (hc : cntR n m s hour gives people nears askeds heards wents) (hr : perR n s went kind near has dies) (f wa : Int32) :
    (∃ er a c d w x y, MZ_nearLine tx (nI z) s = some (.inl er) ∧ erO er.1 ∧ MX7_readNear (nI z) spot sort place number f wa word hour (nI n) nears tx name near = some (a, 5, c, d, er.1, er.2, w, x, y)) ∨
    (∃ e' s1 k k' a b c d w, k < n ∧ k' < n ∧ MZ_nearLine tx (nI z) s = some (.inr ((s1.1, s1.2.1, s1.2.2.1, s1.2.2.2.1, s1.2.2.2.2.1, s1.2.2.2.2.2.1, s1.2.2.2.2.2.2.1, s1.2.2.2.2.2.2.2.1, s1.2.2.2.2.2.2.2.2.1, s1.2.2.2.2.2.2.2.2.2.1, (s1.2.2.2.2.2.2.2.2.2.2.1 + (1 : Int32)), s1.2.2.2.2.2.2.2.2.2.2.2.1, s1.2.2.2.2.2.2.2.2.2.2.2.2.1, s1.2.2.2.2.2.2.2.2.2.2.2.2.2.1, s1.2.2.2.2.2.2.2.2.2.2.2.2.2.2.1, s1.2.2.2.2.2.2.2.2.2.2.2.2.2.2.2.1, s1.2.2.2.2.2.2.2.2.2.2.2.2.2.2.2.2.1, s1.2.2.2.2.2.2.2.2.2.2.2.2.2.2.2.2.2.1, s1.2.2.2.2.2.2.2.2.2.2.2.2.2.2.2.2.2.2.1, s1.2.2.2.2.2.2.2.2.2.2.2.2.2.2.2.2.2.2.2.1, s1.2.2.2.2.2.2.2.2.2.2.2.2.2.2.2.2.2.2.2.2.1, s1.2.2.2.2.2.2.2.2.2.2.2.2.2.2.2.2.2.2.2.2.2.1, s1.2.2.2.2.2.2.2.2.2.2.2.2.2.2.2.2.2.2.2.2.2.2.1, s1.2.2.2.2.2.2.2.2.2.2.2.2.2.2.2.2.2.2.2.2.2.2.2.1, s1.2.2.2.2.2.2.2.2.2.2.2.2.2.2.2.2.2.2.2.2.2.2.2.2.1, (upd (upd s1.2.2.2.2.2.2.2.2.2.2.2.2.2.2.2.2.2.2.2.2.2.2.2.2.2.1 k (s1.2.2.2.2.2.2.2.2.2.2.2.2.2.2.2.2.2.2.2.2.2.2.2.2.2.1 k ||| ((1 : Int32) <<< (nI k' &&& 31)))) k' ((upd s1.2.2.2.2.2.2.2.2.2.2.2.2.2.2.2.2.2.2.2.2.2.2.2.2.2.1 k (s1.2.2.2.2.2.2.2.2.2.2.2.2.2.2.2.2.2.2.2.2.2.2.2.2.2.1 k ||| ((1 : Int32) <<< (nI k' &&& 31)))) k' ||| ((1 : Int32) <<< (nI k &&& 31)))), s1.2.2.2.2.2.2.2.2.2.2.2.2.2.2.2.2.2.2.2.2.2.2.2.2.2.2.1, s1.2.2.2.2.2.2.2.2.2.2.2.2.2.2.2.2.2.2.2.2.2.2.2.2.2.2.2.1, s1.2.2.2.2.2.2.2.2.2.2.2.2.2.2.2.2.2.2.2.2.2.2.2.2.2.2.2.2.1, s1.2.2.2.2.2.2.2.2.2.2.2.2.2.2.2.2.2.2.2.2.2.2.2.2.2.2.2.2.2.1, s1.2.2.2.2.2.2.2.2.2.2.2.2.2.2.2.2.2.2.2.2.2.2.2.2.2.2.2.2.2.2.1, s1.2.2.2.2.2.2.2.2.2.2.2.2.2.2.2.2.2.2.2.2.2.2.2.2.2.2.2.2.2.2.2) : ZS)) ∧ MX7_readNear (nI z) spot sort place number f wa word hour (nI n) nears tx name near = some (a, b, c, d, f, wa, w, nears + (1 : Int32), upd (upd near k (near k ||| ((1 : Int32) <<< (nI k' &&& 31)))) k' ((upd near k (near k ||| ((1 : Int32) <<< (nI k' &&& 31)))) k' ||| ((1 : Int32) <<< (nI k &&& 31)))) ∧ TR z e' s1 a b c d w ∧ zsm s s1 ∧ ¬ b = 5 ∧ e ≤ e' ∧ (∃ t, t ≤ 99 ∧ hour = nI t) ∧ ¬ nears = 9) := by
  have hn := hp.1
  have hni := hp.ni
  obtain ⟨-, hhr, hv, -, -, hnm, ⟨kn, hkn, hkn2⟩, -⟩ := hc
  have hcase : ∀ b : Bool, MZ_nearLine tx (nI z) s = (MZ_begins tx (nI z) s (decide (¬ nears = 9))).bind (fun r47_ => match r47_ with
    | .inl e => some (.inl e)
    | .inr r47 =>
      (MZ_personHere tx (nI z) r47).bind fun r50_ => match r50_ with
      | .inl e => some (.inl e)
      | .inr r50 =>
        gn r50.1 r50.2.2.2.2.2.2.2.2.2.2.2.2.2.2.2.2.2.2.2.2.1 <|
        (MZ_step tx (nI z) r50.2).bind fun r53 =>
        gn r50.1 r53.2.2.2.2.2.2.2.2.2.2.2.2.2.2.2.2.2.2.2.1 <|
        (MZ_personHere tx (nI z) r53).bind fun r57_ => match r57_ with
        | .inl e => some (.inl e)
        | .inr r57 =>
          gn r50.1 r57.2.2.2.2.2.2.2.2.2.2.2.2.2.2.2.2.2.2.2.2.1 <|
          gn r57.1 r57.2.2.2.2.2.2.2.2.2.2.2.2.2.2.2.2.2.2.2.2.1 <|
          if r50.1 = r57.1 then
            some (.inl ((3 : Int32), r57.2.2.2.1))
          else
            gn r50.1 r57.2.2.2.2.2.2.2.2.2.2.2.2.2.2.2.2.2.2.2.2.1 <|
            gn (r57.2.2.2.2.2.2.2.2.2.2.2.2.2.2.2.2.2.2.2.2.2.1 r50.1) 4 <|
            gn r57.1 r57.2.2.2.2.2.2.2.2.2.2.2.2.2.2.2.2.2.2.2.2.1 <|
            gn (r57.2.2.2.2.2.2.2.2.2.2.2.2.2.2.2.2.2.2.2.2.2.1 r57.1) 4 <|
            (MX1_has (r57.2.2.2.2.2.2.2.2.2.2.2.2.2.2.2.2.2.2.2.2.2.2.2.2.2.2.1 r50.1) (r57.2.2.2.2.2.2.2.2.2.2.2.2.2.2.2.2.2.2.2.2.2.2.2.1 r57.1)).bind fun r70 =>
            if (b2i r70) = 0 then
              gn r57.1 r57.2.2.2.2.2.2.2.2.2.2.2.2.2.2.2.2.2.2.2.2.1 <|
              gn r50.1 r57.2.2.2.2.2.2.2.2.2.2.2.2.2.2.2.2.2.2.2.2.1 <|
              (MZ_step tx (nI z) r57.2).bind fun r73 =>
              gn r50.1 r73.2.2.2.2.2.2.2.2.2.2.2.2.2.2.2.2.2.2.2.1 <|
              gn (r73.2.2.2.2.2.2.2.2.2.2.2.2.2.2.2.2.2.2.2.2.1 r50.1) 4 <|
              gn r57.1 r73.2.2.2.2.2.2.2.2.2.2.2.2.2.2.2.2.2.2.2.1 <|
              gn (r73.2.2.2.2.2.2.2.2.2.2.2.2.2.2.2.2.2.2.2.2.1 r57.1) 4 <|
              gn r50.1 r73.2.2.2.2.2.2.2.2.2.2.2.2.2.2.2.2.2.2.2.1 <|
              gn (r73.2.2.2.2.2.2.2.2.2.2.2.2.2.2.2.2.2.2.2.2.1 r50.1) 4 <|
              gn r57.1 r73.2.2.2.2.2.2.2.2.2.2.2.2.2.2.2.2.2.2.2.1 <|
              gn (r73.2.2.2.2.2.2.2.2.2.2.2.2.2.2.2.2.2.2.2.2.1 r57.1) 4 <|
              gn r50.1 r73.2.2.2.2.2.2.2.2.2.2.2.2.2.2.2.2.2.2.2.1 <|
              gn (r73.2.2.2.2.2.2.2.2.2.2.2.2.2.2.2.2.2.2.2.2.1 r50.1) 4 <|
              gn r57.1 r73.2.2.2.2.2.2.2.2.2.2.2.2.2.2.2.2.2.2.2.1 <|
              gn (r73.2.2.2.2.2.2.2.2.2.2.2.2.2.2.2.2.2.2.2.2.1 r57.1) 4 <|
              some (.inr ((r73.1, r73.2.1, r73.2.2.1, r73.2.2.2.1, r73.2.2.2.2.1, r73.2.2.2.2.2.1, r73.2.2.2.2.2.2.1, r73.2.2.2.2.2.2.2.1, r73.2.2.2.2.2.2.2.2.1, r73.2.2.2.2.2.2.2.2.2.1, (r73.2.2.2.2.2.2.2.2.2.2.1 + (1 : Int32)), r73.2.2.2.2.2.2.2.2.2.2.2.1, r73.2.2.2.2.2.2.2.2.2.2.2.2.1, r73.2.2.2.2.2.2.2.2.2.2.2.2.2.1, r73.2.2.2.2.2.2.2.2.2.2.2.2.2.2.1, r73.2.2.2.2.2.2.2.2.2.2.2.2.2.2.2.1, r73.2.2.2.2.2.2.2.2.2.2.2.2.2.2.2.2.1, r73.2.2.2.2.2.2.2.2.2.2.2.2.2.2.2.2.2.1, r73.2.2.2.2.2.2.2.2.2.2.2.2.2.2.2.2.2.2.1, r73.2.2.2.2.2.2.2.2.2.2.2.2.2.2.2.2.2.2.2.1, r73.2.2.2.2.2.2.2.2.2.2.2.2.2.2.2.2.2.2.2.2.1, r73.2.2.2.2.2.2.2.2.2.2.2.2.2.2.2.2.2.2.2.2.2.1, r73.2.2.2.2.2.2.2.2.2.2.2.2.2.2.2.2.2.2.2.2.2.2.1, r73.2.2.2.2.2.2.2.2.2.2.2.2.2.2.2.2.2.2.2.2.2.2.2.1, r73.2.2.2.2.2.2.2.2.2.2.2.2.2.2.2.2.2.2.2.2.2.2.2.2.1, (upd (upd r73.2.2.2.2.2.2.2.2.2.2.2.2.2.2.2.2.2.2.2.2.2.2.2.2.2.1 r50.1 ((r73.2.2.2.2.2.2.2.2.2.2.2.2.2.2.2.2.2.2.2.2.2.2.2.2.2.1 r50.1) ||| ((1 : Int32) <<< ((r73.2.2.2.2.2.2.2.2.2.2.2.2.2.2.2.2.2.2.2.2.2.2.1 r57.1) &&& 31)))) r57.1 (((upd r73.2.2.2.2.2.2.2.2.2.2.2.2.2.2.2.2.2.2.2.2.2.2.2.2.2.1 r50.1 ((r73.2.2.2.2.2.2.2.2.2.2.2.2.2.2.2.2.2.2.2.2.2.2.2.2.2.1 r50.1) ||| ((1 : Int32) <<< ((r73.2.2.2.2.2.2.2.2.2.2.2.2.2.2.2.2.2.2.2.2.2.2.1 r57.1) &&& 31)))) r57.1) ||| ((1 : Int32) <<< ((r73.2.2.2.2.2.2.2.2.2.2.2.2.2.2.2.2.2.2.2.2.2.2.1 r50.1) &&& 31)))), r73.2.2.2.2.2.2.2.2.2.2.2.2.2.2.2.2.2.2.2.2.2.2.2.2.2.2.1, r73.2.2.2.2.2.2.2.2.2.2.2.2.2.2.2.2.2.2.2.2.2.2.2.2.2.2.2.1, r73.2.2.2.2.2.2.2.2.2.2.2.2.2.2.2.2.2.2.2.2.2.2.2.2.2.2.2.2.1, r73.2.2.2.2.2.2.2.2.2.2.2.2.2.2.2.2.2.2.2.2.2.2.2.2.2.2.2.2.2.1, r73.2.2.2.2.2.2.2.2.2.2.2.2.2.2.2.2.2.2.2.2.2.2.2.2.2.2.2.2.2.2.1, r73.2.2.2.2.2.2.2.2.2.2.2.2.2.2.2.2.2.2.2.2.2.2.2.2.2.2.2.2.2.2.2) : ZS))
            else
              some (.inl ((3 : Int32), r57.2.2.2.1))) := by
    intro _
    unfold MZ_nearLine
    rw [hnm]
    by_cases c : nears = 9
    · rw [if_pos (by rw [c]; decide), show decide (¬ nears = 9) = false by simp [c]] <;> try rfl
    · rw [if_neg (by rw [hkn2] at c ⊢; exact fun q => c ((lim_lt (by decide) hkn).mpr q)), show decide (¬ nears = 9) = true by simp [c]] <;> try rfl
  have hA := hcase true
  clear hcase
  rcases begin_sim hz tx h ht hni hhr hv (decide (¬ nears = 9)) (p0 := nears) (p1 := 9) (by simp) f wa with ⟨er, a, c, d, w, k1, k2, k3⟩ | ⟨e1, s1, a1, b1, c1, d1, w1, k1, k2, k3, k4, k5, k6, k7, k8⟩
  · refine Or.inl ⟨er, a, c, d, w, nears, near, ?_, k2, ?_⟩
    · rw [hA, k1]; rfl
    · unfold MX7_readNear
      rw [k3, Option.bind_some]
      dsimp only
      rw [over_ph hn, Option.bind_some]
      dsimp only
      rw [goesOn5, Option.bind_some]
      dsimp only
      rw [over_ph hn, Option.bind_some]
      dsimp only
      rw [if_pos rfl, Option.bind_some]
      dsimp only
      rw [goesOn5, Option.bind_some]
      dsimp only
      rw [if_pos rfl]
  rw [k1, Option.bind_some] at hA
  dsimp only at hA
  have hB : MX7_readNear (nI z) spot sort place number f wa word hour (nI n) nears tx name near = MX7_readNear (nI z) spot sort place number f wa word hour (nI n) nears tx name near := rfl
  conv at hB =>
    rhs
    unfold MX7_readNear
    rw [k2, Option.bind_some]
  dsimp only at hB
  have hp1 := phR_sm k4 hp
  have hr1 := perR_sm k4 hr
  rcases ph_sim tx k3 k5 hp1 f wa with ⟨er, j1, j2, j3⟩ | ⟨k, hk, j1, j2, ht1⟩
  · refine Or.inl ⟨er, a1, c1, d1, w1, nears, near, ?_, j2, ?_⟩
    · rw [hA, j1]; rfl
    · rw [hB, j3, Option.bind_some]
      dsimp only
      rw [goesOn5, Option.bind_some]
      dsimp only
      rw [over_ph hn, Option.bind_some]
      dsimp only
      rw [if_pos rfl, Option.bind_some]
      dsimp only
      rw [goesOn5, Option.bind_some]
      dsimp only
      rw [if_pos rfl]
  obtain ⟨e2, s2, a2, b2, c2, d2, w2, g1, g2, g3, g4, g5, g6, -⟩ := step_of hz tx k3 hp1.ni (Or.inl ht1)
  have hp2 := phR_sm g4 hp1
  have hr2 := perR_sm g4 hr1
  rw [j1, Option.bind_some] at hA
  dsimp only at hA
  rw [hp1.2.2.2.2.2, gn_of hk, g1, Option.bind_some, hp2.2.2.2.2.2, gn_of hk] at hA
  rw [j2, Option.bind_some] at hB
  dsimp only at hB
  rw [g2, Option.bind_some] at hB
  dsimp only at hB
  rcases ph_sim tx g3 g5 hp2 f wa with ⟨er, i1, i2, i3⟩ | ⟨k', hk', i1, i2, ht2⟩
  · refine Or.inl ⟨er, a2, c2, d2, w2, nears, near, ?_, i2, ?_⟩
    · rw [hA, i1]; rfl
    · rw [hB, i3, Option.bind_some]
      dsimp only
      rw [if_pos rfl, Option.bind_some]
      dsimp only
      rw [goesOn5, Option.bind_some]
      dsimp only
      rw [if_pos rfl]
  rw [i1, Option.bind_some] at hA
  dsimp only at hA
  rw [hp2.2.2.2.2.2, gn_of hk, gn_of hk'] at hA
  rw [i2, Option.bind_some] at hB
  dsimp only at hB
  rw [if_neg g5] at hB
  by_cases ce : k = k'
  · refine Or.inl ⟨((3 : Int32), s2.2.2.1), a2, c2, d2, w2, nears, near, ?_, ⟨3, by decide, by decide, rfl⟩, ?_⟩
    · rw [hA, if_pos ce]
    · rw [hB, if_pos (by rw [ce]), flawN g5, Option.bind_some, Option.bind_some, g3.pl]
      dsimp only
      rw [goesOn5, Option.bind_some]
      dsimp only
      rw [if_pos rfl]
  have hkl := hp2.2.2.1 k hk
  have hkl' := hp2.2.2.1 k' hk'
  obtain ⟨-, q2, -, -, -, -, q7, -⟩ := hr2.1 k hk
  obtain ⟨-, y2, -, -, -, -, y7, -⟩ := hr2.1 k' hk'
  rw [if_neg ce, gn_of hk, gn_of hkl, gn_of hk', gn_of hkl', M_has, Option.bind_some, q7, y2] at hA
  rw [if_neg (fun q => ce ((nI_eq (by omega) (by omega)).mp q)), gi_nI (by omega) (by decide), nIc (by omega), M_bit, Option.bind_some] at hB
  by_cases cb : hasB (near k) (nI k') = true
  · refine Or.inl ⟨((3 : Int32), s2.2.2.1), a2, c2, d2, w2, nears, near, ?_, ⟨3, by decide, by decide, rfl⟩, ?_⟩
    · rw [hA, cb, if_neg (by decide)]
    · rw [hB, cb, if_neg (by decide), flawN g5, Option.bind_some, Option.bind_some, g3.pl]
      dsimp only
      rw [goesOn5, Option.bind_some]
      dsimp only
      rw [if_pos rfl]
  have cb : hasB (near k) (nI k') = false := by simpa using cb
  obtain ⟨e3, s3, a3, b3, c3, d3, w3, f1, f2, f3, f4, f5, f6, -⟩ := step_of hz tx g3 hp2.ni (Or.inl ht2)
  have hp3 := phR_sm f4 hp2
  have hr3 := perR_sm f4 hr2
  have hl3 := hp3.2.2.1 k hk
  have hl3' := hp3.2.2.1 k' hk'
  obtain ⟨-, u2, -, -, -, -, u7, -⟩ := hr3.1 k hk
  obtain ⟨-, v2, -, -, -, -, v7, -⟩ := hr3.1 k' hk'
  refine Or.inr ⟨e3, s3, k, k', a3, b3, c3, d3, w3, hk, hk', ?_, ?_, f3, zsm_tr k4 (zsm_tr g4 f4), f5, by omega, k7, k8⟩
  · rw [hA, cb, if_pos (b2i_f rfl), gn_of hk', gn_of hk, f1, Option.bind_some, hp3.2.2.2.2.2]
    simp only [gn_of hk, gn_of hk', gn_of hl3, gn_of hl3']
    rw [u2, v2]
  · rw [hB, cb, if_pos (b2i_f rfl), Option.bind_some]
    dsimp only
    rw [f2, Option.bind_some]
    dsimp only
    rw [if_neg f5]
    simp only [gi_nI (show k < 6 by omega) (show 6 < 2 ^ 31 by decide), gi_nI (show k' < 6 by omega) (show 6 < 2 ^ 31 by decide), nIc (show k < 2 ^ 31 by omega), nIc (show k' < 2 ^ 31 by omega), lt_]
theorem M_lay {n k k' : Nat} (hn : n ≤ 6) (hk : k < n) (hk' : k' < n) (tx : AI) (size : Int32) {s : ZS} (hnp : s.2.2.2.2.2.2.2.2.2.2.2.2.2.2.2.2.2.2.2.1 = n) (hak : s.2.2.2.2.2.1 = some k) (hpk : ∀ j, j < n → s.2.2.2.2.2.2.2.2.2.2.2.2.2.2.2.2.2.2.2.2.1 j < 4) (h1 : s.2.2.2.2.2.2.2.2.2.2.2.2.2.2.2.2.2.2.2.2.2.2.1 k = nI k) (h2 : s.2.2.2.2.2.2.2.2.2.2.2.2.2.2.2.2.2.2.2.2.2.2.1 k' = nI k') (t : Int32) : MZ_lay tx size s k' t = some ((s.1, s.2.1, s.2.2.1, s.2.2.2.1, s.2.2.2.2.1, s.2.2.2.2.2.1, s.2.2.2.2.2.2.1, s.2.2.2.2.2.2.2.1, s.2.2.2.2.2.2.2.2.1, s.2.2.2.2.2.2.2.2.2.1, s.2.2.2.2.2.2.2.2.2.2.1, s.2.2.2.2.2.2.2.2.2.2.2.1, s.2.2.2.2.2.2.2.2.2.2.2.2.1, s.2.2.2.2.2.2.2.2.2.2.2.2.2.1, (upd s.2.2.2.2.2.2.2.2.2.2.2.2.2.2.1 (6 * k + k') t), s.2.2.2.2.2.2.2.2.2.2.2.2.2.2.2.1, s.2.2.2.2.2.2.2.2.2.2.2.2.2.2.2.2.1, s.2.2.2.2.2.2.2.2.2.2.2.2.2.2.2.2.2.1, s.2.2.2.2.2.2.2.2.2.2.2.2.2.2.2.2.2.2.1, s.2.2.2.2.2.2.2.2.2.2.2.2.2.2.2.2.2.2.2.1, s.2.2.2.2.2.2.2.2.2.2.2.2.2.2.2.2.2.2.2.2.1, s.2.2.2.2.2.2.2.2.2.2.2.2.2.2.2.2.2.2.2.2.2.1, s.2.2.2.2.2.2.2.2.2.2.2.2.2.2.2.2.2.2.2.2.2.2.1, s.2.2.2.2.2.2.2.2.2.2.2.2.2.2.2.2.2.2.2.2.2.2.2.1, s.2.2.2.2.2.2.2.2.2.2.2.2.2.2.2.2.2.2.2.2.2.2.2.2.1, s.2.2.2.2.2.2.2.2.2.2.2.2.2.2.2.2.2.2.2.2.2.2.2.2.2.1, (upd s.2.2.2.2.2.2.2.2.2.2.2.2.2.2.2.2.2.2.2.2.2.2.2.2.2.2.1 k ((s.2.2.2.2.2.2.2.2.2.2.2.2.2.2.2.2.2.2.2.2.2.2.2.2.2.2.1 k) ||| ((1 : Int32) <<< (nI k' &&& 31)))), s.2.2.2.2.2.2.2.2.2.2.2.2.2.2.2.2.2.2.2.2.2.2.2.2.2.2.2.1, s.2.2.2.2.2.2.2.2.2.2.2.2.2.2.2.2.2.2.2.2.2.2.2.2.2.2.2.2.1, s.2.2.2.2.2.2.2.2.2.2.2.2.2.2.2.2.2.2.2.2.2.2.2.2.2.2.2.2.2.1, s.2.2.2.2.2.2.2.2.2.2.2.2.2.2.2.2.2.2.2.2.2.2.2.2.2.2.2.2.2.2.1, s.2.2.2.2.2.2.2.2.2.2.2.2.2.2.2.2.2.2.2.2.2.2.2.2.2.2.2.2.2.2.2) : ZS) := by
  unfold MZ_lay
  rw [hak, Option.bind_some, hnp]
  simp only [gn_of hk, gn_of hk', gn_of (hpk k hk), gn_of (hpk k' hk')]
  rw [h1, h2, idx6, gi_nI (by omega) (by decide), nIc (by omega)]
set_option maxHeartbeats 4000000 in
theorem askedLine_sim {z e n m : Nat} (hz : z ≤ 900) (tx : AI) {s : ZS} {spot sort place number : Int32} {word : Int64} (h : TR z e s spot sort place number word) (ht : s.2.1 = 2) {hour gives people nears askeds heards wents : Int32} {name : AL} {went kind near asked has dies : AI} (hp : phR n s name) (hc : cntR n m s hour gives people nears askeds heards wents) (hr : perR n s went kind near has dies) (ha : askR n s asked) (f wa : Int32) :
    (∃ er a c d w x y u, MZ_askedLine tx (nI z) s = some (.inl er) ∧ erO er.1 ∧ MX7_readAsked (nI z) spot sort place number f wa word hour (nI n) askeds tx kind near asked name = some (a, 5, c, d, er.1, er.2, w, x, y, u)) ∨
    (∃ e' s1 s2 k k' t a b c d w x, k < n ∧ k' < n ∧ ¬ k = k' ∧ asked (6 * k + k') = -1 ∧ t ≤ 99 ∧ zsm s s1 ∧ zsm ((s1.1, s1.2.1, s1.2.2.1, s1.2.2.2.1, s1.2.2.2.2.1, (some k), s1.2.2.2.2.2.2.1, s1.2.2.2.2.2.2.2.1, s1.2.2.2.2.2.2.2.2.1, s1.2.2.2.2.2.2.2.2.2.1, s1.2.2.2.2.2.2.2.2.2.2.1, s1.2.2.2.2.2.2.2.2.2.2.2.1, s1.2.2.2.2.2.2.2.2.2.2.2.2.1, s1.2.2.2.2.2.2.2.2.2.2.2.2.2.1, s1.2.2.2.2.2.2.2.2.2.2.2.2.2.2.1, s1.2.2.2.2.2.2.2.2.2.2.2.2.2.2.2.1, s1.2.2.2.2.2.2.2.2.2.2.2.2.2.2.2.2.1, s1.2.2.2.2.2.2.2.2.2.2.2.2.2.2.2.2.2.1, s1.2.2.2.2.2.2.2.2.2.2.2.2.2.2.2.2.2.2.1, s1.2.2.2.2.2.2.2.2.2.2.2.2.2.2.2.2.2.2.2.1, s1.2.2.2.2.2.2.2.2.2.2.2.2.2.2.2.2.2.2.2.2.1, s1.2.2.2.2.2.2.2.2.2.2.2.2.2.2.2.2.2.2.2.2.2.1, s1.2.2.2.2.2.2.2.2.2.2.2.2.2.2.2.2.2.2.2.2.2.2.1, s1.2.2.2.2.2.2.2.2.2.2.2.2.2.2.2.2.2.2.2.2.2.2.2.1, s1.2.2.2.2.2.2.2.2.2.2.2.2.2.2.2.2.2.2.2.2.2.2.2.2.1, s1.2.2.2.2.2.2.2.2.2.2.2.2.2.2.2.2.2.2.2.2.2.2.2.2.2.1, s1.2.2.2.2.2.2.2.2.2.2.2.2.2.2.2.2.2.2.2.2.2.2.2.2.2.2.1, s1.2.2.2.2.2.2.2.2.2.2.2.2.2.2.2.2.2.2.2.2.2.2.2.2.2.2.2.1, s1.2.2.2.2.2.2.2.2.2.2.2.2.2.2.2.2.2.2.2.2.2.2.2.2.2.2.2.2.1, s1.2.2.2.2.2.2.2.2.2.2.2.2.2.2.2.2.2.2.2.2.2.2.2.2.2.2.2.2.2.1, s1.2.2.2.2.2.2.2.2.2.2.2.2.2.2.2.2.2.2.2.2.2.2.2.2.2.2.2.2.2.2.1, s1.2.2.2.2.2.2.2.2.2.2.2.2.2.2.2.2.2.2.2.2.2.2.2.2.2.2.2.2.2.2.2) : ZS) s2 ∧ MZ_askedLine tx (nI z) s = some (.inr ((s2.1, s2.2.1, s2.2.2.1, s2.2.2.2.1, s2.2.2.2.2.1, s2.2.2.2.2.2.1, s2.2.2.2.2.2.2.1, s2.2.2.2.2.2.2.2.1, s2.2.2.2.2.2.2.2.2.1, s2.2.2.2.2.2.2.2.2.2.1, s2.2.2.2.2.2.2.2.2.2.2.1, (s2.2.2.2.2.2.2.2.2.2.2.2.1 + (1 : Int32)), s2.2.2.2.2.2.2.2.2.2.2.2.2.1, s2.2.2.2.2.2.2.2.2.2.2.2.2.2.1, (upd s2.2.2.2.2.2.2.2.2.2.2.2.2.2.2.1 (6 * k + k') (nI t)), s2.2.2.2.2.2.2.2.2.2.2.2.2.2.2.2.1, s2.2.2.2.2.2.2.2.2.2.2.2.2.2.2.2.2.1, s2.2.2.2.2.2.2.2.2.2.2.2.2.2.2.2.2.2.1, s2.2.2.2.2.2.2.2.2.2.2.2.2.2.2.2.2.2.2.1, s2.2.2.2.2.2.2.2.2.2.2.2.2.2.2.2.2.2.2.2.1, s2.2.2.2.2.2.2.2.2.2.2.2.2.2.2.2.2.2.2.2.2.1, s2.2.2.2.2.2.2.2.2.2.2.2.2.2.2.2.2.2.2.2.2.2.1, s2.2.2.2.2.2.2.2.2.2.2.2.2.2.2.2.2.2.2.2.2.2.2.1, s2.2.2.2.2.2.2.2.2.2.2.2.2.2.2.2.2.2.2.2.2.2.2.2.1, s2.2.2.2.2.2.2.2.2.2.2.2.2.2.2.2.2.2.2.2.2.2.2.2.2.1, s2.2.2.2.2.2.2.2.2.2.2.2.2.2.2.2.2.2.2.2.2.2.2.2.2.2.1, (upd s2.2.2.2.2.2.2.2.2.2.2.2.2.2.2.2.2.2.2.2.2.2.2.2.2.2.2.1 k ((s2.2.2.2.2.2.2.2.2.2.2.2.2.2.2.2.2.2.2.2.2.2.2.2.2.2.2.1 k) ||| ((1 : Int32) <<< (nI k' &&& 31)))), s2.2.2.2.2.2.2.2.2.2.2.2.2.2.2.2.2.2.2.2.2.2.2.2.2.2.2.2.1, s2.2.2.2.2.2.2.2.2.2.2.2.2.2.2.2.2.2.2.2.2.2.2.2.2.2.2.2.2.1, s2.2.2.2.2.2.2.2.2.2.2.2.2.2.2.2.2.2.2.2.2.2.2.2.2.2.2.2.2.2.1, s2.2.2.2.2.2.2.2.2.2.2.2.2.2.2.2.2.2.2.2.2.2.2.2.2.2.2.2.2.2.2.1, s2.2.2.2.2.2.2.2.2.2.2.2.2.2.2.2.2.2.2.2.2.2.2.2.2.2.2.2.2.2.2.2) : ZS)) ∧ MX7_readAsked (nI z) spot sort place number f wa word hour (nI n) askeds tx kind near asked name = some (a, b, c, d, f, wa, w, x, askeds + (1 : Int32), upd asked (6 * k + k') (nI t)) ∧ TR z e' s2 a b c d w ∧ ¬ b = 5 ∧ e < e' ∧ (∃ t, t ≤ 99 ∧ hour = nI t) ∧ ¬ askeds = 12) := by
  have hn := hp.1
  have hni := hp.ni
  obtain ⟨-, hhr, hv, -, -, -, -, hnm, ⟨kn, hkn, hkn2⟩, -⟩ := hc
  have hA : MZ_askedLine tx (nI z) s = (MZ_begins tx (nI z) s (decide (¬ askeds = 12))).bind (fun r16_ => match r16_ with
    | .inl e => some (.inl e)
    | .inr r16 =>
      (MZ_asking tx (nI z) r16).bind fun r19_ => match r19_ with
      | .inl e => some (.inl e)
      | .inr r19 =>
        gn r19.1 r19.2.2.2.2.2.2.2.2.2.2.2.2.2.2.2.2.2.2.2.2.1 <|
        (MZ_after tx (nI z) r19.2 16 (0 : Int32) r19.2.2.2.2.2.2.2.2.1).bind fun r22_ => match r22_ with
        | .inl e => some (.inl e)
        | .inr r22 =>
          gn r19.1 r22.2.2.2.2.2.2.2.2.2.2.2.2.2.2.2.2.2.2.2.2.1 <|
          (MZ_lay tx (nI z) r22.2 r19.1 r22.1).bind fun r26 =>
          some (.inr ((r26.1, r26.2.1, r26.2.2.1, r26.2.2.2.1, r26.2.2.2.2.1, r26.2.2.2.2.2.1, r26.2.2.2.2.2.2.1, r26.2.2.2.2.2.2.2.1, r26.2.2.2.2.2.2.2.2.1, r26.2.2.2.2.2.2.2.2.2.1, r26.2.2.2.2.2.2.2.2.2.2.1, (r26.2.2.2.2.2.2.2.2.2.2.2.1 + (1 : Int32)), r26.2.2.2.2.2.2.2.2.2.2.2.2.1, r26.2.2.2.2.2.2.2.2.2.2.2.2.2.1, r26.2.2.2.2.2.2.2.2.2.2.2.2.2.2.1, r26.2.2.2.2.2.2.2.2.2.2.2.2.2.2.2.1, r26.2.2.2.2.2.2.2.2.2.2.2.2.2.2.2.2.1, r26.2.2.2.2.2.2.2.2.2.2.2.2.2.2.2.2.2.1, r26.2.2.2.2.2.2.2.2.2.2.2.2.2.2.2.2.2.2.1, r26.2.2.2.2.2.2.2.2.2.2.2.2.2.2.2.2.2.2.2.1, r26.2.2.2.2.2.2.2.2.2.2.2.2.2.2.2.2.2.2.2.2.1, r26.2.2.2.2.2.2.2.2.2.2.2.2.2.2.2.2.2.2.2.2.2.1, r26.2.2.2.2.2.2.2.2.2.2.2.2.2.2.2.2.2.2.2.2.2.2.1, r26.2.2.2.2.2.2.2.2.2.2.2.2.2.2.2.2.2.2.2.2.2.2.2.1, r26.2.2.2.2.2.2.2.2.2.2.2.2.2.2.2.2.2.2.2.2.2.2.2.2.1, r26.2.2.2.2.2.2.2.2.2.2.2.2.2.2.2.2.2.2.2.2.2.2.2.2.2.1, r26.2.2.2.2.2.2.2.2.2.2.2.2.2.2.2.2.2.2.2.2.2.2.2.2.2.2.1, r26.2.2.2.2.2.2.2.2.2.2.2.2.2.2.2.2.2.2.2.2.2.2.2.2.2.2.2.1, r26.2.2.2.2.2.2.2.2.2.2.2.2.2.2.2.2.2.2.2.2.2.2.2.2.2.2.2.2.1, r26.2.2.2.2.2.2.2.2.2.2.2.2.2.2.2.2.2.2.2.2.2.2.2.2.2.2.2.2.2.1, r26.2.2.2.2.2.2.2.2.2.2.2.2.2.2.2.2.2.2.2.2.2.2.2.2.2.2.2.2.2.2.1, r26.2.2.2.2.2.2.2.2.2.2.2.2.2.2.2.2.2.2.2.2.2.2.2.2.2.2.2.2.2.2.2) : ZS))) := by
    unfold MZ_askedLine
    rw [hnm]
    by_cases c : askeds = 12
    · rw [if_pos (by rw [c]; decide), show decide (¬ askeds = 12) = false by simp [c]] <;> try rfl
    · rw [if_neg (by rw [hkn2] at c ⊢; exact fun q => c ((lim_lt (by decide) hkn).mpr q)), show decide (¬ askeds = 12) = true by simp [c]] <;> try rfl
  rcases begin_sim hz tx h ht hni hhr hv (decide (¬ askeds = 12)) (p0 := askeds) (p1 := 12) (by simp) f wa with ⟨er, a, c, d, w, k1, k2, k3⟩ | ⟨e1, s1, a1, b1, c1, d1, w1, k1, k2, k3, k4, k5, k6, ⟨t0, ht0, hh0⟩, k8⟩
  · refine Or.inl ⟨er, a, c, d, w, 0, askeds, asked, ?_, k2, ?_⟩
    · rw [hA, k1]; rfl
    · unfold MX7_readAsked
      rw [k3, Option.bind_some]
      dsimp only
      rw [over_pair hn, Option.bind_some]
      dsimp only
      rw [over_part, Option.bind_some]
      dsimp only
      rw [if_pos rfl]
  rw [k1, Option.bind_some] at hA
  dsimp only at hA
  have hB : MX7_readAsked (nI z) spot sort place number f wa word hour (nI n) askeds tx kind near asked name = MX7_readAsked (nI z) spot sort place number f wa word hour (nI n) askeds tx kind near asked name := rfl
  conv at hB =>
    rhs
    unfold MX7_readAsked
    rw [k2, Option.bind_some]
  dsimp only at hB
  have hp1 := phR_sm k4 hp
  have hr1 := perR_sm k4 hr
  have ha1 := askR_sm k4 ha
  rcases asking_sim hz tx k3 k5 hp1 hr1 ha1 f wa with ⟨er, a, c, d, w, p, q, j1, j2, j3⟩ | ⟨k, k', e2, s2, a2, b2, c2, d2, w2, hk, hk', hne, hask, j1, j2, j3, j4, j5, j6⟩
  · refine Or.inl ⟨er, a, c, d, w, q, askeds, asked, ?_, j2, ?_⟩
    · rw [hA, j1]; rfl
    · rw [hB, j3, Option.bind_some]
      dsimp only
      rw [over_part, Option.bind_some]
      dsimp only
      rw [if_pos rfl]
  rw [j1, Option.bind_some] at hA
  dsimp only at hA
  have hp2 := phR_sm j4 (show phR n ((s1.1, s1.2.1, s1.2.2.1, s1.2.2.2.1, s1.2.2.2.2.1, (some k), s1.2.2.2.2.2.2.1, s1.2.2.2.2.2.2.2.1, s1.2.2.2.2.2.2.2.2.1, s1.2.2.2.2.2.2.2.2.2.1, s1.2.2.2.2.2.2.2.2.2.2.1, s1.2.2.2.2.2.2.2.2.2.2.2.1, s1.2.2.2.2.2.2.2.2.2.2.2.2.1, s1.2.2.2.2.2.2.2.2.2.2.2.2.2.1, s1.2.2.2.2.2.2.2.2.2.2.2.2.2.2.1, s1.2.2.2.2.2.2.2.2.2.2.2.2.2.2.2.1, s1.2.2.2.2.2.2.2.2.2.2.2.2.2.2.2.2.1, s1.2.2.2.2.2.2.2.2.2.2.2.2.2.2.2.2.2.1, s1.2.2.2.2.2.2.2.2.2.2.2.2.2.2.2.2.2.2.1, s1.2.2.2.2.2.2.2.2.2.2.2.2.2.2.2.2.2.2.2.1, s1.2.2.2.2.2.2.2.2.2.2.2.2.2.2.2.2.2.2.2.2.1, s1.2.2.2.2.2.2.2.2.2.2.2.2.2.2.2.2.2.2.2.2.2.1, s1.2.2.2.2.2.2.2.2.2.2.2.2.2.2.2.2.2.2.2.2.2.2.1, s1.2.2.2.2.2.2.2.2.2.2.2.2.2.2.2.2.2.2.2.2.2.2.2.1, s1.2.2.2.2.2.2.2.2.2.2.2.2.2.2.2.2.2.2.2.2.2.2.2.2.1, s1.2.2.2.2.2.2.2.2.2.2.2.2.2.2.2.2.2.2.2.2.2.2.2.2.2.1, s1.2.2.2.2.2.2.2.2.2.2.2.2.2.2.2.2.2.2.2.2.2.2.2.2.2.2.1, s1.2.2.2.2.2.2.2.2.2.2.2.2.2.2.2.2.2.2.2.2.2.2.2.2.2.2.2.1, s1.2.2.2.2.2.2.2.2.2.2.2.2.2.2.2.2.2.2.2.2.2.2.2.2.2.2.2.2.1, s1.2.2.2.2.2.2.2.2.2.2.2.2.2.2.2.2.2.2.2.2.2.2.2.2.2.2.2.2.2.1, s1.2.2.2.2.2.2.2.2.2.2.2.2.2.2.2.2.2.2.2.2.2.2.2.2.2.2.2.2.2.2.1, s1.2.2.2.2.2.2.2.2.2.2.2.2.2.2.2.2.2.2.2.2.2.2.2.2.2.2.2.2.2.2.2) : ZS) name from hp1)
  have hr2 := perR_sm j4 (show perR n ((s1.1, s1.2.1, s1.2.2.1, s1.2.2.2.1, s1.2.2.2.2.1, (some k), s1.2.2.2.2.2.2.1, s1.2.2.2.2.2.2.2.1, s1.2.2.2.2.2.2.2.2.1, s1.2.2.2.2.2.2.2.2.2.1, s1.2.2.2.2.2.2.2.2.2.2.1, s1.2.2.2.2.2.2.2.2.2.2.2.1, s1.2.2.2.2.2.2.2.2.2.2.2.2.1, s1.2.2.2.2.2.2.2.2.2.2.2.2.2.1, s1.2.2.2.2.2.2.2.2.2.2.2.2.2.2.1, s1.2.2.2.2.2.2.2.2.2.2.2.2.2.2.2.1, s1.2.2.2.2.2.2.2.2.2.2.2.2.2.2.2.2.1, s1.2.2.2.2.2.2.2.2.2.2.2.2.2.2.2.2.2.1, s1.2.2.2.2.2.2.2.2.2.2.2.2.2.2.2.2.2.2.1, s1.2.2.2.2.2.2.2.2.2.2.2.2.2.2.2.2.2.2.2.1, s1.2.2.2.2.2.2.2.2.2.2.2.2.2.2.2.2.2.2.2.2.1, s1.2.2.2.2.2.2.2.2.2.2.2.2.2.2.2.2.2.2.2.2.2.1, s1.2.2.2.2.2.2.2.2.2.2.2.2.2.2.2.2.2.2.2.2.2.2.1, s1.2.2.2.2.2.2.2.2.2.2.2.2.2.2.2.2.2.2.2.2.2.2.2.1, s1.2.2.2.2.2.2.2.2.2.2.2.2.2.2.2.2.2.2.2.2.2.2.2.2.1, s1.2.2.2.2.2.2.2.2.2.2.2.2.2.2.2.2.2.2.2.2.2.2.2.2.2.1, s1.2.2.2.2.2.2.2.2.2.2.2.2.2.2.2.2.2.2.2.2.2.2.2.2.2.2.1, s1.2.2.2.2.2.2.2.2.2.2.2.2.2.2.2.2.2.2.2.2.2.2.2.2.2.2.2.1, s1.2.2.2.2.2.2.2.2.2.2.2.2.2.2.2.2.2.2.2.2.2.2.2.2.2.2.2.2.1, s1.2.2.2.2.2.2.2.2.2.2.2.2.2.2.2.2.2.2.2.2.2.2.2.2.2.2.2.2.2.1, s1.2.2.2.2.2.2.2.2.2.2.2.2.2.2.2.2.2.2.2.2.2.2.2.2.2.2.2.2.2.2.1, s1.2.2.2.2.2.2.2.2.2.2.2.2.2.2.2.2.2.2.2.2.2.2.2.2.2.2.2.2.2.2.2) : ZS) went kind near has dies from hr1)
  have hhr2 : s2.2.2.2.2.2.2.2.1 = hour := (zr_hr j4.1).trans ((zr_hr k4.1).trans hhr)
  rw [hp2.2.2.2.2.2, gn_of hk', hhr2, hh0] at hA
  rw [j2, Option.bind_some] at hB
  dsimp only at hB
  rw [hh0] at hB
  rcases part_sim hz tx j3 j5 hp2.ni (k := 16) (by decide) (by decide) 0 (nI t0) f wa with ⟨er, v, a, c, d, w, i1, i2, i3⟩ | ⟨v, e3, s3, a3, b3, c3, d3, w3, i1, i2, i3, i4, i5, i6, i7⟩
  · refine Or.inl ⟨er, a, c, d, w, nI k', askeds, asked, ?_, i2, ?_⟩
    · rw [hA, i1]; rfl
    · rw [hh0, hB, i3, Option.bind_some]
      dsimp only
      rw [if_pos rfl]
  obtain ⟨t, ht9, rfl⟩ := in_nI (by omega) i7
  have hp3 := phR_sm i4 hp2
  have hr3 := perR_sm i4 hr2
  have hak3 : s3.2.2.2.2.2.1 = some k := (zr_ak i4.1).trans (zr_ak j4.1)
  refine Or.inr ⟨e3, s1, s3, k, k', t, a3, b3, c3, d3, w3, nI k', hk, hk', hne, hask, by omega, k4, zsm_tr j4 i4, ?_, ?_, i3, i5, by omega, ⟨t0, ht0, hh0⟩, k8⟩
  · rw [hA, i1, Option.bind_some]
    dsimp only
    rw [gn_of (show k' < s3.2.2.2.2.2.2.2.2.2.2.2.2.2.2.2.2.2.2.2.1 by rw [hp3.2.2.2.2.2]; exact hk'), M_lay hn hk hk' tx (nI z) hp3.2.2.2.2.2 hak3 hp3.2.2.1 (hr3.1 k hk).2.1 (hr3.1 k' hk').2.1 (nI t), Option.bind_some]
  · rw [hh0, hB, i2, Option.bind_some]
    dsimp only
    rw [if_neg i5, idx6, gi_nI (by omega) (by decide), nIc (by omega)]
