set_option maxRecDepth 100000
theorem line_no {z e : Nat} {s t : ZS} {spot sort place number : Int32} {word : Int64} {tx : AI} (h : TR z e s spot sort place number word) (hs : sort = 1 ∨ sort = 0) (hl : MZ_line tx (nI z) s = some (.inr t)) : False := by
  have ht : ¬ s.2.1 = 2 := by
    rcases h.cases with ⟨a, -⟩ | ⟨-, b, -⟩
    · exact a
    · rcases hs with q | q <;> rw [q] at b <;> exact absurd b (by decide)
  unfold MZ_line at hl
  rw [if_neg ht] at hl
  cases hl
/-- the component's reading: lines until no semicolon -/
def BZ_read (tx : AI) (size : Int32) (s : ZS) : Option (ZS ⊕ ((Int32 × Int32) ⊕ ZS)) :=
  if s.2.1 = (59 : Int32) then
    (MZ_step tx size s).bind fun r => (MZ_line tx size r).bind fun x => match x with
      | .inl e => some (.inr (.inl e))
      | .inr t => some (.inl t)
  else some (.inr (.inr s))
def endR (u : ZS) : (Int32 × Int32) ⊕ ZS := if u.2.1 = 0 then (if u.2.2.2.2.2.2.2.1 < 0 then .inl ((6 : Int32), u.2.2.1) else if u.2.2.2.2.2.2.2.2.2.1 = 0 then .inl ((6 : Int32), u.2.2.1) else .inr u) else .inl ((1 : Int32), u.2.2.1)
def MZ_read (tx : AI) (size : Int32) (s : ZS) : Option ((Int32 × Int32) ⊕ ZS) :=
  (MZ_step tx size s).bind fun r => (MZ_line tx size r).bind fun x => match x with
    | .inl e => some (.inl e)
    | .inr t => (loopN 901 (fun v => BZ_read tx size v) t).bind fun y => match y with
      | .inl e => some (.inl e)
      | .inr u => some (endR u)
theorem eats_no {z : Nat} {spot sort place number : Int32} {word : Int64} (h : ¬ sort = 4) (tx : AI) : MX7_eatsSemicolon (nI z) spot sort place number word tx = some (false, spot, sort, place, number, word) := by
  unfold MX7_eatsSemicolon
  rw [if_neg h]
set_option maxHeartbeats 8000000 in
theorem read_loop {z : Nat} (hz : z ≤ 900) (tx : AI) (f wa : Int32) : ∀ (q K e n m : Nat) (s : ZS) (spot sort place number : Int32) (word : Int64) (ao : Int32) (hour : Int32) (gives : Int32) (people : Int32) (nears : Int32) (askeds : Int32) (heards : Int32) (wents : Int32) (went : AI) (name : AL) (kind : AI) (near : AI) (asked : AI) (by_ : AI) (of_ : AI) (give : AI) (has : AI) (dies : AI), z - e < q → q + 1 ≤ K → TR z e s spot sort place number word → ¬ sort = 5 → cityR n m s hour gives people nears askeds heards wents went name kind near asked by_ of_ give has dies → (∃ t, t ≤ 99 ∧ hour = nI t) →
    (∃ er r, loopN q (fun v => BZ_read tx (nI z) v) s = some (.inl er) ∧ erO er.1 ∧ ((MX7_eatsSemicolon (nI z) spot sort place number word tx).bind fun r4 => loopN K (fun s_ : Bool × Int32 × Int32 × Int32 × Int32 × Int32 × Int32 × Int64 × Int32 × Int32 × Int32 × Int32 × Int32 × Int32 × Int32 × Int32 × AI × AI × AI × AI × AI × AI × AI × AI × AI × AL => BX7_readAll_2 (nI z) tx s_.1 s_.2.1 s_.2.2.1 s_.2.2.2.1 s_.2.2.2.2.1 s_.2.2.2.2.2.1 s_.2.2.2.2.2.2.1 s_.2.2.2.2.2.2.2.1 s_.2.2.2.2.2.2.2.2.1 s_.2.2.2.2.2.2.2.2.2.1 s_.2.2.2.2.2.2.2.2.2.2.1 s_.2.2.2.2.2.2.2.2.2.2.2.1 s_.2.2.2.2.2.2.2.2.2.2.2.2.1 s_.2.2.2.2.2.2.2.2.2.2.2.2.2.1 s_.2.2.2.2.2.2.2.2.2.2.2.2.2.2.1 s_.2.2.2.2.2.2.2.2.2.2.2.2.2.2.2.1 s_.2.2.2.2.2.2.2.2.2.2.2.2.2.2.2.2.1 s_.2.2.2.2.2.2.2.2.2.2.2.2.2.2.2.2.2.1 s_.2.2.2.2.2.2.2.2.2.2.2.2.2.2.2.2.2.2.1 s_.2.2.2.2.2.2.2.2.2.2.2.2.2.2.2.2.2.2.2.1 s_.2.2.2.2.2.2.2.2.2.2.2.2.2.2.2.2.2.2.2.2.1 s_.2.2.2.2.2.2.2.2.2.2.2.2.2.2.2.2.2.2.2.2.2.1 s_.2.2.2.2.2.2.2.2.2.2.2.2.2.2.2.2.2.2.2.2.2.2.1 s_.2.2.2.2.2.2.2.2.2.2.2.2.2.2.2.2.2.2.2.2.2.2.2.1 s_.2.2.2.2.2.2.2.2.2.2.2.2.2.2.2.2.2.2.2.2.2.2.2.2.1 s_.2.2.2.2.2.2.2.2.2.2.2.2.2.2.2.2.2.2.2.2.2.2.2.2.2) (r4.1, r4.2.1, r4.2.2.1, r4.2.2.2.1, r4.2.2.2.2.1, f, wa, r4.2.2.2.2.2, ao, hour, gives, people, nears, askeds, heards, wents, kind, has, dies, near, went, asked, by_, of_, give, name)) = some r ∧ r.2.2.2.2.2.2.2.2.2.2.2.1 = 5 ∧ r.2.2.2.2.2.2.2.2.2.2.2.2.2.2.1 = er.1 ∧ r.2.2.2.2.2.2.2.2.2.2.2.2.2.2.2.1 = er.2) ∨
    (∃ e' n' m' s' a b c d w ao' hour' gives' people' nears' askeds' heards' wents' went' name' kind' near' asked' by_' of_' give' has' dies', loopN q (fun v => BZ_read tx (nI z) v) s = some (.inr s') ∧ ((MX7_eatsSemicolon (nI z) spot sort place number word tx).bind fun r4 => loopN K (fun s_ : Bool × Int32 × Int32 × Int32 × Int32 × Int32 × Int32 × Int64 × Int32 × Int32 × Int32 × Int32 × Int32 × Int32 × Int32 × Int32 × AI × AI × AI × AI × AI × AI × AI × AI × AI × AL => BX7_readAll_2 (nI z) tx s_.1 s_.2.1 s_.2.2.1 s_.2.2.2.1 s_.2.2.2.2.1 s_.2.2.2.2.2.1 s_.2.2.2.2.2.2.1 s_.2.2.2.2.2.2.2.1 s_.2.2.2.2.2.2.2.2.1 s_.2.2.2.2.2.2.2.2.2.1 s_.2.2.2.2.2.2.2.2.2.2.1 s_.2.2.2.2.2.2.2.2.2.2.2.1 s_.2.2.2.2.2.2.2.2.2.2.2.2.1 s_.2.2.2.2.2.2.2.2.2.2.2.2.2.1 s_.2.2.2.2.2.2.2.2.2.2.2.2.2.2.1 s_.2.2.2.2.2.2.2.2.2.2.2.2.2.2.2.1 s_.2.2.2.2.2.2.2.2.2.2.2.2.2.2.2.2.1 s_.2.2.2.2.2.2.2.2.2.2.2.2.2.2.2.2.2.1 s_.2.2.2.2.2.2.2.2.2.2.2.2.2.2.2.2.2.2.1 s_.2.2.2.2.2.2.2.2.2.2.2.2.2.2.2.2.2.2.2.1 s_.2.2.2.2.2.2.2.2.2.2.2.2.2.2.2.2.2.2.2.2.1 s_.2.2.2.2.2.2.2.2.2.2.2.2.2.2.2.2.2.2.2.2.2.1 s_.2.2.2.2.2.2.2.2.2.2.2.2.2.2.2.2.2.2.2.2.2.2.1 s_.2.2.2.2.2.2.2.2.2.2.2.2.2.2.2.2.2.2.2.2.2.2.2.1 s_.2.2.2.2.2.2.2.2.2.2.2.2.2.2.2.2.2.2.2.2.2.2.2.2.1 s_.2.2.2.2.2.2.2.2.2.2.2.2.2.2.2.2.2.2.2.2.2.2.2.2.2) (r4.1, r4.2.1, r4.2.2.1, r4.2.2.2.1, r4.2.2.2.2.1, f, wa, r4.2.2.2.2.2, ao, hour, gives, people, nears, askeds, heards, wents, kind, has, dies, near, went, asked, by_, of_, give, name)) = some (kind', has', dies', near', went', asked', by_', of_', give', name', a, b, c, d, f, wa, w, ao', hour', gives', people', nears', askeds', heards', wents') ∧ TR z e' s' a b c d w ∧ ¬ b = 5 ∧ cityR n' m' s' hour' gives' people' nears' askeds' heards' wents' went' name' kind' near' asked' by_' of_' give' has' dies' ∧ ∃ t, t ≤ 99 ∧ hour' = nI t) := by
  intro q
  induction q with
  | zero => intro K e n m s spot sort place number word ao hour gives people nears askeds heards wents went name kind near asked by_ of_ give has dies h; omega
  | succ q ih =>
    intro K e n m s spot sort place number word ao hour gives people nears askeds heards wents went name kind near asked by_ of_ give has dies hq hK h h5 hc hh
    obtain ⟨K, rfl⟩ : ∃ j, K = j + 1 := ⟨K - 1, by omega⟩
    rcases h.h4 with ⟨t4, s4⟩ | ⟨t4, s4, -, -, hez⟩
    · refine Or.inr ⟨e, n, m, s, spot, sort, place, number, word, ao, hour, gives, people, nears, askeds, heards, wents, went, name, kind, near, asked, by_, of_, give, has, dies, ?_, ?_, h, h5, hc, hh⟩
      · rw [loopN]
        show (BZ_read tx (nI z) s).bind _ = _
        unfold BZ_read
        rw [if_neg t4]
        rfl
      · rw [eats_no s4]
        rfl
    · obtain ⟨e1, s1, a1, b1, c1, d1, w1, g1, g2, g3, g4, g5, g6, g7⟩ := step_of hz tx h hc.1.ni (Or.inr (Or.inr t4))
      have hE : MX7_eatsSemicolon (nI z) spot sort place number word tx = some (true, a1, b1, c1, d1, w1) := by
        unfold MX7_eatsSemicolon
        rw [if_pos s4, g2]
        rfl
      rw [hE, Option.bind_some]
      dsimp only
      have hc1 := cityR_sm g4 hc
      rw [loopN]
      have hX : ∀ x, MZ_line tx (nI z) s1 = some x → BZ_read tx (nI z) s = match x with
          | .inl e => some (.inr (.inl e))
          | .inr t => some (.inl t) := by
        intro x hx
        unfold BZ_read
        rw [if_pos t4, g1, Option.bind_some, hx, Option.bind_some]
      rcases line_sim hz tx g3 g5 hc1 f wa ao with ⟨er, r, k1, k2, k3, k4, k5, k6⟩ | ⟨e2, s2, n2, m2, a2, b2, c2, d2, w2, ao2, hour2, gives2, people2, nears2, askeds2, heards2, wents2, went2, name2, kind2, near2, asked2, by_2, of_2, give2, has2, dies2, k1, k2, k3, k4, k5, k6, k7⟩
      · obtain ⟨K, rfl⟩ : ∃ j, K = j + 1 := ⟨K - 1, by omega⟩
        refine Or.inl ⟨er, ?w, ?c1, k2, ?c2, ?c3, ?c4, ?c5⟩
        case c1 =>
          show (BZ_read tx (nI z) s).bind _ = _
          rw [hX _ k1]
          rfl
        case c2 =>
          show (BX7_readAll_2 (nI z) tx true a1 b1 c1 d1 f wa w1 ao hour gives people nears askeds heards wents kind has dies near went asked by_ of_ give name).bind _ = _
          unfold BX7_readAll_2
          rw [if_neg (by decide), k3, Option.bind_some, eats_no (by rw [k4]; decide), Option.bind_some]
          dsimp only
          rw [Option.bind_some]
          dsimp only
          rw [loopN]
          rfl
        case c3 => exact k4
        case c4 => exact k5
        case c5 => exact k6
      · have he1 : e1 ≤ z := by
          have hh := g3.2
          rcases hh with ⟨-, b⟩ | ⟨-, b⟩ | ⟨-, -, -, -, q, -⟩ | ⟨-, -, -, -, q, -⟩ | ⟨-, -, -, -, q⟩
          · exact (line_no g3 (Or.inl b) k1).elim
          · exact (line_no g3 (Or.inr b) k1).elim
          · exact q
          · exact q
          · exact q
        have hlt : e < e1 := g7 (fun q1 => ?_) (fun q0 => ?_)
        · rcases ih K e2 n2 m2 s2 a2 b2 c2 d2 w2 ao2 hour2 gives2 people2 nears2 askeds2 heards2 wents2 went2 name2 kind2 near2 asked2 by_2 of_2 give2 has2 dies2 (by omega) (by omega) k3 k5 k4 k7 with ⟨er, r, j1, j2, j3, j4⟩ | ⟨e3, n3, m3, s3, a3, b3, c3, d3, w3, ao3, hour3, gives3, people3, nears3, askeds3, heards3, wents3, went3, name3, kind3, near3, asked3, by_3, of_3, give3, has3, dies3, j1, j2, j3⟩
          · refine Or.inl ⟨er, r, ?_, j2, ?_, j4⟩
            · show (BZ_read tx (nI z) s).bind _ = _
              rw [hX _ k1]
              exact j1
            · show (BX7_readAll_2 (nI z) tx true a1 b1 c1 d1 f wa w1 ao hour gives people nears askeds heards wents kind has dies near went asked by_ of_ give name).bind _ = _
              unfold BX7_readAll_2
              rw [if_neg (by decide), k2, Option.bind_some]
              dsimp only
              rw [Option.bind_assoc]
              exact j3
          · refine Or.inr ⟨e3, n3, m3, s3, a3, b3, c3, d3, w3, ao3, hour3, gives3, people3, nears3, askeds3, heards3, wents3, went3, name3, kind3, near3, asked3, by_3, of_3, give3, has3, dies3, ?_, ?_, j3⟩
            · show (BZ_read tx (nI z) s).bind _ = _
              rw [hX _ k1]
              exact j1
            · show (BX7_readAll_2 (nI z) tx true a1 b1 c1 d1 f wa w1 ao hour gives people nears askeds heards wents kind has dies near went asked by_ of_ give name).bind _ = _
              unfold BX7_readAll_2
              rw [if_neg (by decide), k2, Option.bind_some]
              dsimp only
              rw [Option.bind_assoc]
              exact j2
        · exact line_no g3 (Or.inl q1) k1
        · exact line_no g3 (Or.inr q0) k1
set_option maxHeartbeats 8000000 in
theorem read_sim {z : Nat} (hz : z ≤ 900) (tx : AI) {s0 : ZS} (h0 : s0.1 = 0) {went : AI} {name : AL} {kind : AI} {near : AI} {asked : AI} {by_ : AI} {of_ : AI} {give : AI} {has : AI} {dies : AI} (hc : cityR 0 0 s0 (-1) 0 0 0 0 0 0 went name kind near asked by_ of_ give has dies) (number place wa ao : Int32) (word : Int64) :
    (∃ er r16 r, MZ_read tx (nI z) s0 = some (.inl er) ∧ erO er.1 ∧ MX7_goesOn (nI z) 0 0 place number word tx = some r16 ∧ MX7_readAll (nI z) r16.1 r16.2.1 r16.2.2.1 r16.2.2.2.1 0 wa r16.2.2.2.2 ao (-1) 0 0 0 0 0 0 tx kind has dies near went asked by_ of_ give name = some r ∧ r.2.2.2.2.1 = er.1 ∧ r.2.2.2.2.2.1 = er.2) ∨
    (∃ r16 n m s' a b c d w ao' hour' gives' people' nears' askeds' heards' wents' went' name' kind' near' asked' by_' of_' give' has' dies', MZ_read tx (nI z) s0 = some (.inr s') ∧ MX7_goesOn (nI z) 0 0 place number word tx = some r16 ∧ MX7_readAll (nI z) r16.1 r16.2.1 r16.2.2.1 r16.2.2.2.1 0 wa r16.2.2.2.2 ao (-1) 0 0 0 0 0 0 tx kind has dies near went asked by_ of_ give name = some (a, b, c, d, 0, wa, w, ao', hour', gives', people', nears', askeds', heards', wents', kind', has', dies', near', went', asked', by_', of_', give', name') ∧ cityR n m s' hour' gives' people' nears' askeds' heards' wents' went' name' kind' near' asked' by_' of_' give' has' dies' ∧ 0 < n ∧ ∃ t, t ≤ 99 ∧ hour' = nI t) := by
  obtain ⟨e1, s1, a1, b1, c1, d1, w1, g1, g2, g3, g4, g5, g6, -⟩ := step_sim hz tx s0 (Nat.zero_le z) (h0.trans rfl) hc.1.ni 0 place number word (by decide)
  have hc1 := cityR_sm g4 hc
  obtain ⟨K, hFU, hK⟩ : ∃ K, FU = K + 1 ∧ 902 ≤ K := ⟨99999, rfl, by decide⟩
  have g2 : MX7_goesOn (nI z) 0 0 place number word tx = some (a1, b1, c1, d1, w1) := g2
  have fin5 : ∀ r, (loopN FU (fun s_ : Bool × Int32 × Int32 × Int32 × Int32 × Int32 × Int32 × Int64 × Int32 × Int32 × Int32 × Int32 × Int32 × Int32 × Int32 × Int32 × AI × AI × AI × AI × AI × AI × AI × AI × AI × AL => BX7_readAll_2 (nI z) tx s_.1 s_.2.1 s_.2.2.1 s_.2.2.2.1 s_.2.2.2.2.1 s_.2.2.2.2.2.1 s_.2.2.2.2.2.2.1 s_.2.2.2.2.2.2.2.1 s_.2.2.2.2.2.2.2.2.1 s_.2.2.2.2.2.2.2.2.2.1 s_.2.2.2.2.2.2.2.2.2.2.1 s_.2.2.2.2.2.2.2.2.2.2.2.1 s_.2.2.2.2.2.2.2.2.2.2.2.2.1 s_.2.2.2.2.2.2.2.2.2.2.2.2.2.1 s_.2.2.2.2.2.2.2.2.2.2.2.2.2.2.1 s_.2.2.2.2.2.2.2.2.2.2.2.2.2.2.2.1 s_.2.2.2.2.2.2.2.2.2.2.2.2.2.2.2.2.1 s_.2.2.2.2.2.2.2.2.2.2.2.2.2.2.2.2.2.1 s_.2.2.2.2.2.2.2.2.2.2.2.2.2.2.2.2.2.2.1 s_.2.2.2.2.2.2.2.2.2.2.2.2.2.2.2.2.2.2.2.1 s_.2.2.2.2.2.2.2.2.2.2.2.2.2.2.2.2.2.2.2.2.1 s_.2.2.2.2.2.2.2.2.2.2.2.2.2.2.2.2.2.2.2.2.2.1 s_.2.2.2.2.2.2.2.2.2.2.2.2.2.2.2.2.2.2.2.2.2.2.1 s_.2.2.2.2.2.2.2.2.2.2.2.2.2.2.2.2.2.2.2.2.2.2.2.1 s_.2.2.2.2.2.2.2.2.2.2.2.2.2.2.2.2.2.2.2.2.2.2.2.2.1 s_.2.2.2.2.2.2.2.2.2.2.2.2.2.2.2.2.2.2.2.2.2.2.2.2.2) (true, a1, b1, c1, d1, 0, wa, w1, ao, -1, 0, 0, 0, 0, 0, 0, kind, has, dies, near, went, asked, by_, of_, give, name)) = some r → r.2.2.2.2.2.2.2.2.2.2.2.1 = 5 → ∃ x, MX7_readAll (nI z) a1 b1 c1 d1 0 wa w1 ao (-1) 0 0 0 0 0 0 tx kind has dies near went asked by_ of_ give name = some x ∧ x.2.2.2.2.1 = r.2.2.2.2.2.2.2.2.2.2.2.2.2.2.1 ∧ x.2.2.2.2.2.1 = r.2.2.2.2.2.2.2.2.2.2.2.2.2.2.2.1 := by
    intro r hr h5
    unfold MX7_readAll
    rw [hr, Option.bind_some, h5, if_neg (by decide), flaw5, Option.bind_some, Option.bind_some]
    dsimp only
    by_cases q : r.2.2.2.2.2.2.2.2.2.2.2.2.2.2.2.2.2.2.2.2.1 = 0
    · rw [if_pos q, flaw5]; exact ⟨_, rfl, rfl, rfl⟩
    · rw [if_neg q]; exact ⟨_, rfl, rfl, rfl⟩
  have hX : ∀ x, MZ_line tx (nI z) s1 = some x → MZ_read tx (nI z) s0 = match x with
      | .inl e => some (.inl e)
      | .inr t => (loopN 901 (fun v => BZ_read tx (nI z) v) t).bind fun y => match y with
        | .inl e => some (.inl e)
        | .inr u => some (endR u) := by
    intro x hx
    unfold MZ_read
    rw [g1, Option.bind_some, hx, Option.bind_some]
  rcases line_sim hz tx g3 g5 hc1 0 wa ao with ⟨er, r, k1, k2, k3, k4, k5, k6⟩ | ⟨e2, s2, n2, m2, a2, b2, c2, d2, w2, ao2, hour2, gives2, people2, nears2, askeds2, heards2, wents2, went2, name2, kind2, near2, asked2, by_2, of_2, give2, has2, dies2, k1, k2, k3, k4, k5, k6, k7⟩
  · have hL : ∃ r', (loopN FU (fun s_ : Bool × Int32 × Int32 × Int32 × Int32 × Int32 × Int32 × Int64 × Int32 × Int32 × Int32 × Int32 × Int32 × Int32 × Int32 × Int32 × AI × AI × AI × AI × AI × AI × AI × AI × AI × AL => BX7_readAll_2 (nI z) tx s_.1 s_.2.1 s_.2.2.1 s_.2.2.2.1 s_.2.2.2.2.1 s_.2.2.2.2.2.1 s_.2.2.2.2.2.2.1 s_.2.2.2.2.2.2.2.1 s_.2.2.2.2.2.2.2.2.1 s_.2.2.2.2.2.2.2.2.2.1 s_.2.2.2.2.2.2.2.2.2.2.1 s_.2.2.2.2.2.2.2.2.2.2.2.1 s_.2.2.2.2.2.2.2.2.2.2.2.2.1 s_.2.2.2.2.2.2.2.2.2.2.2.2.2.1 s_.2.2.2.2.2.2.2.2.2.2.2.2.2.2.1 s_.2.2.2.2.2.2.2.2.2.2.2.2.2.2.2.1 s_.2.2.2.2.2.2.2.2.2.2.2.2.2.2.2.2.1 s_.2.2.2.2.2.2.2.2.2.2.2.2.2.2.2.2.2.1 s_.2.2.2.2.2.2.2.2.2.2.2.2.2.2.2.2.2.2.1 s_.2.2.2.2.2.2.2.2.2.2.2.2.2.2.2.2.2.2.2.1 s_.2.2.2.2.2.2.2.2.2.2.2.2.2.2.2.2.2.2.2.2.1 s_.2.2.2.2.2.2.2.2.2.2.2.2.2.2.2.2.2.2.2.2.2.1 s_.2.2.2.2.2.2.2.2.2.2.2.2.2.2.2.2.2.2.2.2.2.2.1 s_.2.2.2.2.2.2.2.2.2.2.2.2.2.2.2.2.2.2.2.2.2.2.2.1 s_.2.2.2.2.2.2.2.2.2.2.2.2.2.2.2.2.2.2.2.2.2.2.2.2.1 s_.2.2.2.2.2.2.2.2.2.2.2.2.2.2.2.2.2.2.2.2.2.2.2.2.2) (true, a1, b1, c1, d1, 0, wa, w1, ao, -1, 0, 0, 0, 0, 0, 0, kind, has, dies, near, went, asked, by_, of_, give, name)) = some r' ∧ r'.2.2.2.2.2.2.2.2.2.2.2.1 = 5 ∧ r'.2.2.2.2.2.2.2.2.2.2.2.2.2.2.1 = er.1 ∧ r'.2.2.2.2.2.2.2.2.2.2.2.2.2.2.2.1 = er.2 := by
      obtain ⟨K, rfl⟩ : ∃ j, K = j + 1 := ⟨K - 1, by omega⟩
      rw [hFU, loopN]
      show ∃ r', (BX7_readAll_2 (nI z) tx true a1 b1 c1 d1 0 wa w1 ao (-1) 0 0 0 0 0 0 kind has dies near went asked by_ of_ give name).bind _ = some r' ∧ _
      unfold BX7_readAll_2
      rw [if_neg (by decide), k3, Option.bind_some, eats_no (by rw [k4]; decide), Option.bind_some]
      dsimp only
      rw [Option.bind_some]
      dsimp only
      rw [loopN]
      exact ⟨_, rfl, k4, k5, k6⟩
    obtain ⟨r', j1, j2, j3, j4⟩ := hL
    obtain ⟨x, l1, l2, l3⟩ := fin5 r' j1 j2
    exact Or.inl ⟨er, (a1, b1, c1, d1, w1), x, (hX _ k1).trans rfl, k2, g2, l1, l2.trans j3, l3.trans j4⟩
  · have hX2 := hX _ k1
    dsimp only at hX2
    have hM : (loopN FU (fun s_ : Bool × Int32 × Int32 × Int32 × Int32 × Int32 × Int32 × Int64 × Int32 × Int32 × Int32 × Int32 × Int32 × Int32 × Int32 × Int32 × AI × AI × AI × AI × AI × AI × AI × AI × AI × AL => BX7_readAll_2 (nI z) tx s_.1 s_.2.1 s_.2.2.1 s_.2.2.2.1 s_.2.2.2.2.1 s_.2.2.2.2.2.1 s_.2.2.2.2.2.2.1 s_.2.2.2.2.2.2.2.1 s_.2.2.2.2.2.2.2.2.1 s_.2.2.2.2.2.2.2.2.2.1 s_.2.2.2.2.2.2.2.2.2.2.1 s_.2.2.2.2.2.2.2.2.2.2.2.1 s_.2.2.2.2.2.2.2.2.2.2.2.2.1 s_.2.2.2.2.2.2.2.2.2.2.2.2.2.1 s_.2.2.2.2.2.2.2.2.2.2.2.2.2.2.1 s_.2.2.2.2.2.2.2.2.2.2.2.2.2.2.2.1 s_.2.2.2.2.2.2.2.2.2.2.2.2.2.2.2.2.1 s_.2.2.2.2.2.2.2.2.2.2.2.2.2.2.2.2.2.1 s_.2.2.2.2.2.2.2.2.2.2.2.2.2.2.2.2.2.2.1 s_.2.2.2.2.2.2.2.2.2.2.2.2.2.2.2.2.2.2.2.1 s_.2.2.2.2.2.2.2.2.2.2.2.2.2.2.2.2.2.2.2.2.1 s_.2.2.2.2.2.2.2.2.2.2.2.2.2.2.2.2.2.2.2.2.2.1 s_.2.2.2.2.2.2.2.2.2.2.2.2.2.2.2.2.2.2.2.2.2.2.1 s_.2.2.2.2.2.2.2.2.2.2.2.2.2.2.2.2.2.2.2.2.2.2.2.1 s_.2.2.2.2.2.2.2.2.2.2.2.2.2.2.2.2.2.2.2.2.2.2.2.2.1 s_.2.2.2.2.2.2.2.2.2.2.2.2.2.2.2.2.2.2.2.2.2.2.2.2.2) (true, a1, b1, c1, d1, 0, wa, w1, ao, -1, 0, 0, 0, 0, 0, 0, kind, has, dies, near, went, asked, by_, of_, give, name)) = (MX7_eatsSemicolon (nI z) a2 b2 c2 d2 w2 tx).bind fun r4 => loopN K (fun s_ : Bool × Int32 × Int32 × Int32 × Int32 × Int32 × Int32 × Int64 × Int32 × Int32 × Int32 × Int32 × Int32 × Int32 × Int32 × Int32 × AI × AI × AI × AI × AI × AI × AI × AI × AI × AL => BX7_readAll_2 (nI z) tx s_.1 s_.2.1 s_.2.2.1 s_.2.2.2.1 s_.2.2.2.2.1 s_.2.2.2.2.2.1 s_.2.2.2.2.2.2.1 s_.2.2.2.2.2.2.2.1 s_.2.2.2.2.2.2.2.2.1 s_.2.2.2.2.2.2.2.2.2.1 s_.2.2.2.2.2.2.2.2.2.2.1 s_.2.2.2.2.2.2.2.2.2.2.2.1 s_.2.2.2.2.2.2.2.2.2.2.2.2.1 s_.2.2.2.2.2.2.2.2.2.2.2.2.2.1 s_.2.2.2.2.2.2.2.2.2.2.2.2.2.2.1 s_.2.2.2.2.2.2.2.2.2.2.2.2.2.2.2.1 s_.2.2.2.2.2.2.2.2.2.2.2.2.2.2.2.2.1 s_.2.2.2.2.2.2.2.2.2.2.2.2.2.2.2.2.2.1 s_.2.2.2.2.2.2.2.2.2.2.2.2.2.2.2.2.2.2.1 s_.2.2.2.2.2.2.2.2.2.2.2.2.2.2.2.2.2.2.2.1 s_.2.2.2.2.2.2.2.2.2.2.2.2.2.2.2.2.2.2.2.2.1 s_.2.2.2.2.2.2.2.2.2.2.2.2.2.2.2.2.2.2.2.2.2.1 s_.2.2.2.2.2.2.2.2.2.2.2.2.2.2.2.2.2.2.2.2.2.2.1 s_.2.2.2.2.2.2.2.2.2.2.2.2.2.2.2.2.2.2.2.2.2.2.2.1 s_.2.2.2.2.2.2.2.2.2.2.2.2.2.2.2.2.2.2.2.2.2.2.2.2.1 s_.2.2.2.2.2.2.2.2.2.2.2.2.2.2.2.2.2.2.2.2.2.2.2.2.2) (r4.1, r4.2.1, r4.2.2.1, r4.2.2.2.1, r4.2.2.2.2.1, 0, wa, r4.2.2.2.2.2, ao2, hour2, gives2, people2, nears2, askeds2, heards2, wents2, kind2, has2, dies2, near2, went2, asked2, by_2, of_2, give2, name2) := by
      rw [hFU, loopN]
      show (BX7_readAll_2 (nI z) tx true a1 b1 c1 d1 0 wa w1 ao (-1) 0 0 0 0 0 0 kind has dies near went asked by_ of_ give name).bind _ = _
      unfold BX7_readAll_2
      rw [if_neg (by decide), k2, Option.bind_some]
      dsimp only
      rw [Option.bind_assoc]
      rfl
    rcases read_loop hz tx 0 wa 901 K e2 n2 m2 s2 a2 b2 c2 d2 w2 ao2 hour2 gives2 people2 nears2 askeds2 heards2 wents2 went2 name2 kind2 near2 asked2 by_2 of_2 give2 has2 dies2 (by omega) (by omega) k3 k5 k4 k7 with ⟨er, r, j1, j2, j3, j4, j5, j6⟩ | ⟨e3, n3, m3, s3, a3, b3, c3, d3, w3, ao3, hour3, gives3, people3, nears3, askeds3, heards3, wents3, went3, name3, kind3, near3, asked3, by_3, of_3, give3, has3, dies3, j1, j2, j3, j4, j5, t, jt, j6⟩
    · obtain ⟨x, l1, l2, l3⟩ := fin5 r (hM.trans j3) j4
      exact Or.inl ⟨er, (a1, b1, c1, d1, w1), x, by rw [hX2, j1]; rfl, j2, g2, l1, l2.trans j5, l3.trans j6⟩
    · have hpe : people3 = nI n3 := j5.2.1.1
      have hpm : s3.2.2.2.2.2.2.2.2.2.1 = nI n3 := j5.1.2.2.2.1
      have hn3 := j5.1.1
      have hhr : s3.2.2.2.2.2.2.2.1 = hour3 := j5.2.1.2.1
      have hR : MX7_readAll (nI z) a1 b1 c1 d1 0 wa w1 ao (-1) 0 0 0 0 0 0 tx kind has dies near went asked by_ of_ give name = MX7_readAll (nI z) a1 b1 c1 d1 0 wa w1 ao (-1) 0 0 0 0 0 0 tx kind has dies near went asked by_ of_ give name := rfl
      conv at hR =>
        rhs
        unfold MX7_readAll
        rw [hM.trans j2, Option.bind_some]
      dsimp only at hR
      by_cases q1 : b3 = 1
      · have qt : s3.2.1 = 0 := j3.h0.mpr q1
        rw [if_pos q1, Option.bind_some] at hR
        dsimp only at hR
        by_cases q0 : n3 = 0
        · refine Or.inl ⟨((6 : Int32), s3.2.2.1), (a1, b1, c1, d1, w1), ?wq, ?c1, ⟨6, by decide, by decide, rfl⟩, g2, ?c2, ?c3, ?c4⟩
          case c2 => rw [hR, if_pos (show people3 = 0 by rw [hpe, q0]; rfl), flawN j4, Option.bind_some]
          case c3 => rfl
          case c4 => exact j3.pl.symm
          case c1 =>
            rw [hX2, j1]
            show some (endR s3) = _
            unfold endR
            rw [if_pos qt, hhr, j6, if_neg (nI_pos (by omega)), if_pos (show s3.2.2.2.2.2.2.2.2.2.1 = 0 by rw [hpm, q0]; rfl)]
        · refine Or.inr ⟨(a1, b1, c1, d1, w1), n3, m3, s3, a3, b3, c3, d3, w3, ao3, hour3, gives3, people3, nears3, askeds3, heards3, wents3, went3, name3, kind3, near3, asked3, by_3, of_3, give3, has3, dies3, ?_, g2, ?_, j5, by omega, t, jt, j6⟩
          · rw [hX2, j1]
            show some (endR s3) = _
            unfold endR
            rw [if_pos qt, hhr, j6, if_neg (nI_pos (by omega)), if_neg (show ¬ s3.2.2.2.2.2.2.2.2.2.1 = 0 by rw [hpm]; exact nI_ne0 (by omega) (by omega))]
          · rw [hR, if_neg (show ¬ people3 = 0 by rw [hpe]; exact nI_ne0 (by omega) (by omega))]
      · have qt : ¬ s3.2.1 = 0 := fun x => q1 (j3.h0.mp x)
        rw [if_neg q1, flawN j4, Option.bind_some, Option.bind_some] at hR
        dsimp only at hR
        obtain ⟨x, hx1, hx2, hx3⟩ : ∃ x, MX7_readAll (nI z) a1 b1 c1 d1 0 wa w1 ao (-1) 0 0 0 0 0 0 tx kind has dies near went asked by_ of_ give name = some x ∧ x.2.2.2.2.1 = 1 ∧ x.2.2.2.2.2.1 = c3 := by
          rw [hR]
          by_cases q0 : people3 = 0
          · rw [if_pos q0, flaw5]; exact ⟨_, rfl, rfl, rfl⟩
          · rw [if_neg q0]; exact ⟨_, rfl, rfl, rfl⟩
        refine Or.inl ⟨((1 : Int32), s3.2.2.1), (a1, b1, c1, d1, w1), x, ?_, ⟨1, by decide, by decide, rfl⟩, g2, hx1, hx2, hx3.trans j3.pl.symm⟩
        rw [hX2, j1]
        show some (endR s3) = _
        unfold endR
        rw [if_neg qt]
