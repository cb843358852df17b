set_option maxRecDepth 100000
/-! reading on both sides: person -/
def kdO (s : ZS) : Option Nat := if isK s 10 = true then some 0 else if isK s 11 = true then some 1 else if isK s 12 = true then some 2 else if isK s 13 = true then some 3 else none
theorem kdO_lt {s : ZS} {kd : Nat} (h : kdO s = some kd) : kd < 4 ∧ s.2.1 = 2 := by
  unfold kdO at h
  by_cases a : isK s 10 = true
  · rw [if_pos a] at h; cases h; exact ⟨by decide, isK_tk a⟩
  · rw [if_neg a] at h
    by_cases b : isK s 11 = true
    · rw [if_pos b] at h; cases h; exact ⟨by decide, isK_tk b⟩
    · rw [if_neg b] at h
      by_cases c : isK s 12 = true
      · rw [if_pos c] at h; cases h; exact ⟨by decide, isK_tk c⟩
      · rw [if_neg c] at h
        by_cases d : isK s 13 = true
        · rw [if_pos d] at h; cases h; exact ⟨by decide, isK_tk d⟩
        · rw [if_neg d] at h; cases h
theorem chain_kind {α : Type} {z e : Nat} {s : ZS} {spot sort place number : Int32} {word : Int64} (h : TR z e s spot sort place number word) (K : Int32 → Option α) :
    ((MX7_isWord 10 sort word).bind fun r23 =>
      Option.bind (if (b2i r23) = 0 then
        (MX7_isWord 11 sort word).bind fun r35 =>
        if (b2i r35) = 0 then
          (MX7_isWord 12 sort word).bind fun r38 =>
          if (b2i r38) = 0 then
            (MX7_isWord 13 sort word).bind fun r41 =>
            if (b2i r41) = 0 then
              some (-1 : Int32)
            else
              some (3 : Int32)
          else
            some (2 : Int32)
        else
          some (1 : Int32)
      else
        some (0 : Int32)
      ) K) = K (fdV (kdO s)) := by
  rw [M_isWord h (k := 10) (by decide) (by decide), M_isWord h (k := 11) (by decide) (by decide), M_isWord h (k := 12) (by decide) (by decide), M_isWord h (k := 13) (by decide) (by decide)]
  unfold kdO
  cases isK s 10 <;> cases isK s 11 <;> cases isK s 12 <;> cases isK s 13 <;> rfl
theorem chain_kind5 {α : Type} (word : Int64) (K : Int32 → Option α) :
    ((MX7_isWord 10 5 word).bind fun r23 =>
      Option.bind (if (b2i r23) = 0 then
        (MX7_isWord 11 5 word).bind fun r35 =>
        if (b2i r35) = 0 then
          (MX7_isWord 12 5 word).bind fun r38 =>
          if (b2i r38) = 0 then
            (MX7_isWord 13 5 word).bind fun r41 =>
            if (b2i r41) = 0 then
              some (-1 : Int32)
            else
              some (3 : Int32)
          else
            some (2 : Int32)
        else
          some (1 : Int32)
      else
        some (0 : Int32)
      ) K) = K (-1) := by
  rw [isWord5, isWord5, isWord5, isWord5]
  rfl
theorem M_personOf {z e : Nat} {s : ZS} {spot sort place number : Int32} {word : Int64} (h : TR z e s spot sort place number word) (tx : AI) {i : Nat} (hi : i < s.2.2.2.2.2.2.2.2.2.2.2.2.2.2.2.2.2.2.2.2.2.2.2.2.2.2.2.2.1) (num : Int32) :
    MZ_personOf tx (nI z) s i num = match kdO s with
      | none => some (.inl ((1 : Int32), s.2.2.1))
      | some kd => (MZ_step tx (nI z) s).bind fun r => gall (zok r.2.2.2.2.2.1 r.2.2.2.2.2.2.2.2.2.2.2.2.2.2.2.2.2.2.2.1 = true ∧ r.2.2.2.2.2.2.2.2.2.2.2.2.2.2.2.2.2.2.2.2.2.2.2.2.2.2.2.2.2.2.2 ≤ r.2.2.2.2.2.2.2.2.2.2.2.2.2.2.2.2.2.2.2.1) (some (.inr (r.2.2.2.2.2.2.2.2.2.2.2.2.2.2.2.2.2.2.2.1, zpers r kd i num))) := by
  unfold MZ_personOf kdO
  rw [gn_of hi, M_takes h]
  by_cases a : isK s 10 = true
  · rw [if_pos a, if_pos a]
    cases MZ_step tx (nI z) s with
    | none => rfl
    | some r => rfl
  rw [if_neg a, if_neg a, Option.bind_some]
  dsimp only
  rw [if_pos (by rfl), gn_of hi, M_takes h]
  by_cases b : isK s 11 = true
  · rw [if_pos b, if_pos b]
    cases MZ_step tx (nI z) s with
    | none => rfl
    | some r => rfl
  rw [if_neg b, if_neg b, Option.bind_some]
  dsimp only
  rw [if_pos (by rfl), gn_of hi, M_takes h]
  by_cases c : isK s 12 = true
  · rw [if_pos c, if_pos c]
    cases MZ_step tx (nI z) s with
    | none => rfl
    | some r => rfl
  rw [if_neg c, if_neg c, Option.bind_some]
  dsimp only
  rw [if_pos (by rfl), gn_of hi]
  unfold MZ_must
  rw [M_takes h]
  by_cases d : isK s 13 = true
  · rw [if_pos d, if_pos d]
    cases MZ_step tx (nI z) s with
    | none => rfl
    | some r => rfl
  rw [if_neg d, if_neg d]
  rfl
/-- a person more -/
theorem phR_push {n : Nat} {s : ZS} {name : AL} (h : phR n s name) {i kd : Nat} (hi : i < s.2.2.2.2.2.2.2.2.2.2.2.2.2.2.2.2.2.2.2.2.2.2.2.2.2.2.2.2.1) (hg : goodW (s.2.2.2.2.2.2.2.2.2.2.2.2.2.2.2.2.2.2.2.2.2.2.2.2.2.2.2.2.2.1 i) (s.2.2.2.2.2.2.2.2.2.2.2.2.2.2.2.2.2.2.2.2.2.2.2.2.2.2.2.2.2.2.1 i)) (hk : kd < 4) (num : Int32) : niI (zpers s kd i num) := by
  obtain ⟨h1, h2, h3, h4, h5, h6⟩ := h
  intro k hk'
  have hk2 : k < s.2.2.2.2.2.2.2.2.2.2.2.2.2.2.2.2.2.2.2.1 + 1 := hk'
  show updF s.2.2.2.2.2.2.2.2.2.2.2.2.2.2.2.2.2.2.2.2.2.1 s.2.2.2.2.2.2.2.2.2.2.2.2.2.2.2.2.2.2.2.1 i k < s.2.2.2.2.2.2.2.2.2.2.2.2.2.2.2.2.2.2.2.2.2.2.2.2.2.2.2.2.1
  unfold updF
  by_cases q : k = s.2.2.2.2.2.2.2.2.2.2.2.2.2.2.2.2.2.2.2.1
  · rw [if_pos q]; exact hi
  · rw [if_neg q]; rw [h6] at q hk2; exact (h2 k (by omega)).1
set_option maxHeartbeats 8000000 in
theorem personLine_sim {z e n m : Nat} (hz : z ≤ 900) (tx : AI) {s : ZS} {spot sort place number : Int32} {word : Int64} (h : TR z e s spot sort place number word) (ht : s.2.1 = 2) {hour gives people nears askeds heards wents : Int32} {name : AL} {kind has dies : AI} (hp : phR n s name) (hc : cntR n m s hour gives people nears askeds heards wents) (f wa : Int32) :
    (∃ er a c d w x1 x2 x3 x4 x5, MZ_personLine tx (nI z) s = some (.inl er) ∧ erO er.1 ∧ MX7_readPerson (nI z) spot sort place number f wa word hour (nI n) tx name kind has dies = some (a, 5, c, d, er.1, er.2, w, x1, x2, x3, x4, x5)) ∨
    (∃ e' s1 s2 s3 i kd t1 t2 a b c d w W, n < 6 ∧ zsm s s1 ∧ i < s1.2.2.2.2.2.2.2.2.2.2.2.2.2.2.2.2.2.2.2.2.2.2.2.2.2.2.2.2.1 ∧ goodW (s1.2.2.2.2.2.2.2.2.2.2.2.2.2.2.2.2.2.2.2.2.2.2.2.2.2.2.2.2.2.1 i) (s1.2.2.2.2.2.2.2.2.2.2.2.2.2.2.2.2.2.2.2.2.2.2.2.2.2.2.2.2.2.2.1 i) ∧ W = pkW (s1.2.2.2.2.2.2.2.2.2.2.2.2.2.2.2.2.2.2.2.2.2.2.2.2.2.2.2.2.2.2.1 i) (s1.2.2.2.2.2.2.2.2.2.2.2.2.2.2.2.2.2.2.2.2.2.2.2.2.2.2.2.2.2.1 i) ∧ kd < 4 ∧ zsm (zpers s1 kd i (nI n)) s2 ∧ zsm ((s2.1, s2.2.1, s2.2.2.1, s2.2.2.2.1, s2.2.2.2.2.1, s2.2.2.2.2.2.1, s2.2.2.2.2.2.2.1, s2.2.2.2.2.2.2.2.1, s2.2.2.2.2.2.2.2.2.1, s2.2.2.2.2.2.2.2.2.2.1, s2.2.2.2.2.2.2.2.2.2.2.1, s2.2.2.2.2.2.2.2.2.2.2.2.1, s2.2.2.2.2.2.2.2.2.2.2.2.2.1, s2.2.2.2.2.2.2.2.2.2.2.2.2.2.1, s2.2.2.2.2.2.2.2.2.2.2.2.2.2.2.1, s2.2.2.2.2.2.2.2.2.2.2.2.2.2.2.2.1, s2.2.2.2.2.2.2.2.2.2.2.2.2.2.2.2.2.1, s2.2.2.2.2.2.2.2.2.2.2.2.2.2.2.2.2.2.1, s2.2.2.2.2.2.2.2.2.2.2.2.2.2.2.2.2.2.2.1, s2.2.2.2.2.2.2.2.2.2.2.2.2.2.2.2.2.2.2.2.1, s2.2.2.2.2.2.2.2.2.2.2.2.2.2.2.2.2.2.2.2.2.1, s2.2.2.2.2.2.2.2.2.2.2.2.2.2.2.2.2.2.2.2.2.2.1, s2.2.2.2.2.2.2.2.2.2.2.2.2.2.2.2.2.2.2.2.2.2.2.1, (upd s2.2.2.2.2.2.2.2.2.2.2.2.2.2.2.2.2.2.2.2.2.2.2.2.1 n (nI t1)), s2.2.2.2.2.2.2.2.2.2.2.2.2.2.2.2.2.2.2.2.2.2.2.2.2.1, s2.2.2.2.2.2.2.2.2.2.2.2.2.2.2.2.2.2.2.2.2.2.2.2.2.2.1, s2.2.2.2.2.2.2.2.2.2.2.2.2.2.2.2.2.2.2.2.2.2.2.2.2.2.2.1, s2.2.2.2.2.2.2.2.2.2.2.2.2.2.2.2.2.2.2.2.2.2.2.2.2.2.2.2.1, s2.2.2.2.2.2.2.2.2.2.2.2.2.2.2.2.2.2.2.2.2.2.2.2.2.2.2.2.2.1, s2.2.2.2.2.2.2.2.2.2.2.2.2.2.2.2.2.2.2.2.2.2.2.2.2.2.2.2.2.2.1, s2.2.2.2.2.2.2.2.2.2.2.2.2.2.2.2.2.2.2.2.2.2.2.2.2.2.2.2.2.2.2.1, s2.2.2.2.2.2.2.2.2.2.2.2.2.2.2.2.2.2.2.2.2.2.2.2.2.2.2.2.2.2.2.2) : ZS) s3 ∧ t1 ≤ 99 ∧ t2 ≤ 100 ∧ MZ_personLine tx (nI z) s = some (.inr ((s3.1, s3.2.1, s3.2.2.1, s3.2.2.2.1, s3.2.2.2.2.1, s3.2.2.2.2.2.1, s3.2.2.2.2.2.2.1, s3.2.2.2.2.2.2.2.1, s3.2.2.2.2.2.2.2.2.1, (s3.2.2.2.2.2.2.2.2.2.1 + (1 : Int32)), s3.2.2.2.2.2.2.2.2.2.2.1, s3.2.2.2.2.2.2.2.2.2.2.2.1, s3.2.2.2.2.2.2.2.2.2.2.2.2.1, s3.2.2.2.2.2.2.2.2.2.2.2.2.2.1, s3.2.2.2.2.2.2.2.2.2.2.2.2.2.2.1, s3.2.2.2.2.2.2.2.2.2.2.2.2.2.2.2.1, s3.2.2.2.2.2.2.2.2.2.2.2.2.2.2.2.2.1, s3.2.2.2.2.2.2.2.2.2.2.2.2.2.2.2.2.2.1, s3.2.2.2.2.2.2.2.2.2.2.2.2.2.2.2.2.2.2.1, s3.2.2.2.2.2.2.2.2.2.2.2.2.2.2.2.2.2.2.2.1, s3.2.2.2.2.2.2.2.2.2.2.2.2.2.2.2.2.2.2.2.2.1, s3.2.2.2.2.2.2.2.2.2.2.2.2.2.2.2.2.2.2.2.2.2.1, s3.2.2.2.2.2.2.2.2.2.2.2.2.2.2.2.2.2.2.2.2.2.2.1, s3.2.2.2.2.2.2.2.2.2.2.2.2.2.2.2.2.2.2.2.2.2.2.2.1, (upd s3.2.2.2.2.2.2.2.2.2.2.2.2.2.2.2.2.2.2.2.2.2.2.2.2.1 n (nI t2)), s3.2.2.2.2.2.2.2.2.2.2.2.2.2.2.2.2.2.2.2.2.2.2.2.2.2.1, s3.2.2.2.2.2.2.2.2.2.2.2.2.2.2.2.2.2.2.2.2.2.2.2.2.2.2.1, s3.2.2.2.2.2.2.2.2.2.2.2.2.2.2.2.2.2.2.2.2.2.2.2.2.2.2.2.1, s3.2.2.2.2.2.2.2.2.2.2.2.2.2.2.2.2.2.2.2.2.2.2.2.2.2.2.2.2.1, s3.2.2.2.2.2.2.2.2.2.2.2.2.2.2.2.2.2.2.2.2.2.2.2.2.2.2.2.2.2.1, s3.2.2.2.2.2.2.2.2.2.2.2.2.2.2.2.2.2.2.2.2.2.2.2.2.2.2.2.2.2.2.1, (s3.2.2.2.2.2.2.2.2.2.2.2.2.2.2.2.2.2.2.2.2.2.2.2.2.2.2.2.2.2.2.2 + 1)) : ZS)) ∧ MX7_readPerson (nI z) spot sort place number f wa word hour (nI n) tx name kind has dies = some (a, b, c, d, f, wa, w, nI n + (1 : Int32), vp_updL name n W, upd kind n (nI kd), upd has n (nI t1), upd dies n (nI t2)) ∧ TR z e' s3 a b c d w ∧ ¬ b = 5 ∧ e < e' ∧ ∃ t, t ≤ 99 ∧ hour = nI t) := by
  have hn := hp.1
  have hni := hp.ni
  obtain ⟨-, hhr, hv, -, -, -, -, -, -, -, -, -, -, hzk⟩ := hc
  have hpm : s.2.2.2.2.2.2.2.2.2.1 = nI n := hp.2.2.2.1
  have hA : MZ_personLine tx (nI z) s = (MZ_begins tx (nI z) s (decide (¬ nI n = 6))).bind (fun r26_ => match r26_ with
    | .inl e => some (.inl e)
    | .inr r26 =>
      (MZ_newName tx (nI z) r26).bind fun r29_ => match r29_ with
      | .inl e => some (.inl e)
      | .inr r29 =>
        (MZ_personOf tx (nI z) r29.2 r29.1 r29.2.2.2.2.2.2.2.2.2.2.1).bind fun r32_ => match r32_ with
        | .inl e => some (.inl e)
        | .inr r32 =>
          gn r32.1 r32.2.2.2.2.2.2.2.2.2.2.2.2.2.2.2.2.2.2.2.2.1 <|
          (MZ_after tx (nI z) r32.2 14 (0 : Int32) (99 : Int32)).bind fun r35_ => match r35_ with
          | .inl e => some (.inl e)
          | .inr r35 =>
            gn r32.1 r35.2.2.2.2.2.2.2.2.2.2.2.2.2.2.2.2.2.2.2.2.1 <|
            gn (r35.2.2.2.2.2.2.2.2.2.2.2.2.2.2.2.2.2.2.2.2.2.1 r32.1) 4 <|
            gn r32.1 r35.2.2.2.2.2.2.2.2.2.2.2.2.2.2.2.2.2.2.2.2.1 <|
            (MZ_after tx (nI z) ((r35.2.1, r35.2.2.1, r35.2.2.2.1, r35.2.2.2.2.1, r35.2.2.2.2.2.1, r35.2.2.2.2.2.2.1, r35.2.2.2.2.2.2.2.1, r35.2.2.2.2.2.2.2.2.1, r35.2.2.2.2.2.2.2.2.2.1, r35.2.2.2.2.2.2.2.2.2.2.1, r35.2.2.2.2.2.2.2.2.2.2.2.1, r35.2.2.2.2.2.2.2.2.2.2.2.2.1, r35.2.2.2.2.2.2.2.2.2.2.2.2.2.1, r35.2.2.2.2.2.2.2.2.2.2.2.2.2.2.1, r35.2.2.2.2.2.2.2.2.2.2.2.2.2.2.2.1, r35.2.2.2.2.2.2.2.2.2.2.2.2.2.2.2.2.1, r35.2.2.2.2.2.2.2.2.2.2.2.2.2.2.2.2.2.1, r35.2.2.2.2.2.2.2.2.2.2.2.2.2.2.2.2.2.2.1, r35.2.2.2.2.2.2.2.2.2.2.2.2.2.2.2.2.2.2.2.1, r35.2.2.2.2.2.2.2.2.2.2.2.2.2.2.2.2.2.2.2.2.1, r35.2.2.2.2.2.2.2.2.2.2.2.2.2.2.2.2.2.2.2.2.2.1, r35.2.2.2.2.2.2.2.2.2.2.2.2.2.2.2.2.2.2.2.2.2.2.1, r35.2.2.2.2.2.2.2.2.2.2.2.2.2.2.2.2.2.2.2.2.2.2.2.1, (upd r35.2.2.2.2.2.2.2.2.2.2.2.2.2.2.2.2.2.2.2.2.2.2.2.2.1 r32.1 r35.1), r35.2.2.2.2.2.2.2.2.2.2.2.2.2.2.2.2.2.2.2.2.2.2.2.2.2.1, r35.2.2.2.2.2.2.2.2.2.2.2.2.2.2.2.2.2.2.2.2.2.2.2.2.2.2.1, r35.2.2.2.2.2.2.2.2.2.2.2.2.2.2.2.2.2.2.2.2.2.2.2.2.2.2.2.1, r35.2.2.2.2.2.2.2.2.2.2.2.2.2.2.2.2.2.2.2.2.2.2.2.2.2.2.2.2.1, r35.2.2.2.2.2.2.2.2.2.2.2.2.2.2.2.2.2.2.2.2.2.2.2.2.2.2.2.2.2.1, r35.2.2.2.2.2.2.2.2.2.2.2.2.2.2.2.2.2.2.2.2.2.2.2.2.2.2.2.2.2.2.1, r35.2.2.2.2.2.2.2.2.2.2.2.2.2.2.2.2.2.2.2.2.2.2.2.2.2.2.2.2.2.2.2.1, r35.2.2.2.2.2.2.2.2.2.2.2.2.2.2.2.2.2.2.2.2.2.2.2.2.2.2.2.2.2.2.2.2) : ZS) 15 (0 : Int32) (100 : Int32)).bind fun r41_ => match r41_ with
            | .inl e => some (.inl e)
            | .inr r41 =>
              gn r32.1 r41.2.2.2.2.2.2.2.2.2.2.2.2.2.2.2.2.2.2.2.2.1 <|
              gn (r41.2.2.2.2.2.2.2.2.2.2.2.2.2.2.2.2.2.2.2.2.2.1 r32.1) 4 <|
              gi r41.2.2.2.2.2.2.2.2.2.2.1 6 <|
              gall (r32.1 < r41.2.2.2.2.2.2.2.2.2.2.2.2.2.2.2.2.2.2.2.2.1 ∧ r41.2.2.2.2.2.2.2.2.2.2.2.2.2.2.2.2.2.2.2.2.2.1 r32.1 < 4 ∧ r32.1 = r41.2.2.2.2.2.2.2.2.2.2.2.2.2.2.2.2.2.2.2.2.2.2.2.2.2.2.2.2.2.2.2.2 ∧ (Int32.toNatClampNeg r41.2.2.2.2.2.2.2.2.2.2.1) = r41.2.2.2.2.2.2.2.2.2.2.2.2.2.2.2.2.2.2.2.2.2.2.2.2.2.2.2.2.2.2.2.2) <|
              some (.inr ((r41.2.1, r41.2.2.1, r41.2.2.2.1, r41.2.2.2.2.1, r41.2.2.2.2.2.1, r41.2.2.2.2.2.2.1, r41.2.2.2.2.2.2.2.1, r41.2.2.2.2.2.2.2.2.1, r41.2.2.2.2.2.2.2.2.2.1, (r41.2.2.2.2.2.2.2.2.2.2.1 + (1 : Int32)), r41.2.2.2.2.2.2.2.2.2.2.2.1, r41.2.2.2.2.2.2.2.2.2.2.2.2.1, r41.2.2.2.2.2.2.2.2.2.2.2.2.2.1, r41.2.2.2.2.2.2.2.2.2.2.2.2.2.2.1, r41.2.2.2.2.2.2.2.2.2.2.2.2.2.2.2.1, r41.2.2.2.2.2.2.2.2.2.2.2.2.2.2.2.2.1, r41.2.2.2.2.2.2.2.2.2.2.2.2.2.2.2.2.2.1, r41.2.2.2.2.2.2.2.2.2.2.2.2.2.2.2.2.2.2.1, r41.2.2.2.2.2.2.2.2.2.2.2.2.2.2.2.2.2.2.2.1, r41.2.2.2.2.2.2.2.2.2.2.2.2.2.2.2.2.2.2.2.2.1, r41.2.2.2.2.2.2.2.2.2.2.2.2.2.2.2.2.2.2.2.2.2.1, r41.2.2.2.2.2.2.2.2.2.2.2.2.2.2.2.2.2.2.2.2.2.2.1, r41.2.2.2.2.2.2.2.2.2.2.2.2.2.2.2.2.2.2.2.2.2.2.2.1, r41.2.2.2.2.2.2.2.2.2.2.2.2.2.2.2.2.2.2.2.2.2.2.2.2.1, (upd r41.2.2.2.2.2.2.2.2.2.2.2.2.2.2.2.2.2.2.2.2.2.2.2.2.2.1 r32.1 r41.1), r41.2.2.2.2.2.2.2.2.2.2.2.2.2.2.2.2.2.2.2.2.2.2.2.2.2.2.1, r41.2.2.2.2.2.2.2.2.2.2.2.2.2.2.2.2.2.2.2.2.2.2.2.2.2.2.2.1, r41.2.2.2.2.2.2.2.2.2.2.2.2.2.2.2.2.2.2.2.2.2.2.2.2.2.2.2.2.1, r41.2.2.2.2.2.2.2.2.2.2.2.2.2.2.2.2.2.2.2.2.2.2.2.2.2.2.2.2.2.1, r41.2.2.2.2.2.2.2.2.2.2.2.2.2.2.2.2.2.2.2.2.2.2.2.2.2.2.2.2.2.2.1, r41.2.2.2.2.2.2.2.2.2.2.2.2.2.2.2.2.2.2.2.2.2.2.2.2.2.2.2.2.2.2.2.1, (r41.2.2.2.2.2.2.2.2.2.2.2.2.2.2.2.2.2.2.2.2.2.2.2.2.2.2.2.2.2.2.2.2 + 1)) : ZS))) := by
    unfold MZ_personLine
    rw [hpm]
    by_cases c : nI n = 6
    · rw [if_pos (by rw [c]; decide), show decide (¬ nI n = 6) = false by simp [c]] <;> try rfl
    · rw [if_neg (show ¬ (6 : Int32) ≤ nI n from fun q => c ((lim_lt (M := 6) (by decide) hn).mpr q)), show decide (¬ nI n = 6) = true by simp [c]] <;> try rfl
  rcases begin_sim hz tx h ht hni hhr hv (decide (¬ nI n = 6)) (p0 := nI n) (p1 := 6) (by simp) f wa with ⟨er, a, c, d, w, k1, k2, k3⟩ | ⟨e1, s1, a1, b1, c1, d1, w1, k1, k2, k3, k4, k5, k6, k7, k8⟩
  · obtain ⟨r, hr⟩ := find_any hn name w
    refine Or.inl ⟨er, a, c, d, w, nI n, name, kind, has, dies, ?_, k2, ?_⟩
    · rw [hA, k1]; rfl
    · unfold MX7_readPerson
      rw [k3, Option.bind_some]
      dsimp only
      rw [isName5, Option.bind_some, if_pos (by rfl), flaw5, Option.bind_some, Option.bind_some]
      dsimp only
      rw [hr, Option.bind_some]
      have e1 : (if r = (-1 : Int32) then some ((5 : Int32), er.1, er.2) else (MX7_flaw (3 : Int32) 5 c er.1 er.2).bind fun r17 => some (r17.1, r17.2.1, r17.2.2)) = some ((5 : Int32), er.1, er.2) := by
        by_cases q : r = -1
        · rw [if_pos q]
        · rw [if_neg q]; rfl
      rw [e1, Option.bind_some]
      dsimp only
      rw [goesOn5, Option.bind_some]
      dsimp only
      rw [chain_kind5, if_pos rfl, flaw5, Option.bind_some, Option.bind_some]
      dsimp only
      rw [goesOn5, Option.bind_some]
      dsimp only
      rw [over_part, Option.bind_some]
      dsimp only
      rw [over_part, Option.bind_some]
      dsimp only
      rw [if_pos rfl]
  have hn5 : n < 6 := by
    rcases Nat.lt_or_ge n 6 with q | q
    · exact q
    · exact absurd (show nI n = 6 by rw [show n = 6 by omega]; rfl) k8
  rw [k1, Option.bind_some] at hA
  dsimp only at hA
  have hB : MX7_readPerson (nI z) spot sort place number f wa word hour (nI n) tx name kind has dies = MX7_readPerson (nI z) spot sort place number f wa word hour (nI n) tx name kind has dies := rfl
  conv at hB =>
    rhs
    unfold MX7_readPerson
    rw [k2, Option.bind_some]
  dsimp only at hB
  have hp1 := phR_sm k4 hp
  rw [M_isName k3, Option.bind_some] at hB
  by_cases qn : isNm s1 = true
  · have ht1 : s1.2.1 = 2 := by unfold isNm at qn; simp only [Bool.and_eq_true, decide_eq_true_eq] at qn; exact qn.1
    obtain ⟨i, o, hwd, his, hf, hm, ho, hg, hw⟩ := M_find hn tx hp1.2.1 hp1.2.2.1 hp1.2.2.2.1 hp1.2.2.2.2.1 hp1.2.2.2.2.2 k3 ht1
    rw [qn, if_neg (by decide), Option.bind_some] at hB
    dsimp only at hB
    rw [hm, Option.bind_some] at hB
    cases o with
    | some k =>
      refine Or.inl ⟨((3 : Int32), s1.2.2.1), a1, c1, d1, w1, nI n, name, kind, has, dies, ?_, ⟨3, by decide, by decide, rfl⟩, ?_⟩
      · rw [hA]
        unfold MZ_newName
        rw [M_mustName k3, if_pos qn, Option.bind_some]
        dsimp only
        rw [hwd, Option.bind_some, gn_of his, hf]
        rfl
      · rw [hB, if_neg (show ¬ fdV (some k) = -1 from nI_nm1 (by have := ho k rfl; omega)), flawN k5, Option.bind_some, Option.bind_some, k3.pl]
        dsimp only
        rw [goesOn5, Option.bind_some]
        dsimp only
        rw [chain_kind5, if_pos rfl, flaw5, Option.bind_some, Option.bind_some]
        dsimp only
        rw [goesOn5, Option.bind_some]
        dsimp only
        rw [over_part, Option.bind_some]
        dsimp only
        rw [over_part, Option.bind_some]
        dsimp only
        rw [if_pos rfl]
    | none =>
      obtain ⟨e2, s2, a2, b2, c2, d2, w2, g1, g2, g3, g4, g5, g6, -⟩ := step_of hz tx k3 hp1.ni (Or.inl ht1)
      have hN : MZ_newName tx (nI z) s1 = some (.inr (i, s2)) := by
        unfold MZ_newName
        rw [M_mustName k3, if_pos qn, Option.bind_some]
        dsimp only
        rw [hwd, Option.bind_some, gn_of his, hf, Option.bind_some]
        dsimp only
        rw [hwd, Option.bind_some, gn_of his, gn_of his, g1]
        rfl
      have hp2 := phR_sm g4 hp1
      have his2 : i < s2.2.2.2.2.2.2.2.2.2.2.2.2.2.2.2.2.2.2.2.2.2.2.2.2.2.2.2.2.1 := Nat.lt_of_lt_of_le his g4.2.1
      rw [hN, Option.bind_some] at hA
      dsimp only at hA
      rw [hp2.2.2.2.1, M_personOf g3 tx his2] at hA
      rw [if_pos (show fdV none = -1 from rfl), Option.bind_some] at hB
      dsimp only at hB
      rw [g2, Option.bind_some] at hB
      dsimp only at hB
      rw [chain_kind g3] at hB
      cases hkd : kdO s2 with
      | none =>
        rw [hkd] at hA hB
        refine Or.inl ⟨((1 : Int32), s2.2.2.1), a2, c2, d2, w2, nI n, name, kind, has, dies, ?_, ⟨1, by decide, by decide, rfl⟩, ?_⟩
        · rw [hA]; rfl
        · rw [hB, if_pos (show fdV none = -1 from rfl), flawN g5, Option.bind_some, Option.bind_some, g3.pl]
          dsimp only
          rw [goesOn5, Option.bind_some]
          dsimp only
          rw [over_part, Option.bind_some]
          dsimp only
          rw [over_part, Option.bind_some]
          dsimp only
          rw [if_pos rfl]
      | some kd =>
        obtain ⟨hkl, ht2⟩ := kdO_lt hkd
        obtain ⟨e3, s3, a3, b3, c3, d3, w3, f1, f2, f3, f4, f5, f6, -⟩ := step_of hz tx g3 hp2.ni (Or.inl ht2)
        have hp3 := phR_sm f4 hp2
        have hz3 : zok s3.2.2.2.2.2.1 s3.2.2.2.2.2.2.2.2.2.2.2.2.2.2.2.2.2.2.2.1 = true := by rw [zr_ak f4.1, zr_np f4.1, zr_ak g4.1, zr_np g4.1, zr_ak k4.1, zr_np k4.1]; exact hzk
        have hsm : zsm s1 s3 := zsm_tr g4 f4
        have hi3 : i < s3.2.2.2.2.2.2.2.2.2.2.2.2.2.2.2.2.2.2.2.2.2.2.2.2.2.2.2.2.1 := Nat.lt_of_lt_of_le his2 f4.2.1
        have hg3 : goodW (s3.2.2.2.2.2.2.2.2.2.2.2.2.2.2.2.2.2.2.2.2.2.2.2.2.2.2.2.2.2.1 i) (s3.2.2.2.2.2.2.2.2.2.2.2.2.2.2.2.2.2.2.2.2.2.2.2.2.2.2.2.2.2.2.1 i) := by rw [(hsm.2.2 i his).1, (hsm.2.2 i his).2]; exact hg
        have hw3 : word = word := rfl
        rw [hkd] at hA hB
        dsimp only at hA
        rw [f1, Option.bind_some, gall_of ⟨hz3, by rw [hp3.2.2.2.2.1, hp3.2.2.2.2.2]; exact Nat.le_refl _⟩, Option.bind_some] at hA
        dsimp only at hA
        rw [if_neg (show ¬ fdV (some kd) = -1 from nI_nm1 (by omega)), Option.bind_some] at hB
        dsimp only at hB
        rw [f2, Option.bind_some] at hB
        dsimp only at hB
        rw [gn_of (show s3.2.2.2.2.2.2.2.2.2.2.2.2.2.2.2.2.2.2.2.1 < (zpers s3 kd i (nI n)).2.2.2.2.2.2.2.2.2.2.2.2.2.2.2.2.2.2.2.1 from Nat.lt_succ_self _)] at hA
        rcases part_sim hz tx (s := zpers s3 kd i (nI n)) (show TR z e3 (zpers s3 kd i (nI n)) a3 b3 c3 d3 w3 from f3) f5 (phR_push hp3 hi3 hg3 hkl (nI n)) (k := 14) (by decide) (by decide) 0 99 f wa with ⟨er, v, a, c, d, w, i1, i2, i3⟩ | ⟨v, e4, s4, a4, b4, c4, d4, w4, i1, i2, i3, i4, i5, i6, i7⟩
        · refine Or.inl ⟨er, a, c, d, w, nI n, name, kind, has, dies, ?_, i2, ?_⟩
          · rw [hA, i1]; rfl
          · rw [hB, i3, Option.bind_some]
            dsimp only
            rw [over_part, Option.bind_some]
            dsimp only
            rw [if_pos rfl]
        obtain ⟨t1, ht1', rfl⟩ := in_nI (hi := 99) (by decide) i7
        have np3 : s3.2.2.2.2.2.2.2.2.2.2.2.2.2.2.2.2.2.2.2.1 = n := hp3.2.2.2.2.2
        have np4 : s4.2.2.2.2.2.2.2.2.2.2.2.2.2.2.2.2.2.2.2.1 = n + 1 := (zr_np i4.1).trans (congrArg (· + 1) np3)
        have pk4 : s4.2.2.2.2.2.2.2.2.2.2.2.2.2.2.2.2.2.2.2.2.1 n = kd := by
          rw [zr_pk i4.1]
          show updF s3.2.2.2.2.2.2.2.2.2.2.2.2.2.2.2.2.2.2.2.2.1 s3.2.2.2.2.2.2.2.2.2.2.2.2.2.2.2.2.2.2.2.1 kd n = kd
          unfold updF
          rw [if_pos np3.symm]
        rw [np3] at hA
        rw [i1, Option.bind_some] at hA
        dsimp only at hA
        have l4 : n < s4.2.2.2.2.2.2.2.2.2.2.2.2.2.2.2.2.2.2.2.1 := by rw [np4]; exact Nat.lt_succ_self n
        have k4' : s4.2.2.2.2.2.2.2.2.2.2.2.2.2.2.2.2.2.2.2.2.1 n < 4 := by rw [pk4]; exact hkl
        rw [gn_of l4, gn_of k4', gn_of l4] at hA
        rw [i2, Option.bind_some] at hB
        dsimp only at hB
        have hni4 : niI ((s4.1, s4.2.1, s4.2.2.1, s4.2.2.2.1, s4.2.2.2.2.1, s4.2.2.2.2.2.1, s4.2.2.2.2.2.2.1, s4.2.2.2.2.2.2.2.1, s4.2.2.2.2.2.2.2.2.1, s4.2.2.2.2.2.2.2.2.2.1, s4.2.2.2.2.2.2.2.2.2.2.1, s4.2.2.2.2.2.2.2.2.2.2.2.1, s4.2.2.2.2.2.2.2.2.2.2.2.2.1, s4.2.2.2.2.2.2.2.2.2.2.2.2.2.1, s4.2.2.2.2.2.2.2.2.2.2.2.2.2.2.1, s4.2.2.2.2.2.2.2.2.2.2.2.2.2.2.2.1, s4.2.2.2.2.2.2.2.2.2.2.2.2.2.2.2.2.1, s4.2.2.2.2.2.2.2.2.2.2.2.2.2.2.2.2.2.1, s4.2.2.2.2.2.2.2.2.2.2.2.2.2.2.2.2.2.2.1, s4.2.2.2.2.2.2.2.2.2.2.2.2.2.2.2.2.2.2.2.1, s4.2.2.2.2.2.2.2.2.2.2.2.2.2.2.2.2.2.2.2.2.1, s4.2.2.2.2.2.2.2.2.2.2.2.2.2.2.2.2.2.2.2.2.2.1, s4.2.2.2.2.2.2.2.2.2.2.2.2.2.2.2.2.2.2.2.2.2.2.1, (upd s4.2.2.2.2.2.2.2.2.2.2.2.2.2.2.2.2.2.2.2.2.2.2.2.1 n (nI t1)), s4.2.2.2.2.2.2.2.2.2.2.2.2.2.2.2.2.2.2.2.2.2.2.2.2.1, s4.2.2.2.2.2.2.2.2.2.2.2.2.2.2.2.2.2.2.2.2.2.2.2.2.2.1, s4.2.2.2.2.2.2.2.2.2.2.2.2.2.2.2.2.2.2.2.2.2.2.2.2.2.2.1, s4.2.2.2.2.2.2.2.2.2.2.2.2.2.2.2.2.2.2.2.2.2.2.2.2.2.2.2.1, s4.2.2.2.2.2.2.2.2.2.2.2.2.2.2.2.2.2.2.2.2.2.2.2.2.2.2.2.2.1, s4.2.2.2.2.2.2.2.2.2.2.2.2.2.2.2.2.2.2.2.2.2.2.2.2.2.2.2.2.2.1, s4.2.2.2.2.2.2.2.2.2.2.2.2.2.2.2.2.2.2.2.2.2.2.2.2.2.2.2.2.2.2.1, s4.2.2.2.2.2.2.2.2.2.2.2.2.2.2.2.2.2.2.2.2.2.2.2.2.2.2.2.2.2.2.2) : ZS) := (show niI s4 from niI_sm i4 (phR_push hp3 hi3 hg3 hkl (nI n)))
        rcases part_sim hz tx (s := ((s4.1, s4.2.1, s4.2.2.1, s4.2.2.2.1, s4.2.2.2.2.1, s4.2.2.2.2.2.1, s4.2.2.2.2.2.2.1, s4.2.2.2.2.2.2.2.1, s4.2.2.2.2.2.2.2.2.1, s4.2.2.2.2.2.2.2.2.2.1, s4.2.2.2.2.2.2.2.2.2.2.1, s4.2.2.2.2.2.2.2.2.2.2.2.1, s4.2.2.2.2.2.2.2.2.2.2.2.2.1, s4.2.2.2.2.2.2.2.2.2.2.2.2.2.1, s4.2.2.2.2.2.2.2.2.2.2.2.2.2.2.1, s4.2.2.2.2.2.2.2.2.2.2.2.2.2.2.2.1, s4.2.2.2.2.2.2.2.2.2.2.2.2.2.2.2.2.1, s4.2.2.2.2.2.2.2.2.2.2.2.2.2.2.2.2.2.1, s4.2.2.2.2.2.2.2.2.2.2.2.2.2.2.2.2.2.2.1, s4.2.2.2.2.2.2.2.2.2.2.2.2.2.2.2.2.2.2.2.1, s4.2.2.2.2.2.2.2.2.2.2.2.2.2.2.2.2.2.2.2.2.1, s4.2.2.2.2.2.2.2.2.2.2.2.2.2.2.2.2.2.2.2.2.2.1, s4.2.2.2.2.2.2.2.2.2.2.2.2.2.2.2.2.2.2.2.2.2.2.1, (upd s4.2.2.2.2.2.2.2.2.2.2.2.2.2.2.2.2.2.2.2.2.2.2.2.1 n (nI t1)), s4.2.2.2.2.2.2.2.2.2.2.2.2.2.2.2.2.2.2.2.2.2.2.2.2.1, s4.2.2.2.2.2.2.2.2.2.2.2.2.2.2.2.2.2.2.2.2.2.2.2.2.2.1, s4.2.2.2.2.2.2.2.2.2.2.2.2.2.2.2.2.2.2.2.2.2.2.2.2.2.2.1, s4.2.2.2.2.2.2.2.2.2.2.2.2.2.2.2.2.2.2.2.2.2.2.2.2.2.2.2.1, s4.2.2.2.2.2.2.2.2.2.2.2.2.2.2.2.2.2.2.2.2.2.2.2.2.2.2.2.2.1, s4.2.2.2.2.2.2.2.2.2.2.2.2.2.2.2.2.2.2.2.2.2.2.2.2.2.2.2.2.2.1, s4.2.2.2.2.2.2.2.2.2.2.2.2.2.2.2.2.2.2.2.2.2.2.2.2.2.2.2.2.2.2.1, s4.2.2.2.2.2.2.2.2.2.2.2.2.2.2.2.2.2.2.2.2.2.2.2.2.2.2.2.2.2.2.2) : ZS)) (show TR z e4 ((s4.1, s4.2.1, s4.2.2.1, s4.2.2.2.1, s4.2.2.2.2.1, s4.2.2.2.2.2.1, s4.2.2.2.2.2.2.1, s4.2.2.2.2.2.2.2.1, s4.2.2.2.2.2.2.2.2.1, s4.2.2.2.2.2.2.2.2.2.1, s4.2.2.2.2.2.2.2.2.2.2.1, s4.2.2.2.2.2.2.2.2.2.2.2.1, s4.2.2.2.2.2.2.2.2.2.2.2.2.1, s4.2.2.2.2.2.2.2.2.2.2.2.2.2.1, s4.2.2.2.2.2.2.2.2.2.2.2.2.2.2.1, s4.2.2.2.2.2.2.2.2.2.2.2.2.2.2.2.1, s4.2.2.2.2.2.2.2.2.2.2.2.2.2.2.2.2.1, s4.2.2.2.2.2.2.2.2.2.2.2.2.2.2.2.2.2.1, s4.2.2.2.2.2.2.2.2.2.2.2.2.2.2.2.2.2.2.1, s4.2.2.2.2.2.2.2.2.2.2.2.2.2.2.2.2.2.2.2.1, s4.2.2.2.2.2.2.2.2.2.2.2.2.2.2.2.2.2.2.2.2.1, s4.2.2.2.2.2.2.2.2.2.2.2.2.2.2.2.2.2.2.2.2.2.1, s4.2.2.2.2.2.2.2.2.2.2.2.2.2.2.2.2.2.2.2.2.2.2.1, (upd s4.2.2.2.2.2.2.2.2.2.2.2.2.2.2.2.2.2.2.2.2.2.2.2.1 n (nI t1)), s4.2.2.2.2.2.2.2.2.2.2.2.2.2.2.2.2.2.2.2.2.2.2.2.2.1, s4.2.2.2.2.2.2.2.2.2.2.2.2.2.2.2.2.2.2.2.2.2.2.2.2.2.1, s4.2.2.2.2.2.2.2.2.2.2.2.2.2.2.2.2.2.2.2.2.2.2.2.2.2.2.1, s4.2.2.2.2.2.2.2.2.2.2.2.2.2.2.2.2.2.2.2.2.2.2.2.2.2.2.2.1, s4.2.2.2.2.2.2.2.2.2.2.2.2.2.2.2.2.2.2.2.2.2.2.2.2.2.2.2.2.1, s4.2.2.2.2.2.2.2.2.2.2.2.2.2.2.2.2.2.2.2.2.2.2.2.2.2.2.2.2.2.1, s4.2.2.2.2.2.2.2.2.2.2.2.2.2.2.2.2.2.2.2.2.2.2.2.2.2.2.2.2.2.2.1, s4.2.2.2.2.2.2.2.2.2.2.2.2.2.2.2.2.2.2.2.2.2.2.2.2.2.2.2.2.2.2.2) : ZS) a4 b4 c4 d4 w4 from i3) i5 hni4 (k := 15) (by decide) (by decide) 0 100 f wa with ⟨er, v, a, c, d, w, l1, l2, l3⟩ | ⟨v, e5, s5, a5, b5, c5, d5, w5, l1, l2, l3, l4, l5, l6, l7⟩
        · refine Or.inl ⟨er, a, c, d, w, nI n, name, kind, has, dies, ?_, l2, ?_⟩
          · rw [hA, l1]; rfl
          · rw [hB, l3, Option.bind_some]
            dsimp only
            rw [if_pos rfl]
        obtain ⟨t2, ht2', rfl⟩ := in_nI (hi := 100) (by decide) l7
        have np5 : s5.2.2.2.2.2.2.2.2.2.2.2.2.2.2.2.2.2.2.2.1 = n + 1 := (zr_np l4.1).trans np4
        have pk5 : s5.2.2.2.2.2.2.2.2.2.2.2.2.2.2.2.2.2.2.2.2.1 n = kd := by rw [zr_pk l4.1]; exact pk4
        have cn5 : s5.2.2.2.2.2.2.2.2.2.2.2.2.2.2.2.2.2.2.2.2.2.2.2.2.2.2.2.2.2.2.2 = n := (zr_cn l4.1).trans ((zr_cn i4.1).trans hp3.2.2.2.2.1)
        have pm5 : s5.2.2.2.2.2.2.2.2.2.1 = nI n := (zr_pm l4.1).trans ((zr_pm i4.1).trans hp3.2.2.2.1)
        refine Or.inr ⟨e5, s3, s4, s5, i, kd, t1, t2, a5, b5, c5, d5, w5, pkW (s3.2.2.2.2.2.2.2.2.2.2.2.2.2.2.2.2.2.2.2.2.2.2.2.2.2.2.2.2.2.2.1 i) (s3.2.2.2.2.2.2.2.2.2.2.2.2.2.2.2.2.2.2.2.2.2.2.2.2.2.2.2.2.2.1 i), hn5, zsm_tr k4 hsm, hi3, hg3, rfl, hkl, i4, l4, ht1', ht2', ?_, ?_, l3, l5, by omega, k7⟩
        · rw [hA, l1, Option.bind_some]
          dsimp only
          have l5' : n < s5.2.2.2.2.2.2.2.2.2.2.2.2.2.2.2.2.2.2.2.1 := by rw [np5]; exact Nat.lt_succ_self n
          have k5' : s5.2.2.2.2.2.2.2.2.2.2.2.2.2.2.2.2.2.2.2.2.1 n < 4 := by rw [pk5]; exact hkl
          rw [gn_of l5', gn_of k5', gi_of pm5 hn5 (by decide), gall_of (show n < s5.2.2.2.2.2.2.2.2.2.2.2.2.2.2.2.2.2.2.2.1 ∧ s5.2.2.2.2.2.2.2.2.2.2.2.2.2.2.2.2.2.2.2.2.1 n < 4 ∧ n = s5.2.2.2.2.2.2.2.2.2.2.2.2.2.2.2.2.2.2.2.2.2.2.2.2.2.2.2.2.2.2.2 ∧ Int32.toNatClampNeg s5.2.2.2.2.2.2.2.2.2.1 = s5.2.2.2.2.2.2.2.2.2.2.2.2.2.2.2.2.2.2.2.2.2.2.2.2.2.2.2.2.2.2.2 from ⟨l5', k5', cn5.symm, by rw [pm5, nIc (by omega), cn5]⟩)]
        · rw [hB, l2, Option.bind_some]
          dsimp only
          rw [if_neg l5]
          simp only [gi_nI hn5 (show 6 < 2 ^ 31 by decide), nIc (show n < 2 ^ 31 by omega)]
          rw [hw, ← (hsm.2.2 i his).1, ← (hsm.2.2 i his).2]
          rfl
  · have qn : isNm s1 = false := by simpa using qn
    obtain ⟨r, hr⟩ := find_any hn name w1
    refine Or.inl ⟨((1 : Int32), s1.2.2.1), a1, c1, d1, w1, nI n, name, kind, has, dies, ?_, ⟨1, by decide, by decide, rfl⟩, ?_⟩
    · rw [hA]
      unfold MZ_newName
      rw [M_mustName k3, qn, if_neg (by decide)]
      rfl
    · rw [hB, qn, if_pos (by rfl), flawN k5, Option.bind_some, Option.bind_some, k3.pl]
      dsimp only
      rw [hr, Option.bind_some]
      have e1 : (if r = (-1 : Int32) then some ((5 : Int32), (1 : Int32), c1) else (MX7_flaw (3 : Int32) 5 c1 1 c1).bind fun r17 => some (r17.1, r17.2.1, r17.2.2)) = some ((5 : Int32), (1 : Int32), c1) := by
        by_cases q : r = -1
        · rw [if_pos q]
        · rw [if_neg q]; rfl
      rw [e1, Option.bind_some]
      dsimp only
      rw [goesOn5, Option.bind_some]
      dsimp only
      rw [chain_kind5, if_pos rfl, flaw5, Option.bind_some, Option.bind_some]
      dsimp only
      rw [goesOn5, Option.bind_some]
      dsimp only
      rw [over_part, Option.bind_some]
      dsimp only
      rw [over_part, Option.bind_some]
      dsimp only
      rw [if_pos rfl]
