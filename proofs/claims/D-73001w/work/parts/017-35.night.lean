set_option maxRecDepth 100000
/-! a night by chance: how likely a set is, all together -/
def weightF (liv set : Int32) (d : Nat → Int32) : Nat → Int64
  | 0 => 1
  | i + 1 => if hasB liv (nI i) = false then weightF liv set d i else if hasB set (nI i) = false then weightF liv set d i * Int32.toInt64 (100 - d i) else weightF liv set d i * Int32.toInt64 (d i)
def wholeF (liv : Int32) : Nat → Int64
  | 0 => 1
  | i + 1 => if hasB liv (nI i) = false then wholeF liv i * 1 else wholeF liv i * 100
theorem weightF_congr {liv set : Int32} {d d' : Nat → Int32} : ∀ n, (∀ j, j < n → d j = d' j) → weightF liv set d n = weightF liv set d' n := by
  intro n
  induction n with
  | zero => intro _; rfl
  | succ n ih => intro h; rw [weightF, weightF, ih (fun j hj => h j (by omega)), h n (by omega)]
theorem M_weight5 {n : Nat} (hn : n ≤ 6) (set liv : Int32) (pd : AI) : MX5_weight set liv (nI n) n pd = some (weightF liv set pd n) := by
  unfold MX5_weight
  obtain ⟨r, e, hr⟩ := loop_FU (f := fun s_ : Int64 × Int32 => BX5_weight_5 set liv (nI n) n pd s_.1 s_.2) (fun i s => s = (weightF liv set pd i, nI i)) (fun r => r = weightF liv set pd n) n (by omega) ((1 : Int64), (0 : Int32)) rfl
    (by
      intro i s hi hs
      subst hs
      refine Or.inl ⟨(weightF liv set pd (i + 1), nI (i + 1)), ?_, rfl⟩
      show BX5_weight_5 set liv (nI n) n pd (weightF liv set pd i) (nI i) = _
      unfold BX5_weight_5
      rw [if_neg (nI_ge hi (by omega)), nI_1, M_isLiving4, Option.bind_some, weightF]
      by_cases c1 : hasB liv (nI i) = false
      · rw [if_pos (b2i_f c1), if_pos c1]
      rw [if_neg (b2i_t (by simpa using c1)), if_neg c1, M_has, Option.bind_some]
      by_cases c2 : hasB set (nI i) = false
      · rw [if_pos (b2i_f c2), if_pos c2, gi_nI (by omega) (by decide), nIc (by omega), gn_of hi]; rfl
      · rw [if_neg (b2i_t (by simpa using c2)), if_neg c2, gi_nI (by omega) (by decide), nIc (by omega), gn_of hi])
    (by
      intro s hs
      subst hs
      exact ⟨_, by show BX5_weight_5 _ _ _ _ _ _ (nI n) = _; unfold BX5_weight_5; rw [if_pos (nI_le (Nat.le_refl n) (by omega))], rfl⟩)
  rw [e, hr]; rfl
theorem M_part7 {n : Nat} (hn : n ≤ 6) (set : Int32) (x d : AI) : MX7_partOf set (nI n) x d = some (weightF (x 42) set d n) := by
  unfold MX7_partOf
  obtain ⟨r, e, hr⟩ := loop_FU (f := fun s_ : Int64 × Int32 => BX7_partOf_5 set (nI n) x d s_.1 s_.2) (fun i s => s = (weightF (x 42) set d i, nI i)) (fun r => r = weightF (x 42) set d n) n (by omega) ((1 : Int64), (0 : Int32)) rfl
    (by
      intro i s hi hs
      subst hs
      refine Or.inl ⟨(weightF (x 42) set d (i + 1), nI (i + 1)), ?_, rfl⟩
      show BX7_partOf_5 set (nI n) x d (weightF (x 42) set d i) (nI i) = _
      unfold BX7_partOf_5
      rw [if_neg (nI_ge hi (by omega)), nI_1, M_isLiving7, Option.bind_some, weightF]
      by_cases c1 : hasB (x 42) (nI i) = false
      · rw [if_pos (b2i_f c1), if_pos c1]
      rw [if_neg (b2i_t (by simpa using c1)), if_neg c1, M_bit, Option.bind_some]
      by_cases c2 : hasB set (nI i) = false
      · rw [if_pos (b2i_f c2), if_pos c2, gi_nI (by omega) (by decide), nIc (by omega)]; rfl
      · rw [if_neg (b2i_t (by simpa using c2)), if_neg c2, gi_nI (by omega) (by decide), nIc (by omega)]; rfl)
    (by
      intro s hs
      subst hs
      exact ⟨_, by show BX7_partOf_5 _ _ _ _ _ (nI n) = _; unfold BX7_partOf_5; rw [if_pos (nI_le (Nat.le_refl n) (by omega))], rfl⟩)
  rw [e, hr]; rfl
theorem M_lay5 {n : Nat} (hn : n ≤ 6) (liv : Int32) : MX5_lay liv (nI n) = some (wholeF liv n) := by
  unfold MX5_lay
  obtain ⟨r, e, hr⟩ := loop_FU (f := fun s_ : Int32 × Int64 => BX5_lay_7 liv (nI n) s_.1 s_.2) (fun i s => s = (nI i, wholeF liv i)) (fun r => r = wholeF liv n) n (by omega) ((0 : Int32), (1 : Int64)) rfl
    (by
      intro i s hi hs
      subst hs
      refine Or.inl ⟨(nI (i + 1), wholeF liv (i + 1)), ?_, rfl⟩
      show BX5_lay_7 liv (nI n) (nI i) (wholeF liv i) = _
      unfold BX5_lay_7
      rw [if_neg (nI_ge hi (by omega)), nI_1, M_isLiving4, Option.bind_some, wholeF]
      by_cases c1 : hasB liv (nI i) = false
      · rw [if_pos (b2i_f c1), if_pos c1]
      · rw [if_neg (b2i_t (by simpa using c1)), if_neg c1])
    (by
      intro s hs
      subst hs
      exact ⟨_, by show BX5_lay_7 _ _ (nI n) _ = _; unfold BX5_lay_7; rw [if_pos (nI_le (Nat.le_refl n) (by omega))], rfl⟩)
  rw [e, hr]; rfl
theorem M_whole7 {n : Nat} (hn : n ≤ 6) (x : AI) : MX7_wholeOf (nI n) x = some (wholeF (x 42) n) := by
  unfold MX7_wholeOf
  obtain ⟨r, e, hr⟩ := loop_FU (f := fun s_ : Int32 × Int64 => BX7_wholeOf_7 (nI n) x s_.1 s_.2) (fun i s => s = (nI i, wholeF (x 42) i)) (fun r => r = wholeF (x 42) n) n (by omega) ((0 : Int32), (1 : Int64)) rfl
    (by
      intro i s hi hs
      subst hs
      refine Or.inl ⟨(nI (i + 1), wholeF (x 42) (i + 1)), ?_, rfl⟩
      show BX7_wholeOf_7 (nI n) x (nI i) (wholeF (x 42) i) = _
      unfold BX7_wholeOf_7
      rw [if_neg (nI_ge hi (by omega)), nI_1, M_isLiving7, Option.bind_some, wholeF]
      by_cases c1 : hasB (x 42) (nI i) = false
      · rw [if_pos (b2i_f c1), if_pos c1]
      · rw [if_neg (b2i_t (by simpa using c1)), if_neg c1])
    (by
      intro s hs
      subst hs
      exact ⟨_, by show BX7_wholeOf_7 _ _ (nI n) _ = _; unfold BX7_wholeOf_7; rw [if_pos (nI_le (Nat.le_refl n) (by omega))], rfl⟩)
  rw [e, hr]; rfl
/-- a sum over all sets within the living -/
def sumF (liv : Int32) (wt val : Int32 → Int64) : Nat → Int64
  | 0 => 0
  | i + 1 => if (nI i &&& (liv ^^^ (-1 : Int32))) = 0 then (if wt (nI i) = 0 then sumF liv wt val i else sumF liv wt val i + wt (nI i) * val (nI i)) else sumF liv wt val i
/-- the dead have nothing -/
def deadO (n : Nat) (liv : Int32) (has : Nat → Int32) : Prop := ∀ j, j < n → hasB liv (nI j) = false → has j = 0
/-- what one has then, what the cat gets -/
def thenH (liv : Int32) (a : AI) (n : Nat) (has : Nat → Int32) (set : Int32) (j : Nat) : Int32 := dieH set (goesS liv a n set) has (dieB liv set has) n j
def thenC (liv : Int32) (a : AI) (n : Nat) (has : Nat → Int32) (set : Int32) : Int32 := dieC set (goesS liv a n set) has n
theorem M_sum5 {n p L : Nat} (hn : n ≤ 6) (hp : p < n) (hL : L < 64) (fh fc fn fs tl th tc tn ts : Int32) (thas thours ph pr pd : AI) (hd : deadO n (nI L) ph) :
    ∃ r, MX5_sum (nI p) (nI L) fh fc fn fs (nI n) tl th tc tn ts thas thours ph pr n pd = some r ∧ r.1 = sumF (nI L) (fun set => weightF (nI L) set pd n) (fun set => Int32.toInt64 (thenH (nI L) pr n ph set p)) (L + 1) ∧ r.2.1 = wholeF (nI L) n := by
  obtain ⟨r, e, h⟩ := loop_FU (f := fun s_ : Int64 × Int32 × Int32 × Int32 × Int32 × Int32 × Int32 × AI × AI => BX5_sum_10 (nI p) (nI L) fh fc fn fs (nI n) ph pr n pd (wholeF (nI L) n) s_.1 s_.2.1 s_.2.2.1 s_.2.2.2.1 s_.2.2.2.2.1 s_.2.2.2.2.2.1 s_.2.2.2.2.2.2.1 s_.2.2.2.2.2.2.2.1 s_.2.2.2.2.2.2.2.2)
    (fun i s => s.1 = sumF (nI L) (fun set => weightF (nI L) set pd n) (fun set => Int32.toInt64 (thenH (nI L) pr n ph set p)) i ∧ s.2.1 = nI i) (fun r => r.1 = sumF (nI L) (fun set => weightF (nI L) set pd n) (fun set => Int32.toInt64 (thenH (nI L) pr n ph set p)) (L + 1)) (L + 1) (by omega) ((0 : Int64), (0 : Int32), tl, th, tc, tn, ts, thas, thours) ⟨rfl, rfl⟩
    (by
      intro i s hi hs
      obtain ⟨a, b, c1, c2, c3, c4, c5, f, g⟩ := s
      obtain ⟨z1, z2⟩ := hs
      dsimp only at z1 z2
      subst z1; subst z2
      refine Or.inl ?_
      show ∃ s', BX5_sum_10 (nI p) (nI L) fh fc fn fs (nI n) ph pr n pd (wholeF (nI L) n) _ (nI i) c1 c2 c3 c4 c5 f g = some (.inl s') ∧ _
      unfold BX5_sum_10
      rw [if_neg (nI_nlt (by omega) (by omega)), nI_1, M_weight5 hn, Option.bind_some]
      by_cases q1 : (nI i &&& (nI L ^^^ (-1 : Int32))) = 0
      · rw [if_pos q1]
        by_cases q2 : weightF (nI L) (nI i) pd n = 0
        · rw [if_pos ((lg_cmp_eq _ _).mpr q2)]
          exact ⟨_, rfl, by show _ = (if _ then (if weightF (nI L) (nI i) pd n = 0 then _ else _) else _); rw [if_pos q1, if_pos q2], rfl⟩
        · rw [if_neg (fun z => q2 ((lg_cmp_eq _ _).mp z))]
          obtain ⟨has', hours', e1, e2, -⟩ := M_dies4 hn (nI i) (nI L) fh fc fn fs f g ph pr hd
          rw [e1, Option.bind_some, Option.bind_some, if_pos (nI_pos' (by omega)), gi_nI (by omega) (by decide), nIc (by omega)]
          refine ⟨_, rfl, ?_, rfl⟩
          show _ + _ * Int32.toInt64 (has' p) = (if _ then (if weightF (nI L) (nI i) pd n = 0 then _ else _) else _)
          rw [if_pos q1, if_neg q2, e2 p hp]; rfl
      · rw [if_neg q1]
        exact ⟨_, rfl, by show _ = (if _ then _ else _); rw [if_neg q1], rfl⟩)
    (by
      intro s hs
      obtain ⟨a, b, c1, c2, c3, c4, c5, f, g⟩ := s
      obtain ⟨z1, z2⟩ := hs
      dsimp only at z1 z2
      subst z1; subst z2
      exact ⟨_, by show BX5_sum_10 (nI p) (nI L) fh fc fn fs (nI n) ph pr n pd (wholeF (nI L) n) _ (nI (L + 1)) c1 c2 c3 c4 c5 f g = _; unfold BX5_sum_10; rw [if_pos (nI_lt (by omega) (by omega))], rfl⟩)
  refine ⟨_, by unfold MX5_sum; rw [M_lay5 hn, Option.bind_some, e, Option.bind_some], h, rfl⟩
theorem M_sum5c {n L : Nat} (hn : n ≤ 6) (hL : L < 64) (fh fc fn fs tl th tc tn ts : Int32) (thas thours ph pr pd : AI) (hd : deadO n (nI L) ph) :
    ∃ r, MX5_sum (-1) (nI L) fh fc fn fs (nI n) tl th tc tn ts thas thours ph pr n pd = some r ∧ r.1 = sumF (nI L) (fun set => weightF (nI L) set pd n) (fun set => Int32.toInt64 (thenC (nI L) pr n ph set)) (L + 1) ∧ r.2.1 = wholeF (nI L) n := by
  obtain ⟨r, e, h⟩ := loop_FU (f := fun s_ : Int64 × Int32 × Int32 × Int32 × Int32 × Int32 × Int32 × AI × AI => BX5_sum_10 (-1) (nI L) fh fc fn fs (nI n) ph pr n pd (wholeF (nI L) n) s_.1 s_.2.1 s_.2.2.1 s_.2.2.2.1 s_.2.2.2.2.1 s_.2.2.2.2.2.1 s_.2.2.2.2.2.2.1 s_.2.2.2.2.2.2.2.1 s_.2.2.2.2.2.2.2.2)
    (fun i s => s.1 = sumF (nI L) (fun set => weightF (nI L) set pd n) (fun set => Int32.toInt64 (thenC (nI L) pr n ph set)) i ∧ s.2.1 = nI i) (fun r => r.1 = sumF (nI L) (fun set => weightF (nI L) set pd n) (fun set => Int32.toInt64 (thenC (nI L) pr n ph set)) (L + 1)) (L + 1) (by omega) ((0 : Int64), (0 : Int32), tl, th, tc, tn, ts, thas, thours) ⟨rfl, rfl⟩
    (by
      intro i s hi hs
      obtain ⟨a, b, c1, c2, c3, c4, c5, f, g⟩ := s
      obtain ⟨z1, z2⟩ := hs
      dsimp only at z1 z2
      subst z1; subst z2
      refine Or.inl ?_
      show ∃ s', BX5_sum_10 (-1) (nI L) fh fc fn fs (nI n) ph pr n pd (wholeF (nI L) n) _ (nI i) c1 c2 c3 c4 c5 f g = some (.inl s') ∧ _
      unfold BX5_sum_10
      rw [if_neg (nI_nlt (by omega) (by omega)), nI_1, M_weight5 hn, Option.bind_some]
      by_cases q1 : (nI i &&& (nI L ^^^ (-1 : Int32))) = 0
      · rw [if_pos q1]
        by_cases q2 : weightF (nI L) (nI i) pd n = 0
        · rw [if_pos ((lg_cmp_eq _ _).mpr q2)]
          exact ⟨_, rfl, by show _ = (if _ then (if weightF (nI L) (nI i) pd n = 0 then _ else _) else _); rw [if_pos q1, if_pos q2], rfl⟩
        · rw [if_neg (fun z => q2 ((lg_cmp_eq _ _).mp z))]
          obtain ⟨has', hours', e1, e2, -⟩ := M_dies4 hn (nI i) (nI L) fh fc fn fs f g ph pr hd
          rw [e1, Option.bind_some, Option.bind_some, if_neg (by decide)]
          refine ⟨_, rfl, ?_, rfl⟩
          show _ + _ * Int32.toInt64 (fc + dieC (nI i) (goesS (nI L) pr n (nI i)) ph n - fc) = (if _ then (if weightF (nI L) (nI i) pd n = 0 then _ else _) else _)
          rw [if_pos q1, if_neg q2, show fc + dieC (nI i) (goesS (nI L) pr n (nI i)) ph n - fc = dieC (nI i) (goesS (nI L) pr n (nI i)) ph n by grind]; rfl
      · rw [if_neg q1]
        exact ⟨_, rfl, by show _ = (if _ then _ else _); rw [if_neg q1], rfl⟩)
    (by
      intro s hs
      obtain ⟨a, b, c1, c2, c3, c4, c5, f, g⟩ := s
      obtain ⟨z1, z2⟩ := hs
      dsimp only at z1 z2
      subst z1; subst z2
      exact ⟨_, by show BX5_sum_10 (-1) (nI L) fh fc fn fs (nI n) ph pr n pd (wholeF (nI L) n) _ (nI (L + 1)) c1 c2 c3 c4 c5 f g = _; unfold BX5_sum_10; rw [if_pos (nI_lt (by omega) (by omega))], rfl⟩)
  refine ⟨_, by unfold MX5_sum; rw [M_lay5 hn, Option.bind_some, e, Option.bind_some], h, rfl⟩
theorem M_mean7 {n p L : Nat} (hn : n ≤ 6) (hp : p < n) (hL : L < 64) (cg : Int32) (x heir d th a : AI) (has : Nat → Int32) (hxl : x 42 = nI L) (hx : ∀ j, j < n → x j = has j) (hr : hrel a x) :
    ∃ r, MX7_meanOf (nI p) cg (nI n) x heir d th = some r ∧ r.1 = sumF (nI L) (fun set => weightF (nI L) set d n) (fun set => Int32.toInt64 (thenH (nI L) a n has set p)) (L + 1) ∧ r.2.2.1 = wholeF (nI L) n := by
  obtain ⟨heir', eh, hh⟩ := M_heirs7 hn x heir a hr
  obtain ⟨r, e, h⟩ := loop_FU (f := fun s_ : Int64 × Int32 × Int32 × AI => BX7_meanOf_13 (nI p) (nI n) x d (wholeF (x 42) n) heir' s_.1 s_.2.1 s_.2.2.1 s_.2.2.2)
    (fun i s => s.1 = sumF (nI L) (fun set => weightF (nI L) set d n) (fun set => Int32.toInt64 (thenH (nI L) a n has set p)) i ∧ s.2.1 = nI i) (fun r => r.1 = sumF (nI L) (fun set => weightF (nI L) set d n) (fun set => Int32.toInt64 (thenH (nI L) a n has set p)) (L + 1)) (L + 1) (by omega) ((0 : Int64), (0 : Int32), cg, th) ⟨rfl, rfl⟩
    (by
      intro i s hi hs
      obtain ⟨s0, b, c1, f⟩ := s
      obtain ⟨z1, z2⟩ := hs
      dsimp only at z1 z2
      subst z1; subst z2
      refine Or.inl ?_
      show ∃ s', BX7_meanOf_13 (nI p) (nI n) x d (wholeF (x 42) n) heir' _ (nI i) c1 f = some (.inl s') ∧ _
      unfold BX7_meanOf_13
      rw [M_part7 hn, Option.bind_some]
      simp only [hxl]
      rw [if_neg (nI_nlt (by omega) (by omega)), nI_1]
      by_cases q1 : (nI i &&& (nI L ^^^ (-1 : Int32))) = 0
      · rw [if_pos q1]
        by_cases q2 : weightF (nI L) (nI i) d n = 0
        · rw [if_pos ((lg_cmp_eq _ _).mpr q2)]
          exact ⟨_, rfl, by show _ = (if _ then (if weightF (nI L) (nI i) d n = 0 then _ else _) else _); rw [if_pos q1, if_pos q2], rfl⟩
        · rw [if_neg (fun z => q2 ((lg_cmp_eq _ _).mp z))]
          obtain ⟨th', e1, e2⟩ := M_dying7 hn (nI i) f x heir' a has hx hh
          rw [e1, Option.bind_some, gi_nI (by omega) (by decide), nIc (by omega)]
          refine ⟨_, rfl, ?_, rfl⟩
          show _ + _ * Int32.toInt64 (th' p) = (if _ then (if weightF (nI L) (nI i) d n = 0 then _ else _) else _)
          rw [if_pos q1, if_neg q2, e2 p hp, hxl]; rfl
      · rw [if_neg q1]
        exact ⟨_, rfl, by show _ = (if _ then _ else _); rw [if_neg q1], rfl⟩)
    (by
      intro s hs
      obtain ⟨s0, b, c1, f⟩ := s
      obtain ⟨z1, z2⟩ := hs
      dsimp only at z1 z2
      subst z1; subst z2
      exact ⟨_, by show BX7_meanOf_13 (nI p) (nI n) x d (wholeF (x 42) n) heir' _ (nI (L + 1)) c1 f = _; unfold BX7_meanOf_13; rw [hxl, if_pos (nI_lt (by omega) (by omega))], rfl⟩)
  refine ⟨_, by unfold MX7_meanOf; rw [eh, Option.bind_some, M_whole7 hn, Option.bind_some, e, Option.bind_some], h, by rw [hxl]⟩
