set_option maxRecDepth 100000
/-! a city read, on both sides -/
theorem M_init14 : ∃ went asked, MX14_init = some (-1, went, asked) ∧ (∀ j, j < 6 → went j = -1) ∧ ∀ j, j < 36 → asked j = -1 := by
  obtain ⟨x1, e1, a1, -⟩ := loop_copy (f := fun s_ : Int32 × AI => BX14_init_88 (fun _ => 0) (fun _ => 0) (fun _ => 0) (fun _ => 0) (fun _ => 0) (fun _ => 0) (fun _ => 0) (fun _ => 0) (fun _ => 0) s_.1 s_.2) 36 0 (fun _ => -1) (by decide) (fun _ => 0) (by
    intro i a hi
    show BX14_init_88 _ _ _ _ _ _ _ _ _ (nI i) a = _
    unfold BX14_init_88
    rw [if_neg (show ¬ (36 : Int32) ≤ nI i from nI_ge (b := 36) hi (by decide)), nI_1, gi_nI hi (by decide), nIc (by omega), Nat.zero_add]) (by
    intro a
    show BX14_init_88 _ _ _ _ _ _ _ _ _ (nI 36) a = _
    unfold BX14_init_88
    rw [if_pos (by decide)])
  obtain ⟨x2, e2, a2, -⟩ := loop_copy (f := fun s_ : Int32 × AI => BX14_init_109 (fun _ => 0) (fun _ => 0) (fun _ => 0) (fun _ => 0) x1 (fun _ => 0) (fun _ => 0) (fun _ => 0) (fun _ => 0) s_.1 s_.2) 6 0 (fun _ => -1) (by decide) (fun _ => 0) (by
    intro i a hi
    show BX14_init_109 _ _ _ _ _ _ _ _ _ (nI i) a = _
    unfold BX14_init_109
    rw [if_neg (show ¬ (6 : Int32) ≤ nI i from nI_ge (b := 6) hi (by decide)), nI_1, gi_nI hi (by decide), nIc (by omega), Nat.zero_add]) (by
    intro a
    show BX14_init_109 _ _ _ _ _ _ _ _ _ (nI 6) a = _
    unfold BX14_init_109
    rw [if_pos (by decide)])
  refine ⟨x2, x1, ?_, fun j hj => ?_, fun j hj => ?_⟩
  · unfold MX14_init
    rw [e1, Option.bind_some, e2, Option.bind_some]
  · have := a2 j hj
    rwa [Nat.zero_add] at this
  · have := a1 j hj
    rwa [Nat.zero_add] at this
theorem cityR0 {tk pl wh : Int32} {le : AI} {f : AI} (hf : ∀ j, j < 36 → f j = -2) {went asked : AI} (hw : ∀ j, j < 6 → went j = -1) (ha : ∀ j, j < 36 → asked j = -1) (name : AL) (kind by_ of_ give has dies : AI) : cityR 0 0 (rs0 tk pl wh le f) (-1) 0 0 0 0 0 0 went name kind (fun _ => 0) asked by_ of_ give has dies := by
  refine ⟨⟨by decide, fun k hk => absurd hk (Nat.not_lt_zero k), fun k hk => absurd hk (Nat.not_lt_zero k), rfl, rfl, rfl⟩, ⟨rfl, rfl, Or.inl rfl, rfl, ⟨0, by decide, rfl⟩, rfl, ⟨0, by decide, rfl⟩, rfl, ⟨0, by decide, rfl⟩, rfl, rfl, by decide, rfl, rfl⟩, ⟨fun k hk => absurd hk (Nat.not_lt_zero k), fun k _ h6 => ⟨rfl, hw k h6⟩⟩, ⟨fun j hj => Or.inl ⟨hf j hj, ha j hj⟩, fun a b h1 => absurd h1 (Nat.not_lt_zero a), fun a b h1 h2 _ => ha _ (by omega)⟩, ?_⟩
  exact ⟨fun _ => 0, fun _ => 0, fun _ => 0, fun _ => 0, ⟨by decide, fun k hk => absurd hk (Nat.not_lt_zero k), fun k l hk => absurd hk (Nat.not_lt_zero k)⟩, fun k hk => absurd hk (Nat.not_lt_zero k), fun k hk => absurd hk (Nat.not_lt_zero k)⟩
theorem all_B : ∀ n, n ≤ 6 → ∀ j, j < n → hasB (nI (2 ^ n - 1)) (nI j) = true := by decide +kernel
theorem pow_B : ∀ n, n ≤ 6 → 2 ^ n - 1 < 2 ^ n := by decide
theorem sumTo_99 {f : Nat → Nat} : ∀ n, (∀ j, j < n → f j ≤ 99) → sumTo f n ≤ 99 * n
  | 0, _ => Nat.le_refl _
  | n + 1, h => by
    have h1 := sumTo_99 (f := f) n (fun j hj => h j (by omega))
    have h2 := h n (by omega)
    show sumTo f n + f n ≤ 99 * (n + 1)
    omega
/-- a town that begins -/
theorem townI_0 {n : Nat} (hn : n ≤ 6) {hour : Int32} {has : AI} (hh : ∀ j, j < n → ∃ x, x ≤ 99 ∧ has j = nI x) (ht : ∃ t, t ≤ 99 ∧ hour = nI t) : townI n (nI (2 ^ n - 1)) hour 0 0 0 has := by
  obtain ⟨t, ht, e⟩ := ht
  have hc : ∀ j, j < n → has j = nI (Int32.toNatClampNeg (has j)) ∧ Int32.toNatClampNeg (has j) ≤ 99 := fun j hj => by
    obtain ⟨x, hx, ex⟩ := hh j hj
    rw [ex, nIc (by omega)]
    exact ⟨rfl, hx⟩
  refine ⟨2 ^ n - 1, fun j => Int32.toNatClampNeg (has j), 0, t, 0, 0, rfl, pow_B n hn, fun j hj => (hc j hj).1, rfl, ?_, fun j hj hl => ?_, e, by omega, rfl, by decide, rfl, by decide⟩
  · have := sumTo_99 (f := fun j => Int32.toNatClampNeg (has j)) n (fun j hj => (hc j hj).2)
    omega
  · rw [all_B n hn j hj] at hl
    cases hl
theorem erO_pos {k : Int32} (h : erO k) : ¬ k ≤ 0 := by
  obtain ⟨m, h1, h2, e⟩ := h
  rw [e]
  exact nI_ge (a := 0) (by omega) (by omega)
set_option maxHeartbeats 8000000 in
theorem op_city {t z : Nat} (ht : t ≤ 900) (hz : z ≤ t) (tp : AI) (tk pl wh : Int32) (le : AI) (place number wa ao : Int32) (word : Int64) (x v th thas : AI) :
    (∃ (er : Int32 × Int32) (k0 : Int32) (k1 : Int32) (k2 : Int32) (k3 : Int32) (k4 : Int32) (k5 : Int32) (k6 : Int64) (k7 : Int32) (k8 : Int32) (k9 : Int32) (k10 : Int32) (k11 : Int32) (k12 : Int32) (k13 : Int32) (k14 : Int32) (k15 : AI) (k16 : AI) (k17 : AI) (k18 : AI) (k19 : AI) (k20 : AI) (k21 : AI) (k22 : AI) (k23 : AI) (k24 : AL), MZ_read tp (nI z) (rs0 tk pl wh le (hsF (fun _ => 0) 36)) = some (.inl (k4, k5)) ∧ MX7_cityF (nI z) (nI t) place number wa word ao tp = some (-1, 0, 4, k5, 0, nI z, k0, k1, k2, k3, k4, k5, k6, k7, k15, k16, k17, k18, k19, k20, k21, k22, k23, k24, k8, k9, k10, k11, k12, k13, k14)) ∨
    (∃ (n g m : Nat) (en_ : Int32) (tk1 : Int32) (pl1 : Int32) (wh1 : Int32) (wd_ : Option Nat) (ak_ : Option Nat) (le1 : AI) (hr_ : Int32) (nm_ : Int32) (am_ : Int32) (wm_ : Int32) (hs_ : AI) (hb_ : AI) (ho_ : AI) (ha_ : AI) (hg_ : AI) (pk : Nat → Nat) (ni_ : Nat → Nat) (pu_ : AI) (pw_ : AI) (pd_ : AI) (pr_ : AI) (ps_ : AI) (pt_ : AI) (sn_ : Nat) (sl_ : Nat → Nat) (sf_ : Nat → AI) (k0 : Int32) (k1 : Int32) (k2 : Int32) (k3 : Int32) (k6 : Int64) (k7 : Int32) (k15 : AI) (k16 : AI) (k17 : AI) (k18 : AI) (k19 : AI) (k20 : AI) (k21 : AI) (k22 : AI) (k23 : AI) (k24 : AL) (x1 v1 has1 hours1 : AI) (dN eb eo et eg : Nat → Nat), MZ_read tp (nI z) (rs0 tk pl wh le (hsF (fun _ => 0) 36)) = some (.inr (en_, tk1, pl1, wh1, wd_, ak_, le1, hr_, nI g, nI n, nm_, am_, nI m, wm_, hs_, hb_, ho_, ha_, hg_, n, pk, ni_, pu_, pw_, pd_, pr_, ps_, pt_, sn_, sl_, sf_, n)) ∧ MX7_cityG (nI z) (nI t) place number wa word ao tp x v = some (nI n, 0, 0, -1, 0, nI z, k0, k1, k2, k3, 0, wa, k6, k7, 0, 0, x1, v1, k15, k16, k17, k18, k19, k20, k21, k22, k23, k24, hr_, nI g, nI n, nm_, am_, nI m, wm_) ∧ MX4_begin hr_ (nI n) th hs_ thas n pw_ = some (nI (2 ^ n - 1), hr_, 0, 0, 0, hours1, has1) ∧ 0 < n ∧ n ≤ 6 ∧ g ≤ 9 ∧ townR n (nI (2 ^ n - 1)) hr_ 0 0 0 has1 hours1 v1 ∧ townI n (nI (2 ^ n - 1)) hr_ 0 0 0 has1 ∧ kindR n pk pr_ k15 k18 ∧ (∀ j, j < n → pd_ j = nI (dN j) ∧ dN j ≤ 100) ∧ (∀ j, j < n → k17 j = pd_ j) ∧ (∀ j, j < n → k19 j = pt_ j) ∧ hrel0 hs_ k20 ∧ heardI n m eb eo et eg ∧ heardX m eb eo et eg hb_ ho_ ha_ hg_ ∧ heardM m eb eo et eg k21 k22 k23 k20) := by
  obtain ⟨w0, a0, e4, hw, ha⟩ := M_init14
  have h1 : ¬ nI z < 0 := nI_pos (by omega)
  have h2 : nI z ≤ nI t := nI_le hz (by omega)
  rcases read_sim (z := z) (by omega) tp (s0 := (rs0 tk pl wh le (hsF (fun _ => 0) 36))) rfl (cityR0 (fun j hj => hsF_lt 36 j hj) hw ha (fun _ => 0) (fun _ => 0) (fun _ => 0) (fun _ => 0) (fun _ => 0) (fun _ => 0) (fun _ => 0)) number place wa ao word with ⟨er, r16, r, q1, q2, q3, q4, q5, q6⟩ | ⟨r16, n, m, s', a, b, c, d, w, ao', hour', gives', people', nears', askeds', heards', wents', went', name', kind', near', asked', by_', of_', give', has', dies', q1, q3, q4, hc, h0, hh⟩
  · obtain ⟨k0, k1, k2, k3, k4, k5, k6, k7, k8, k9, k10, k11, k12, k13, k14, k15, k16, k17, k18, k19, k20, k21, k22, k23, k24⟩ := r
    dsimp only at q5 q6
    obtain ⟨f1, f2⟩ := er
    dsimp only at q2 q5 q6
    subst q5
    subst q6
    refine Or.inl ⟨(k4, k5), k0, k1, k2, k3, k4, k5, k6, k7, k8, k9, k10, k11, k12, k13, k14, k15, k16, k17, k18, k19, k20, k21, k22, k23, k24, q1, ?_⟩
    unfold MX7_cityF
    rw [if_neg h1, if_pos h2, e4, Option.bind_some, q3, Option.bind_some]
    dsimp only
    rw [q4, Option.bind_some]
    dsimp only
    rw [if_neg (erO_pos q2)]
  · obtain ⟨⟨hn, -, hpk, hpm, hcn, hnp⟩, ⟨hpe, hhr, -, hgv, ⟨g, hg, hgg⟩, hnm, -, ham, -, hhm, hhe, hm3, hwm, -⟩, ⟨hper, -⟩, ⟨hask, -, -⟩, ⟨eb, eo, et, eg, hI, hX, hM⟩⟩ := hc
    obtain ⟨en_, tk1, pl1, wh1, wd_, ak_, le1, hr_, gv_, pm_, nm_, am_, hm_, wm_, hs_, hb_, ho_, ha_, hg_, np_, pk, ni_, pu_, pw_, pd_, pr_, ps_, pt_, sn_, sl_, sf_, cn_⟩ := s'
    dsimp only at hpk hpm hcn hnp hhr hgv hnm ham hhm hwm hper hask hX
    subst hpm
    subst cn_
    subst np_
    subst hhm
    subst hpe
    subst hhe
    subst hgg
    subst hgv
    subst hhr
    subst hnm
    subst ham
    subst hwm
    obtain ⟨hours1, has1, b1, b2, b3⟩ := M_begin4 hn hr_ th hs_ thas pw_
    obtain ⟨x1, f1, f42, f43, f44, f45, f46, f6, f36⟩ := M_asTold7 hn hr_ x has' asked'
    obtain ⟨v1, e7, g7, -⟩ := loop_copy (f := fun s_ : Int32 × AI => BX7_cityG_103 a b c d 0 wa w ao' x1 hr_ (nI g) (nI n) nm_ am_ (nI m) wm_ kind' has' dies' near' went' asked' by_' of_' give' name' s_.1 s_.2) 47 0 x1 (by decide) v (by
      intro i a hi
      show BX7_cityG_103 _ _ _ _ _ _ _ _ _ _ _ _ _ _ _ _ _ _ _ _ _ _ _ _ _ _ (nI i) a = _
      unfold BX7_cityG_103
      rw [if_neg (show ¬ (47 : Int32) ≤ nI i from nI_ge (b := 47) hi (by decide)), nI_1, gi_nI hi (by decide), gi_nI hi (by decide), nIc (by omega), Nat.zero_add]) (by
      intro a
      show BX7_cityG_103 _ _ _ _ _ _ _ _ _ _ _ _ _ _ _ _ _ _ _ _ _ _ _ _ _ _ (nI 47) a = _
      unfold BX7_cityG_103
      rw [if_pos (by decide)])
    have hv : ∀ j, j < 47 → v1 j = x1 j := fun j hj => by
      have := g7 j hj
      rwa [Nat.zero_add] at this
    refine Or.inr ⟨n, g, m, en_, tk1, pl1, wh1, wd_, ak_, le1, hr_, nm_, am_, wm_, hs_, hb_, ho_, ha_, hg_, pk, ni_, pu_, pw_, pd_, pr_, ps_, pt_, sn_, sl_, sf_, a, b, c, d, w, ao', kind', has', dies', near', went', asked', by_', of_', give', name', x1, v1, has1, hours1, fun j => Int32.toNatClampNeg (pd_ j), eb, eo, et, eg, q1, ?c1, b1, h0, hn, hg, ?c2, ?c3, ?c4, ?c5, ?c6, ?c7, ?c8, hI, hX, hM⟩
    case c1 =>
      unfold MX7_cityG
      rw [if_neg h1, if_pos h2, e4, Option.bind_some, q3, Option.bind_some]
      dsimp only
      rw [q4, Option.bind_some]
      dsimp only
      rw [if_pos (by decide), f1, Option.bind_some, e7, Option.bind_some]
      unfold MX7_good
      rw [Option.bind_some]
    case c2 =>
      refine ⟨by rw [hv 42 (by decide), f42], by rw [hv 43 (by decide), f43], by rw [hv 44 (by decide), f44], by rw [hv 45 (by decide), f45], by rw [hv 46 (by decide), f46], fun j hj => ?_, fun j hj => ?_⟩
      · rw [hv j (by omega), f6 j (by omega), b3 j hj, (hper j hj).2.2.1]
      · rw [hv (6 + j) (by omega), f36 j hj, b2 j hj]
        rcases hask j hj with ⟨y1, y2⟩ | ⟨y1, y, y2, y3⟩
        · exact Or.inl ⟨y1, y2⟩
        · exact Or.inr ⟨y1, by rw [y1, y3]; exact nI_pos (by omega)⟩
    case c3 =>
      refine townI_0 hn (fun j hj => ?_) hh
      obtain ⟨y, y1, y2⟩ := (hper j hj).2.2.2.1
      exact ⟨y, y1, by rw [b3 j hj, (hper j hj).2.2.1, y2]⟩
    case c4 => exact fun j hj => ⟨hpk j hj, (hper j hj).1, (hper j hj).2.2.2.2.2.2.1.symm⟩
    case c5 =>
      intro j hj
      obtain ⟨y, y1, y2⟩ := (hper j hj).2.2.2.2.2.1
      show _ = nI (Int32.toNatClampNeg _) ∧ Int32.toNatClampNeg _ ≤ 100
      rw [(hper j hj).2.2.2.2.1, y2, nIc (by omega)]
      exact ⟨rfl, y1⟩
    case c6 => exact fun j hj => (hper j hj).2.2.2.2.1.symm
    case c7 => exact fun j hj => (hper j hj).2.2.2.2.2.2.2.symm
    case c8 =>
      intro j hj
      rcases hask j hj with ⟨y1, y2⟩ | ⟨y1, y, y2, y3⟩
      · exact Or.inl ⟨y1, y2⟩
      · exact Or.inr ⟨y1, by rw [y1, y3]; exact nI_pos (by omega)⟩
