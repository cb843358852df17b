set_option maxRecDepth 100000
set_option maxHeartbeats 40000000 in
set_option maxRecDepth 100000 in
theorem wX6_apart_31 {p : Program} {l : Launch} {e : Env} {s : State} {m : MethodId} {args : Array Value} {below : List Frame} {meth : Method} {c : Code} {D : va_G} {dA : Nat → ClassId} {A : Nat → Prop} {Q : State → Prop} (hx : p.tables.exec = Jvm.exec) (hb : c.code = cX6_apart) (hml : c.maxLocals = 7) (hown : s.vm.findClass RX6 = some m.cls) (hts : ∀ w ∈ lw_all, w.before args s = true) (hK : KK D dA s) (hA : ∀ q : Nat, s.heap.size ≤ q → A q) (h_c : Nat) (h_c_people : Nat) (p1 : Int32) (p2 : Int32) (c_hour : Int32) (c_gives : Int32) (c_peopleMany : Int32) (c_nearMany : Int32) (c_askedMany : Int32) (c_heardMany : Int32) (c_wentMany : Int32) (np : Nat) (pk : Nat → Nat) (pu : AI) (pw : AI) (pd : AI) (pr : AI) (ps : AI) (pt : AI) (c_hours : Value) (c_heardBy : Value) (c_heardOf : Value) (c_heardAt : Value) (c_heardGive : Value) (pa : Nat → Nat) (pn : Nat → Value) (hpk : ∀ k, k < np → pk k < 4) (x3_31 : Int32) (x4_31 : Int32) :
    ∀ (k_ : Nat) (x5_31 : Int32) (x6_31 : Int32) (rx : Int32) (H : Heap) (locs : List Loc) (ls : Array Slot), loopN k_ (fun s_ => BX6_apart_31 c_peopleMany np pr x3_31 x4_31 s_.1 s_.2) (x5_31, x6_31) = some rx → va_P D clG ([(h_c, .inr (6, [.ref h_c_people, c_hours, c_heardBy, c_heardOf, c_heardAt, c_heardGive, .int c_hour, .int c_gives, .int c_peopleMany, .int c_nearMany, .int c_askedMany, .int c_heardMany, .int c_wentMany])), (h_c_people, .inl (dA 4, 6, .inr (.inr (.inr (.inr (pref np pa))))))] ++ ppool np pa pk pn pu pw pd pr ps pt) H → va_D A ([(h_c, .inr (6, [.ref h_c_people, c_hours, c_heardBy, c_heardOf, c_heardAt, c_heardGive, .int c_hour, .int c_gives, .int c_peopleMany, .int c_nearMany, .int c_askedMany, .int c_heardMany, .int c_wentMany])), (h_c_people, .inl (dA 4, 6, .inr (.inr (.inr (.inr (pref np pa))))))] ++ ppool np pa pk pn pu pw pd pr ps pt) → va_S A s.heap H locs → lv_has ls 7 [(0, .ref h_c), (2, .int p2), (3, .int x3_31), (4, .int x4_31), (5, .int x5_31), (6, .int x6_31)] → (∀ (H1 : Heap) (locs1 : List Loc) (ls1 : Array Slot), va_P D clG ([(h_c, .inr (6, [.ref h_c_people, c_hours, c_heardBy, c_heardOf, c_heardAt, c_heardGive, .int c_hour, .int c_gives, .int c_peopleMany, .int c_nearMany, .int c_askedMany, .int c_heardMany, .int c_wentMany])), (h_c_people, .inl (dA 4, 6, .inr (.inr (.inr (.inr (pref np pa))))))] ++ ppool np pa pk pn pu pw pd pr ps pt) H1 → va_D A ([(h_c, .inr (6, [.ref h_c_people, c_hours, c_heardBy, c_heardOf, c_heardAt, c_heardGive, .int c_hour, .int c_gives, .int c_peopleMany, .int c_nearMany, .int c_askedMany, .int c_heardMany, .int c_wentMany])), (h_c_people, .inl (dA 4, 6, .inr (.inr (.inr (.inr (pref np pa))))))] ++ ppool np pa pk pn pu pw pd pr ps pt) → va_S A s.heap H1 locs1 → lv_has ls1 7 [(0, .ref h_c), (2, .int p2), (4, .int x4_31), (5, .int rx)] → W p l e (headSpec (ws_ yX6_apart cX6_apart 7 (some .int)) ({ frames := 1, cells := 0, slots := 0, locals := 21 })).room s m args below meth c H1 locs1 0 0 Q (F0 m 74 ls1 [])) → W p l e (headSpec (ws_ yX6_apart cX6_apart 7 (some .int)) ({ frames := 1, cells := 0, slots := 0, locals := 21 })).room s m args below meth c H locs 0 0 Q (F0 m 31 ls []) := by
  intro k_
  induction k_ with
  | zero =>
    intro x5_31 x6_31 rx H locs ls hN
    cases hN
  | succ k_ ih =>
    intro x5_31 x6_31 rx H locs ls hN hP hD hS hl kx0
    obtain ⟨r_, hM, hN⟩ := b_inv hN
    replace hM : BX6_apart_31 c_peopleMany np pr x3_31 x4_31 x5_31 x6_31 = some r_ := hM
    unfold BX6_apart_31 at hM
    refine lv_iload hx hb dX6_apart_31 (lv_at hl 5 rfl) ?_
    refine lv_aload_n hx hb dX6_apart_33 rfl (lv_at hl 0 rfl) ?_
    refine va_get (D := D) (ci := 6) (v := .int c_peopleMany) (C := RX8) (T := TX8) (N := 13) hx hb hts in_X8 hown hK.1 hP 0 rfl rfl 8 (by decide) (hts _ q483) (fun _ h9 => h9) rfl dX6_apart_34 ?_
    refine lv_icmp_ge (tgt := 74) hx hb dX6_apart_37 (by decide) (fun c5 => ?_) (fun c5 => ?_)
    · rw [if_pos c5] at hM
      have hM := Option.some.inj hM
      subst hM
      have hN := Option.some.inj hN
      subst hN
      exact kx0 _ _ _ hP hD hS (lv_sub hl [0, 1, 3, 4] rfl)
    · rw [if_neg c5] at hM
      refine lv_iload hx hb dX6_apart_40 (lv_at hl 4 rfl) ?_
      refine lv_iload_n hx hb dX6_apart_42 rfl (lv_at hl 2 rfl) ?_
      refine lv_iload hx hb dX6_apart_43 (lv_at hl 5 rfl) ?_
      obtain ⟨r6, er6, hM⟩ := b_inv hM
      refine k_i0 [] (va_runSN (As := [.int x3_31, .int x6_31]) (rest := [.int x5_31]) ⟨hx, hb, hml, hown, hts⟩ (ctX1_has l D dA _ x3_31 x6_31 r6 er6) ⟨va_cnB 2 hts (lw_meth q839) rfl rfl rfl (hK.nw 21 rfl) (hts _ q113) (by decide +kernel) ⟨Nat.le_of_ble_eq_true rfl, Nat.le_of_ble_eq_true rfl⟩, hts _ q838, trivial⟩ (pre_S (hP.sub [] rfl) hK (hD.sub [] (by decide) rfl)) rfl rfl hl.1 rfl (lv_room (Nat.le_of_ble_eq_true rfl)) dX6_apart_45 ⟨Nat.le_of_ble_eq_true rfl, Nat.le_of_ble_eq_true rfl⟩) hP hD hS hA rfl (fun _ => rfl) (fun u7 H locs hP hD hS => ?_)
      have hP : va_P D clG ([(h_c, .inr (6, [.ref h_c_people, c_hours, c_heardBy, c_heardOf, c_heardAt, c_heardGive, .int c_hour, .int c_gives, .int c_peopleMany, .int c_nearMany, .int c_askedMany, .int c_heardMany, .int c_wentMany])), (h_c_people, .inl (dA 4, 6, .inr (.inr (.inr (.inr (pref np pa))))))] ++ ppool np pa pk pn pu pw pd pr ps pt) H := hP
      have hD : va_D A ([(h_c, .inr (6, [.ref h_c_people, c_hours, c_heardBy, c_heardOf, c_heardAt, c_heardGive, .int c_hour, .int c_gives, .int c_peopleMany, .int c_nearMany, .int c_askedMany, .int c_heardMany, .int c_wentMany])), (h_c_people, .inl (dA 4, 6, .inr (.inr (.inr (.inr (pref np pa))))))] ++ ppool np pa pk pn pu pw pd pr ps pt) := hD
      refine lv_if_eq (tgt := 64) hx hb dX6_apart_48 (by decide) (fun c8 => ?_) (fun c8 => ?_)
      · rw [if_pos c8] at hM
        refine lv_iconst (v := (0 : Int32)) hx hb dX6_apart_64 (by decide) ?_
        refine lv_ior hx hb dX6_apart_65 ?_
        refine lv_istore (lv' := [(5, .int (x5_31 ||| (0 : Int32))), (0, .ref h_c), (2, .int p2), (3, .int x3_31), (4, .int x4_31), (6, .int x6_31)]) hx hb dX6_apart_66 hl (by decide) rfl (fun ls hl => ?_)
        refine lv_iinc (v := (x6_31 + (1 : Int32))) (lv' := [(6, .int (x6_31 + (1 : Int32))), (5, .int (x5_31 ||| (0 : Int32))), (0, .ref h_c), (2, .int p2), (3, .int x3_31), (4, .int x4_31)]) hx hb dX6_apart_68 hl (k := 5) rfl (rfl) (by decide) rfl (fun ls hl => ?_)
        refine lv_goto (tgt := 31) hx hb dX6_apart_71 (by decide) ?_
        have hM := Option.some.inj hM
        subst hM
        exact ih (x5_31 ||| (0 : Int32)) (x6_31 + (1 : Int32)) _ _ _ _ hN hP hD hS (lv_sub hl [2, 3, 4, 5, 1, 0] rfl) kx0
      · rw [if_neg c8] at hM
        refine lv_aload_n hx hb dX6_apart_51 rfl (lv_at hl 0 rfl) ?_
        refine va_get (D := D) (ci := 6) (v := .ref h_c_people) (C := RX8) (T := TX8) (N := 13) hx hb hts in_X8 hown hK.1 hP 0 rfl rfl 0 (by decide) (hts _ q458) (fun _ h9 => h9) rfl dX6_apart_52 ?_
        refine lv_iload hx hb dX6_apart_55 (lv_at hl 5 rfl) ?_
        obtain ⟨h9, hM⟩ := gi_inv hM
        obtain ⟨h10, hM⟩ := gn_inv hM
        refine va_aldq hx hb hK.1 hP 1 4 rfl rfl h9 dX6_apart_57 ?_
        refine lv_tor (v := .ref (pa (Int32.toNatClampNeg x6_31))) (pp_ref h10) ?_
        refine pp_getf (n := 2) hx hb hts hown hK hP rfl h10 (hpk _ h10) 4 (by decide) (hts _ q760) (fun _ h9 => h9) (v := .int (pr (Int32.toNatClampNeg x6_31))) rfl dX6_apart_58 ?_
        refine lv_goto (tgt := 65) hx hb dX6_apart_61 (by decide) ?_
        refine lv_ior hx hb dX6_apart_65 ?_
        refine lv_istore (lv' := [(5, .int (x5_31 ||| (pr (Int32.toNatClampNeg x6_31)))), (0, .ref h_c), (2, .int p2), (3, .int x3_31), (4, .int x4_31), (6, .int x6_31)]) hx hb dX6_apart_66 hl (by decide) rfl (fun ls hl => ?_)
        refine lv_iinc (v := (x6_31 + (1 : Int32))) (lv' := [(6, .int (x6_31 + (1 : Int32))), (5, .int (x5_31 ||| (pr (Int32.toNatClampNeg x6_31)))), (0, .ref h_c), (2, .int p2), (3, .int x3_31), (4, .int x4_31)]) hx hb dX6_apart_68 hl (k := 5) rfl (rfl) (by decide) rfl (fun ls hl => ?_)
        refine lv_goto (tgt := 31) hx hb dX6_apart_71 (by decide) ?_
        have hM := Option.some.inj hM
        subst hM
        exact ih (x5_31 ||| (pr (Int32.toNatClampNeg x6_31))) (x6_31 + (1 : Int32)) _ _ _ _ hN hP hD hS (lv_sub hl [2, 3, 4, 5, 1, 0] rfl) kx0
set_option maxHeartbeats 40000000 in
set_option maxRecDepth 100000 in
theorem wX6_apart_7 {p : Program} {l : Launch} {e : Env} {s : State} {m : MethodId} {args : Array Value} {below : List Frame} {meth : Method} {c : Code} {D : va_G} {dA : Nat → ClassId} {A : Nat → Prop} {Q : State → Prop} (hx : p.tables.exec = Jvm.exec) (hb : c.code = cX6_apart) (hml : c.maxLocals = 7) (hown : s.vm.findClass RX6 = some m.cls) (hts : ∀ w ∈ lw_all, w.before args s = true) (hK : KK D dA s) (hA : ∀ q : Nat, s.heap.size ≤ q → A q) (h_c : Nat) (h_c_people : Nat) (p1 : Int32) (p2 : Int32) (c_hour : Int32) (c_gives : Int32) (c_peopleMany : Int32) (c_nearMany : Int32) (c_askedMany : Int32) (c_heardMany : Int32) (c_wentMany : Int32) (np : Nat) (pk : Nat → Nat) (pu : AI) (pw : AI) (pd : AI) (pr : AI) (ps : AI) (pt : AI) (c_hours : Value) (c_heardBy : Value) (c_heardOf : Value) (c_heardAt : Value) (c_heardGive : Value) (pa : Nat → Nat) (pn : Nat → Value) (hpk : ∀ k, k < np → pk k < 4) :
    ∀ (k_ : Nat) (x3_7 : Int32) (x4_7 : Int32) (rx : (Int32 ⊕ Unit)) (H : Heap) (locs : List Loc) (ls : Array Slot), loopN k_ (fun s_ => BX6_apart_7 p2 c_peopleMany np pr s_.1 s_.2) (x3_7, x4_7) = some rx → va_P D clG ([(h_c, .inr (6, [.ref h_c_people, c_hours, c_heardBy, c_heardOf, c_heardAt, c_heardGive, .int c_hour, .int c_gives, .int c_peopleMany, .int c_nearMany, .int c_askedMany, .int c_heardMany, .int c_wentMany])), (h_c_people, .inl (dA 4, 6, .inr (.inr (.inr (.inr (pref np pa))))))] ++ ppool np pa pk pn pu pw pd pr ps pt) H → va_D A ([(h_c, .inr (6, [.ref h_c_people, c_hours, c_heardBy, c_heardOf, c_heardAt, c_heardGive, .int c_hour, .int c_gives, .int c_peopleMany, .int c_nearMany, .int c_askedMany, .int c_heardMany, .int c_wentMany])), (h_c_people, .inl (dA 4, 6, .inr (.inr (.inr (.inr (pref np pa))))))] ++ ppool np pa pk pn pu pw pd pr ps pt) → va_S A s.heap H locs → lv_has ls 7 [(0, .ref h_c), (2, .int p2), (3, .int x3_7), (4, .int x4_7)] → (∀ ry : Int32, rx = .inl ry → ∀ (H1 : Heap) (locs1 : List Loc) (ls1 : Array Slot), va_P D clG ([(h_c, .inr (6, [.ref h_c_people, c_hours, c_heardBy, c_heardOf, c_heardAt, c_heardGive, .int c_hour, .int c_gives, .int c_peopleMany, .int c_nearMany, .int c_askedMany, .int c_heardMany, .int c_wentMany])), (h_c_people, .inl (dA 4, 6, .inr (.inr (.inr (.inr (pref np pa))))))] ++ ppool np pa pk pn pu pw pd pr ps pt) H1 → va_D A ([(h_c, .inr (6, [.ref h_c_people, c_hours, c_heardBy, c_heardOf, c_heardAt, c_heardGive, .int c_hour, .int c_gives, .int c_peopleMany, .int c_nearMany, .int c_askedMany, .int c_heardMany, .int c_wentMany])), (h_c_people, .inl (dA 4, 6, .inr (.inr (.inr (.inr (pref np pa))))))] ++ ppool np pa pk pn pu pw pd pr ps pt) → va_S A s.heap H1 locs1 → lv_has ls1 7 [(4, .int ry)] → W p l e (headSpec (ws_ yX6_apart cX6_apart 7 (some .int)) ({ frames := 1, cells := 0, slots := 0, locals := 21 })).room s m args below meth c H1 locs1 0 0 Q (F0 m 22 ls1 [])) → (∀ ry : Unit, rx = .inr ry → ∀ (H1 : Heap) (locs1 : List Loc) (ls1 : Array Slot), va_P D clG ([(h_c, .inr (6, [.ref h_c_people, c_hours, c_heardBy, c_heardOf, c_heardAt, c_heardGive, .int c_hour, .int c_gives, .int c_peopleMany, .int c_nearMany, .int c_askedMany, .int c_heardMany, .int c_wentMany])), (h_c_people, .inl (dA 4, 6, .inr (.inr (.inr (.inr (pref np pa))))))] ++ ppool np pa pk pn pu pw pd pr ps pt) H1 → va_D A ([(h_c, .inr (6, [.ref h_c_people, c_hours, c_heardBy, c_heardOf, c_heardAt, c_heardGive, .int c_hour, .int c_gives, .int c_peopleMany, .int c_nearMany, .int c_askedMany, .int c_heardMany, .int c_wentMany])), (h_c_people, .inl (dA 4, 6, .inr (.inr (.inr (.inr (pref np pa))))))] ++ ppool np pa pk pn pu pw pd pr ps pt) → va_S A s.heap H1 locs1 → lv_has ls1 7 [] → W p l e (headSpec (ws_ yX6_apart cX6_apart 7 (some .int)) ({ frames := 1, cells := 0, slots := 0, locals := 21 })).room s m args below meth c H1 locs1 0 0 Q (F0 m 83 ls1 [])) → W p l e (headSpec (ws_ yX6_apart cX6_apart 7 (some .int)) ({ frames := 1, cells := 0, slots := 0, locals := 21 })).room s m args below meth c H locs 0 0 Q (F0 m 7 ls []) := by
  intro k_
  induction k_ with
  | zero =>
    intro x3_7 x4_7 rx H locs ls hN
    cases hN
  | succ k_ ih =>
    intro x3_7 x4_7 rx H locs ls hN hP hD hS hl kx0 kx1
    obtain ⟨r_, hM, hN⟩ := b_inv hN
    replace hM : BX6_apart_7 p2 c_peopleMany np pr x3_7 x4_7 = some r_ := hM
    unfold BX6_apart_7 at hM
    refine lv_iload hx hb dX6_apart_7 (lv_at hl 3 rfl) ?_
    refine lv_bipush (v := (6 : Int32)) hx hb dX6_apart_9 (by decide) ?_
    refine lv_icmp_ge (tgt := 83) hx hb dX6_apart_11 (by decide) (fun c1 => ?_) (fun c1 => ?_)
    · rw [if_pos c1] at hM
      have hM := Option.some.inj hM
      subst hM
      have hN := Option.some.inj hN
      subst hN
      exact kx1 _ rfl _ _ _ hP hD hS (lv_sub hl [] rfl)
    · rw [if_neg c1] at hM
      refine lv_iload_n hx hb dX6_apart_14 rfl (lv_at hl 2 rfl) ?_
      refine lv_iload_n hx hb dX6_apart_15 rfl (lv_at hl 1 rfl) ?_
      obtain ⟨r2, er2, hM⟩ := b_inv hM
      refine k_i0 [] (va_runSN (As := [.int x3_7, .int p2]) (rest := []) ⟨hx, hb, hml, hown, hts⟩ (ctX1_has l D dA _ x3_7 p2 r2 er2) ⟨va_cnB 2 hts (lw_meth q839) rfl rfl rfl (hK.nw 21 rfl) (hts _ q113) (by decide +kernel) ⟨Nat.le_of_ble_eq_true rfl, Nat.le_of_ble_eq_true rfl⟩, hts _ q838, trivial⟩ (pre_S (hP.sub [] rfl) hK (hD.sub [] (by decide) rfl)) rfl rfl hl.1 rfl (lv_room (Nat.le_of_ble_eq_true rfl)) dX6_apart_16 ⟨Nat.le_of_ble_eq_true rfl, Nat.le_of_ble_eq_true rfl⟩) hP hD hS hA rfl (fun _ => rfl) (fun u3 H locs hP hD hS => ?_)
      have hP : va_P D clG ([(h_c, .inr (6, [.ref h_c_people, c_hours, c_heardBy, c_heardOf, c_heardAt, c_heardGive, .int c_hour, .int c_gives, .int c_peopleMany, .int c_nearMany, .int c_askedMany, .int c_heardMany, .int c_wentMany])), (h_c_people, .inl (dA 4, 6, .inr (.inr (.inr (.inr (pref np pa))))))] ++ ppool np pa pk pn pu pw pd pr ps pt) H := hP
      have hD : va_D A ([(h_c, .inr (6, [.ref h_c_people, c_hours, c_heardBy, c_heardOf, c_heardAt, c_heardGive, .int c_hour, .int c_gives, .int c_peopleMany, .int c_nearMany, .int c_askedMany, .int c_heardMany, .int c_wentMany])), (h_c_people, .inl (dA 4, 6, .inr (.inr (.inr (.inr (pref np pa))))))] ++ ppool np pa pk pn pu pw pd pr ps pt) := hD
      refine lv_if_eq (tgt := 25) hx hb dX6_apart_19 (by decide) (fun c4 => ?_) (fun c4 => ?_)
      · rw [if_pos c4] at hM
        refine lv_iload_n hx hb dX6_apart_25 rfl (lv_at hl 2 rfl) ?_
        refine lv_istore (lv' := [(5, .int x3_7), (0, .ref h_c), (2, .int p2), (3, .int x3_7), (4, .int x4_7)]) hx hb dX6_apart_26 hl (by decide) rfl (fun ls hl => ?_)
        refine lv_iconst (v := (0 : Int32)) hx hb dX6_apart_28 (by decide) ?_
        refine lv_istore (lv' := [(6, .int (0 : Int32)), (5, .int x3_7), (0, .ref h_c), (2, .int p2), (3, .int x3_7), (4, .int x4_7)]) hx hb dX6_apart_29 hl (by decide) rfl (fun ls hl => ?_)
        obtain ⟨r11, er11, hM⟩ := b_inv hM
        refine wX6_apart_31 hx hb hml hown hts hK hA h_c h_c_people p1 p2 c_hour c_gives c_peopleMany c_nearMany c_askedMany c_heardMany c_wentMany np pk pu pw pd pr ps pt c_hours c_heardBy c_heardOf c_heardAt c_heardGive pa pn hpk x3_7 x4_7 _ x3_7 (0 : Int32) _ _ _ _ er11 hP hD hS (lv_sub hl [2, 3, 4, 5, 1, 0] rfl) (fun H locs ls hP hD hS hl => ?_)
        refine lv_iload hx hb dX6_apart_74 (lv_at hl 3 rfl) ?_
        refine lv_istore_n (lv' := [(3, .int r11), (0, .ref h_c), (2, .int p2), (4, .int x4_7), (5, .int r11)]) hx hb dX6_apart_76 rfl hl (by decide) rfl (fun ls hl => ?_)
        have hl := lv_sub (l' := [(3, .int r11), (0, .ref h_c), (2, .int p2), (4, .int x4_7)]) hl [0, 1, 2, 3] rfl
        refine lv_iinc (v := (x4_7 + (1 : Int32))) (lv' := [(4, .int (x4_7 + (1 : Int32))), (3, .int r11), (0, .ref h_c), (2, .int p2)]) hx hb dX6_apart_77 hl (k := 3) rfl (rfl) (by decide) rfl (fun ls hl => ?_)
        refine lv_goto (tgt := 7) hx hb dX6_apart_80 (by decide) ?_
        have hM := Option.some.inj hM
        subst hM
        exact ih r11 (x4_7 + (1 : Int32)) _ _ _ _ hN hP hD hS (lv_sub hl [2, 3, 1, 0] rfl) kx0 kx1
      · rw [if_neg c4] at hM
        have hM := Option.some.inj hM
        subst hM
        have hN := Option.some.inj hN
        subst hN
        exact kx0 _ rfl _ _ _ hP hD hS (lv_sub hl [3] rfl)
set_option maxHeartbeats 40000000 in
set_option maxRecDepth 100000 in
theorem ctX6_apart (l : Launch) (D : va_G) (dA : Nat → ClassId) (sz : Nat) (h_c : Nat) (h_c_people : Nat) (p1 : Int32) (p2 : Int32) (c_hour : Int32) (c_gives : Int32) (c_peopleMany : Int32) (c_nearMany : Int32) (c_askedMany : Int32) (c_heardMany : Int32) (c_wentMany : Int32) (np : Nat) (pk : Nat → Nat) (pu : AI) (pw : AI) (pd : AI) (pr : AI) (ps : AI) (pt : AI) (c_hours : Value) (c_heardBy : Value) (c_heardOf : Value) (c_heardAt : Value) (c_heardGive : Value) (pa : Nat → Nat) (pn : Nat → Value) (hpk : ∀ k, k < np → pk k < 4) (res : Int32) (hM : MX6_apart p1 p2 c_peopleMany np pr = some res) : Met l yX6_apart (ws_ yX6_apart cX6_apart 7 (some .int)) ({ frames := 1, cells := 0, slots := 0, locals := 21 }) (pre_ D dA [.ref h_c, .int p1, .int p2] ([(h_c, .inr (6, [.ref h_c_people, c_hours, c_heardBy, c_heardOf, c_heardAt, c_heardGive, .int c_hour, .int c_gives, .int c_peopleMany, .int c_nearMany, .int c_askedMany, .int c_heardMany, .int c_wentMany])), (h_c_people, .inl (dA 4, 6, .inr (.inr (.inr (.inr (pref np pa))))))] ++ ppool np pa pk pn pu pw pd pr ps pt) sz) (qi_ D res (fun (u : Unit) => [(h_c, .inr (6, [.ref h_c_people, c_hours, c_heardBy, c_heardOf, c_heardAt, c_heardGive, .int c_hour, .int c_gives, .int c_peopleMany, .int c_nearMany, .int c_askedMany, .int c_heardMany, .int c_wentMany])), (h_c_people, .inl (dA 4, 6, .inr (.inr (.inr (.inr (pref np pa))))))] ++ ppool np pa pk pn pu pw pd pr ps pt) (va_A ([(h_c, .inr (6, [.ref h_c_people, c_hours, c_heardBy, c_heardOf, c_heardAt, c_heardGive, .int c_hour, .int c_gives, .int c_peopleMany, .int c_nearMany, .int c_askedMany, .int c_heardMany, .int c_wentMany])), (h_c_people, .inl (dA 4, 6, .inr (.inr (.inr (.inr (pref np pa))))))] ++ ppool np pa pk pn pu pw pd pr ps pt) sz)) 0 0 (va_A ([(h_c, .inr (6, [.ref h_c_people, c_hours, c_heardBy, c_heardOf, c_heardAt, c_heardGive, .int c_hour, .int c_gives, .int c_peopleMany, .int c_nearMany, .int c_askedMany, .int c_heardMany, .int c_wentMany])), (h_c_people, .inl (dA 4, 6, .inr (.inr (.inr (.inr (pref np pa))))))] ++ ppool np pa pk pn pu pw pd pr ps pt) sz) := by
  refine Met.ofW (cc := cX6_apart) (maxL := 7) (ret := (some .int)) (by decide) rfl ?_
  intro p e s m args below meth c s₁ B hml hv
  obtain ⟨rfl, hsz, hP, hK, hD0⟩ := hv
  have hx := B.exec
  have hb := B.bytes
  have hr := B.returns
  have hts := atoms_spec (ws := (ws_ yX6_apart cX6_apart 7 (some .int))) B.pre
  have hts : ∀ w ∈ lw_all, w.before _ s = true := fun w h => hts w (List.mem_cons_of_mem _ h)
  have hown : s.vm.findClass RX6 = some m.cls := findClass_of_methodNamed B.named
  have hlocks := B.notSynchronized
  subst hsz
  have hD := hD0.self (sz := s.heap.size)
  generalize hAe : va_A ([(h_c, .inr (6, [.ref h_c_people, c_hours, c_heardBy, c_heardOf, c_heardAt, c_heardGive, .int c_hour, .int c_gives, .int c_peopleMany, .int c_nearMany, .int c_askedMany, .int c_heardMany, .int c_wentMany])), (h_c_people, .inl (dA 4, 6, .inr (.inr (.inr (.inr (pref np pa))))))] ++ ppool np pa pk pn pu pw pd pr ps pt) s.heap.size = A at hD ⊢
  have hA : ∀ q : Nat, s.heap.size ≤ q → A q := fun q h => by rw [← hAe]; exact Or.inr h
  have hS : va_S A s.heap s.heap [] := va_S.rf
  have hP : va_P D clG ([(h_c, .inr (6, [.ref h_c_people, c_hours, c_heardBy, c_heardOf, c_heardAt, c_heardGive, .int c_hour, .int c_gives, .int c_peopleMany, .int c_nearMany, .int c_askedMany, .int c_heardMany, .int c_wentMany])), (h_c_people, .inl (dA 4, 6, .inr (.inr (.inr (.inr (pref np pa))))))] ++ ppool np pa pk pn pu pw pd pr ps pt) s.heap := hP
  have hl := lv_entry ([.ref h_c, .int p1, .int p2]) (n := 7) (Nat.le_of_ble_eq_true rfl)
  rw [lg_entry_eq]
  generalize (lg_sl ([.ref h_c, .int p1, .int p2]) ++ List.replicate (7 - (lg_sl ([.ref h_c, .int p1, .int p2])).length) Slot.unset).toArray = ls at hl ⊢
  have hl : lv_has ls 7 [(0, .ref h_c), (1, .int p1), (2, .int p2)] := hl
  unfold MX6_apart at hM
  refine lv_iconst (v := (1 : Int32)) hx hb dX6_apart_0 (by decide) ?_
  refine lv_iload_n hx hb dX6_apart_1 rfl (lv_at hl 1 rfl) ?_
  refine lv_ishl hx hb dX6_apart_2 ?_
  refine lv_istore_n (lv' := [(3, .int ((1 : Int32) <<< (p1 &&& 31))), (0, .ref h_c), (1, .int p1), (2, .int p2)]) hx hb dX6_apart_3 rfl hl (by decide) rfl (fun ls hl => ?_)
  have hl := lv_sub (l' := [(3, .int ((1 : Int32) <<< (p1 &&& 31))), (0, .ref h_c), (2, .int p2)]) hl [0, 1, 3] rfl
  refine lv_iconst (v := (0 : Int32)) hx hb dX6_apart_4 (by decide) ?_
  refine lv_istore (lv' := [(4, .int (0 : Int32)), (3, .int ((1 : Int32) <<< (p1 &&& 31))), (0, .ref h_c), (2, .int p2)]) hx hb dX6_apart_5 hl (by decide) rfl (fun ls hl => ?_)
  obtain ⟨r12, er12, hM⟩ := b_inv hM
  refine wX6_apart_7 hx hb hml hown hts hK hA h_c h_c_people p1 p2 c_hour c_gives c_peopleMany c_nearMany c_askedMany c_heardMany c_wentMany np pk pu pw pd pr ps pt c_hours c_heardBy c_heardOf c_heardAt c_heardGive pa pn hpk _ ((1 : Int32) <<< (p1 &&& 31)) (0 : Int32) _ _ _ _ er12 hP hD hS (lv_sub hl [2, 3, 1, 0] rfl) (fun z13 hr12 H locs ls hP hD hS hl => ?_) (fun z14 hr12 H locs ls hP hD hS hl => ?_)
  · subst hr12
    dsimp only at hM
    refine lv_iload hx hb dX6_apart_22 (lv_at hl 0 rfl) ?_
    have hM := Option.some.inj hM
    subst hM
    exact W.iret (v := z13) hx hb hr (fun t ht hW => ⟨⟨z13, (), rfl, rfl, by rw [ht]; exact hP, hD⟩, hS.F ht⟩) hS.2.2 dX6_apart_24
  · subst hr12
    dsimp only at hM
    refine lv_ldc (v := (1000000 : Int32)) hx hb hown (hts _ q1146) dX6_apart_83 ?_
    have hM := Option.some.inj hM
    subst hM
    exact W.iret (v := (1000000 : Int32)) hx hb hr (fun t ht hW => ⟨⟨(1000000 : Int32), (), rfl, rfl, by rw [ht]; exact hP, hD⟩, hS.F ht⟩) hS.2.2 dX6_apart_85

set_option maxHeartbeats 40000000 in
set_option maxRecDepth 100000 in
theorem wX6_lay_60 {p : Program} {l : Launch} {e : Env} {s : State} {m : MethodId} {args : Array Value} {below : List Frame} {meth : Method} {c : Code} {D : va_G} {dA : Nat → ClassId} {A : Nat → Prop} {Q : State → Prop} (hx : p.tables.exec = Jvm.exec) (hb : c.code = cX6_lay) (hml : c.maxLocals = 8) (hown : s.vm.findClass RX6 = some m.cls) (hts : ∀ w ∈ lw_all, w.before args s = true) (hK : KK D dA s) (hA : ∀ q : Nat, s.heap.size ≤ q → A q) (h_k : Nat) (h_c : Nat) (h_k_reach : Nat) (h_c_people : Nat) (p1 : Int32) (k_person : Int32) (k_many : Int32) (k_row : Int32) (k_set : Int32) (k_most : Int64) (c_hour : Int32) (c_gives : Int32) (c_peopleMany : Int32) (c_nearMany : Int32) (c_askedMany : Int32) (c_heardMany : Int32) (c_wentMany : Int32) (k_reach_ : AI) (np : Nat) (pk : Nat → Nat) (pu : AI) (pw : AI) (pd : AI) (pr : AI) (ps : AI) (pt : AI) (k_towns : Value) (k_night : Value) (c_hours : Value) (c_heardBy : Value) (c_heardOf : Value) (c_heardAt : Value) (c_heardGive : Value) (pa : Nat → Nat) (pn : Nat → Value) (hpk : ∀ k, k < np → pk k < 4) (x3_60 : Int32) (x4_60 : Int32) (x6_60 : Int32) (k_reach_60 : AI) :
    ∀ (k_ : Nat) (x5_60 : Int32) (x7_60 : Int32) (rx : Int32) (H : Heap) (locs : List Loc) (ls : Array Slot), loopN k_ (fun s_ => BX6_lay_60 c_peopleMany np pr x3_60 x4_60 x6_60 k_reach_60 s_.1 s_.2) (x5_60, x7_60) = some rx → va_P D clG ([(h_k, .inr (5, [k_towns, k_night, .ref h_k_reach, .int k_person, .int k_many, .int k_row, .int k_set, .long k_most])), (h_c, .inr (6, [.ref h_c_people, c_hours, c_heardBy, c_heardOf, c_heardAt, c_heardGive, .int c_hour, .int c_gives, .int c_peopleMany, .int c_nearMany, .int c_askedMany, .int c_heardMany, .int c_wentMany])), (h_k_reach, .inl (dA 0, 384, .inl (k_reach_60))), (h_c_people, .inl (dA 4, 6, .inr (.inr (.inr (.inr (pref np pa))))))] ++ ppool np pa pk pn pu pw pd pr ps pt) H → va_D A ([(h_k, .inr (5, [k_towns, k_night, .ref h_k_reach, .int k_person, .int k_many, .int k_row, .int k_set, .long k_most])), (h_c, .inr (6, [.ref h_c_people, c_hours, c_heardBy, c_heardOf, c_heardAt, c_heardGive, .int c_hour, .int c_gives, .int c_peopleMany, .int c_nearMany, .int c_askedMany, .int c_heardMany, .int c_wentMany])), (h_k_reach, .inl (dA 0, 384, .inl (k_reach_60))), (h_c_people, .inl (dA 4, 6, .inr (.inr (.inr (.inr (pref np pa))))))] ++ ppool np pa pk pn pu pw pd pr ps pt) → va_S A s.heap H locs → lv_has ls 8 [(0, .ref h_k), (1, .ref h_c), (2, .int p1), (3, .int x3_60), (4, .int x4_60), (5, .int x5_60), (6, .int x6_60), (7, .int x7_60)] → (∀ (H1 : Heap) (locs1 : List Loc) (ls1 : Array Slot), va_P D clG ([(h_k, .inr (5, [k_towns, k_night, .ref h_k_reach, .int k_person, .int k_many, .int k_row, .int k_set, .long k_most])), (h_c, .inr (6, [.ref h_c_people, c_hours, c_heardBy, c_heardOf, c_heardAt, c_heardGive, .int c_hour, .int c_gives, .int c_peopleMany, .int c_nearMany, .int c_askedMany, .int c_heardMany, .int c_wentMany])), (h_k_reach, .inl (dA 0, 384, .inl (k_reach_60))), (h_c_people, .inl (dA 4, 6, .inr (.inr (.inr (.inr (pref np pa))))))] ++ ppool np pa pk pn pu pw pd pr ps pt) H1 → va_D A ([(h_k, .inr (5, [k_towns, k_night, .ref h_k_reach, .int k_person, .int k_many, .int k_row, .int k_set, .long k_most])), (h_c, .inr (6, [.ref h_c_people, c_hours, c_heardBy, c_heardOf, c_heardAt, c_heardGive, .int c_hour, .int c_gives, .int c_peopleMany, .int c_nearMany, .int c_askedMany, .int c_heardMany, .int c_wentMany])), (h_k_reach, .inl (dA 0, 384, .inl (k_reach_60))), (h_c_people, .inl (dA 4, 6, .inr (.inr (.inr (.inr (pref np pa))))))] ++ ppool np pa pk pn pu pw pd pr ps pt) → va_S A s.heap H1 locs1 → lv_has ls1 8 [(0, .ref h_k), (1, .ref h_c), (2, .int p1), (3, .int x3_60), (4, .int x4_60), (5, .int rx)] → W p l e (headSpec (ws_ yX6_lay cX6_lay 8 none) ({ frames := 2, cells := 0, slots := 0, locals := 47 })).room s m args below meth c H1 locs1 0 0 Q (F0 m 123 ls1 [])) → W p l e (headSpec (ws_ yX6_lay cX6_lay 8 none) ({ frames := 2, cells := 0, slots := 0, locals := 47 })).room s m args below meth c H locs 0 0 Q (F0 m 60 ls []) := by
  intro k_
  induction k_ with
  | zero =>
    intro x5_60 x7_60 rx H locs ls hN
    cases hN
  | succ k_ ih =>
    intro x5_60 x7_60 rx H locs ls hN hP hD hS hl kx0
    obtain ⟨r_, hM, hN⟩ := b_inv hN
    replace hM : BX6_lay_60 c_peopleMany np pr x3_60 x4_60 x6_60 k_reach_60 x5_60 x7_60 = some r_ := hM
    unfold BX6_lay_60 at hM
    refine lv_iload hx hb dX6_lay_60 (lv_at hl 7 rfl) ?_
    refine lv_aload_n hx hb dX6_lay_62 rfl (lv_at hl 1 rfl) ?_
    refine va_get (D := D) (ci := 6) (v := .int c_peopleMany) (C := RX8) (T := TX8) (N := 13) hx hb hts in_X8 hown hK.1 hP 1 rfl rfl 8 (by decide) (hts _ q483) (fun _ h9 => h9) rfl dX6_lay_63 ?_
    refine lv_icmp_ge (tgt := 123) hx hb dX6_lay_66 (by decide) (fun c7 => ?_) (fun c7 => ?_)
    · rw [if_pos c7] at hM
      have hM := Option.some.inj hM
      subst hM
      have hN := Option.some.inj hN
      subst hN
      exact kx0 _ _ _ hP hD hS (lv_sub hl [0, 1, 2, 3, 4, 5] rfl)
    · rw [if_neg c7] at hM
      refine lv_iload_n hx hb dX6_lay_69 rfl (lv_at hl 3 rfl) ?_
      refine lv_iload hx hb dX6_lay_70 (lv_at hl 4 rfl) ?_
      obtain ⟨r8, er8, hM⟩ := b_inv hM
      refine k_i0 [] (va_runSN (As := [.int x3_60, .int x4_60]) (rest := []) ⟨hx, hb, hml, hown, hts⟩ (ctX1_has l D dA _ x3_60 x4_60 r8 er8) ⟨va_cnB 2 hts (lw_meth q839) rfl rfl rfl (hK.nw 21 rfl) (hts _ q113) (by decide +kernel) ⟨Nat.le_of_ble_eq_true rfl, Nat.le_of_ble_eq_true rfl⟩, hts _ q838, trivial⟩ (pre_S (hP.sub [] rfl) hK (hD.sub [] (by decide) rfl)) rfl rfl hl.1 rfl (lv_room (Nat.le_of_ble_eq_true rfl)) dX6_lay_72 ⟨Nat.le_of_ble_eq_true rfl, Nat.le_of_ble_eq_true rfl⟩) hP hD hS hA rfl (fun _ => rfl) (fun u9 H locs hP hD hS => ?_)
      have hP : va_P D clG ([(h_k, .inr (5, [k_towns, k_night, .ref h_k_reach, .int k_person, .int k_many, .int k_row, .int k_set, .long k_most])), (h_c, .inr (6, [.ref h_c_people, c_hours, c_heardBy, c_heardOf, c_heardAt, c_heardGive, .int c_hour, .int c_gives, .int c_peopleMany, .int c_nearMany, .int c_askedMany, .int c_heardMany, .int c_wentMany])), (h_k_reach, .inl (dA 0, 384, .inl (k_reach_60))), (h_c_people, .inl (dA 4, 6, .inr (.inr (.inr (.inr (pref np pa))))))] ++ ppool np pa pk pn pu pw pd pr ps pt) H := hP
      have hD : va_D A ([(h_k, .inr (5, [k_towns, k_night, .ref h_k_reach, .int k_person, .int k_many, .int k_row, .int k_set, .long k_most])), (h_c, .inr (6, [.ref h_c_people, c_hours, c_heardBy, c_heardOf, c_heardAt, c_heardGive, .int c_hour, .int c_gives, .int c_peopleMany, .int c_nearMany, .int c_askedMany, .int c_heardMany, .int c_wentMany])), (h_k_reach, .inl (dA 0, 384, .inl (k_reach_60))), (h_c_people, .inl (dA 4, 6, .inr (.inr (.inr (.inr (pref np pa))))))] ++ ppool np pa pk pn pu pw pd pr ps pt) := hD
      refine lv_if_eq (tgt := 117) hx hb dX6_lay_75 (by decide) (fun c10 => ?_) (fun c10 => ?_)
      · rw [if_pos c10] at hM
        refine lv_iinc (v := (x7_60 + (1 : Int32))) (lv' := [(7, .int (x7_60 + (1 : Int32))), (0, .ref h_k), (1, .ref h_c), (2, .int p1), (3, .int x3_60), (4, .int x4_60), (5, .int x5_60), (6, .int x6_60)]) hx hb dX6_lay_117 hl (k := 7) rfl (rfl) (by decide) rfl (fun ls hl => ?_)
        refine lv_goto (tgt := 60) hx hb dX6_lay_120 (by decide) ?_
        have hM := Option.some.inj hM
        subst hM
        exact ih x5_60 (x7_60 + (1 : Int32)) _ _ _ _ hN hP hD hS (lv_sub hl [1, 2, 3, 4, 5, 6, 7, 0] rfl) kx0
      · rw [if_neg c10] at hM
        refine lv_iload hx hb dX6_lay_78 (lv_at hl 6 rfl) ?_
        refine lv_iload hx hb dX6_lay_80 (lv_at hl 7 rfl) ?_
        obtain ⟨r11, er11, hM⟩ := b_inv hM
        refine k_i0 [] (va_runSN (As := [.int x6_60, .int x7_60]) (rest := []) ⟨hx, hb, hml, hown, hts⟩ (ctX1_has l D dA _ x6_60 x7_60 r11 er11) ⟨va_cnB 2 hts (lw_meth q839) rfl rfl rfl (hK.nw 21 rfl) (hts _ q113) (by decide +kernel) ⟨Nat.le_of_ble_eq_true rfl, Nat.le_of_ble_eq_true rfl⟩, hts _ q838, trivial⟩ (pre_S (hP.sub [] rfl) hK (hD.sub [] (by decide) rfl)) rfl rfl hl.1 rfl (lv_room (Nat.le_of_ble_eq_true rfl)) dX6_lay_82 ⟨Nat.le_of_ble_eq_true rfl, Nat.le_of_ble_eq_true rfl⟩) hP hD hS hA rfl (fun _ => rfl) (fun u12 H locs hP hD hS => ?_)
        have hP : va_P D clG ([(h_k, .inr (5, [k_towns, k_night, .ref h_k_reach, .int k_person, .int k_many, .int k_row, .int k_set, .long k_most])), (h_c, .inr (6, [.ref h_c_people, c_hours, c_heardBy, c_heardOf, c_heardAt, c_heardGive, .int c_hour, .int c_gives, .int c_peopleMany, .int c_nearMany, .int c_askedMany, .int c_heardMany, .int c_wentMany])), (h_k_reach, .inl (dA 0, 384, .inl (k_reach_60))), (h_c_people, .inl (dA 4, 6, .inr (.inr (.inr (.inr (pref np pa))))))] ++ ppool np pa pk pn pu pw pd pr ps pt) H := hP
        have hD : va_D A ([(h_k, .inr (5, [k_towns, k_night, .ref h_k_reach, .int k_person, .int k_many, .int k_row, .int k_set, .long k_most])), (h_c, .inr (6, [.ref h_c_people, c_hours, c_heardBy, c_heardOf, c_heardAt, c_heardGive, .int c_hour, .int c_gives, .int c_peopleMany, .int c_nearMany, .int c_askedMany, .int c_heardMany, .int c_wentMany])), (h_k_reach, .inl (dA 0, 384, .inl (k_reach_60))), (h_c_people, .inl (dA 4, 6, .inr (.inr (.inr (.inr (pref np pa))))))] ++ ppool np pa pk pn pu pw pd pr ps pt) := hD
        refine lv_if_eq (tgt := 117) hx hb dX6_lay_85 (by decide) (fun c13 => ?_) (fun c13 => ?_)
        · rw [if_pos c13] at hM
          refine lv_iinc (v := (x7_60 + (1 : Int32))) (lv' := [(7, .int (x7_60 + (1 : Int32))), (0, .ref h_k), (1, .ref h_c), (2, .int p1), (3, .int x3_60), (4, .int x4_60), (5, .int x5_60), (6, .int x6_60)]) hx hb dX6_lay_117 hl (k := 7) rfl (rfl) (by decide) rfl (fun ls hl => ?_)
          refine lv_goto (tgt := 60) hx hb dX6_lay_120 (by decide) ?_
          have hM := Option.some.inj hM
          subst hM
          exact ih x5_60 (x7_60 + (1 : Int32)) _ _ _ _ hN hP hD hS (lv_sub hl [1, 2, 3, 4, 5, 6, 7, 0] rfl) kx0
        · rw [if_neg c13] at hM
          refine lv_iload hx hb dX6_lay_88 (lv_at hl 5 rfl) ?_
          refine lv_aload_n hx hb dX6_lay_90 rfl (lv_at hl 0 rfl) ?_
          refine va_get (D := D) (ci := 5) (v := .ref h_k_reach) (C := RX6) (T := TX6) (N := 8) hx hb hts in_X6 hown hK.1 hP 0 rfl rfl 2 (by decide) (hts _ q332) (fun _ h9 => h9) rfl dX6_lay_91 ?_
          refine lv_bipush (v := (6 : Int32)) hx hb dX6_lay_94 (by decide) ?_
          refine lv_iload hx hb dX6_lay_96 (lv_at hl 6 rfl) ?_
          refine lv_imul hx hb dX6_lay_98 ?_
          refine lv_iload hx hb dX6_lay_99 (lv_at hl 7 rfl) ?_
          refine lv_iadd hx hb dX6_lay_101 ?_
          obtain ⟨h14, hM⟩ := gi_inv hM
          refine va_iald hx hb hK.1 hP 2 0 rfl rfl h14 dX6_lay_102 ?_
          refine lv_aload_n hx hb dX6_lay_103 rfl (lv_at hl 1 rfl) ?_
          refine lv_iload hx hb dX6_lay_104 (lv_at hl 7 rfl) ?_
          refine lv_iload hx hb dX6_lay_106 (lv_at hl 4 rfl) ?_
          obtain ⟨r15, er15, hM⟩ := b_inv hM
          refine k_ip [1, 3] (va_runS (As := [.ref h_c, .int x7_60, .int x4_60]) (rest := [.int (k_reach_60 (Int32.toNatClampNeg (((6 : Int32) * x6_60) + x7_60))), .int x5_60]) ⟨hx, hb, hml, hown, hts⟩ (ctX6_apart l D dA _ h_c h_c_people x7_60 x4_60 c_hour c_gives c_peopleMany c_nearMany c_askedMany c_heardMany c_wentMany np pk pu pw pd pr ps pt (c_hours) (c_heardBy) (c_heardOf) (c_heardAt) (c_heardGive) pa pn hpk r15 er15) (va_cwS 3 hts (lw_S q1148 q1149 q121 q1150) rfl rfl rfl (by decide +kernel) ⟨Nat.le_of_ble_eq_true rfl, Nat.le_of_ble_eq_true rfl⟩) (pre_S (hP.part [1, 3] rfl) hK (hD.part [1, 3] (by decide) rfl)) rfl rfl hl.1 rfl (lv_room (Nat.le_of_ble_eq_true rfl)) dX6_lay_108 ⟨Nat.le_of_ble_eq_true rfl, Nat.le_of_ble_eq_true rfl⟩) hP hD hS hA rfl (fun _ => rfl) (fun u16 H locs hP hD hS => ?_)
          have hP : va_P D clG ([(h_k, .inr (5, [k_towns, k_night, .ref h_k_reach, .int k_person, .int k_many, .int k_row, .int k_set, .long k_most])), (h_c, .inr (6, [.ref h_c_people, c_hours, c_heardBy, c_heardOf, c_heardAt, c_heardGive, .int c_hour, .int c_gives, .int c_peopleMany, .int c_nearMany, .int c_askedMany, .int c_heardMany, .int c_wentMany])), (h_k_reach, .inl (dA 0, 384, .inl (k_reach_60))), (h_c_people, .inl (dA 4, 6, .inr (.inr (.inr (.inr (pref np pa))))))] ++ ppool np pa pk pn pu pw pd pr ps pt) H := hP
          have hD : va_D A ([(h_k, .inr (5, [k_towns, k_night, .ref h_k_reach, .int k_person, .int k_many, .int k_row, .int k_set, .long k_most])), (h_c, .inr (6, [.ref h_c_people, c_hours, c_heardBy, c_heardOf, c_heardAt, c_heardGive, .int c_hour, .int c_gives, .int c_peopleMany, .int c_nearMany, .int c_askedMany, .int c_heardMany, .int c_wentMany])), (h_k_reach, .inl (dA 0, 384, .inl (k_reach_60))), (h_c_people, .inl (dA 4, 6, .inr (.inr (.inr (.inr (pref np pa))))))] ++ ppool np pa pk pn pu pw pd pr ps pt) := hD
          refine lv_iadd hx hb dX6_lay_111 ?_
          refine va_mmin hx hb (hml.trans hl.1.symm) hown (hts _ q1151) (hts _ q1128) (hts _ q136) (hts _ q1129) (Nat.le_of_ble_eq_true rfl) (Nat.le_of_ble_eq_true rfl) (Nat.le_of_ble_eq_true rfl) (Nat.le_of_ble_eq_true rfl) dX6_lay_112 ?_
          refine lv_toi (v := (minI x5_60 ((k_reach_60 (Int32.toNatClampNeg (((6 : Int32) * x6_60) + x7_60))) + r15))) rfl ?_
          refine lv_topi (fun y17 ey17 => ?_)
          replace hM := lt_inv ey17 hM
          refine lv_istore (lv' := [(5, .int y17), (0, .ref h_k), (1, .ref h_c), (2, .int p1), (3, .int x3_60), (4, .int x4_60), (6, .int x6_60), (7, .int x7_60)]) hx hb dX6_lay_115 hl (by decide) rfl (fun ls hl => ?_)
          refine lv_iinc (v := (x7_60 + (1 : Int32))) (lv' := [(7, .int (x7_60 + (1 : Int32))), (5, .int y17), (0, .ref h_k), (1, .ref h_c), (2, .int p1), (3, .int x3_60), (4, .int x4_60), (6, .int x6_60)]) hx hb dX6_lay_117 hl (k := 7) rfl (rfl) (by decide) rfl (fun ls hl => ?_)
          refine lv_goto (tgt := 60) hx hb dX6_lay_120 (by decide) ?_
          have hM := Option.some.inj hM
          subst hM
          exact ih y17 (x7_60 + (1 : Int32)) _ _ _ _ hN hP hD hS (lv_sub hl [2, 3, 4, 5, 6, 1, 7, 0] rfl) kx0
set_option maxHeartbeats 40000000 in
set_option maxRecDepth 100000 in
theorem wX6_lay_11 {p : Program} {l : Launch} {e : Env} {s : State} {m : MethodId} {args : Array Value} {below : List Frame} {meth : Method} {c : Code} {D : va_G} {dA : Nat → ClassId} {A : Nat → Prop} {Q : State → Prop} (hx : p.tables.exec = Jvm.exec) (hb : c.code = cX6_lay) (hml : c.maxLocals = 8) (hown : s.vm.findClass RX6 = some m.cls) (hts : ∀ w ∈ lw_all, w.before args s = true) (hK : KK D dA s) (hA : ∀ q : Nat, s.heap.size ≤ q → A q) (h_k : Nat) (h_c : Nat) (h_k_reach : Nat) (h_c_people : Nat) (p1 : Int32) (k_person : Int32) (k_many : Int32) (k_row : Int32) (k_set : Int32) (k_most : Int64) (c_hour : Int32) (c_gives : Int32) (c_peopleMany : Int32) (c_nearMany : Int32) (c_askedMany : Int32) (c_heardMany : Int32) (c_wentMany : Int32) (k_reach_ : AI) (np : Nat) (pk : Nat → Nat) (pu : AI) (pw : AI) (pd : AI) (pr : AI) (ps : AI) (pt : AI) (k_towns : Value) (k_night : Value) (c_hours : Value) (c_heardBy : Value) (c_heardOf : Value) (c_heardAt : Value) (c_heardGive : Value) (pa : Nat → Nat) (pn : Nat → Value) (hpk : ∀ k, k < np → pk k < 4) (x3_11 : Int32) :
    ∀ (k_ : Nat) (x4_11 : Int32) (k_reach_11 : AI) (rx : AI) (H : Heap) (locs : List Loc) (ls : Array Slot), loopN k_ (fun s_ => BX6_lay_11 p1 c_peopleMany np pr x3_11 s_.1 s_.2) (x4_11, k_reach_11) = some rx → va_P D clG ([(h_k, .inr (5, [k_towns, k_night, .ref h_k_reach, .int k_person, .int k_many, .int k_row, .int k_set, .long k_most])), (h_c, .inr (6, [.ref h_c_people, c_hours, c_heardBy, c_heardOf, c_heardAt, c_heardGive, .int c_hour, .int c_gives, .int c_peopleMany, .int c_nearMany, .int c_askedMany, .int c_heardMany, .int c_wentMany])), (h_k_reach, .inl (dA 0, 384, .inl (k_reach_11))), (h_c_people, .inl (dA 4, 6, .inr (.inr (.inr (.inr (pref np pa))))))] ++ ppool np pa pk pn pu pw pd pr ps pt) H → va_D A ([(h_k, .inr (5, [k_towns, k_night, .ref h_k_reach, .int k_person, .int k_many, .int k_row, .int k_set, .long k_most])), (h_c, .inr (6, [.ref h_c_people, c_hours, c_heardBy, c_heardOf, c_heardAt, c_heardGive, .int c_hour, .int c_gives, .int c_peopleMany, .int c_nearMany, .int c_askedMany, .int c_heardMany, .int c_wentMany])), (h_k_reach, .inl (dA 0, 384, .inl (k_reach_11))), (h_c_people, .inl (dA 4, 6, .inr (.inr (.inr (.inr (pref np pa))))))] ++ ppool np pa pk pn pu pw pd pr ps pt) → va_S A s.heap H locs → lv_has ls 8 [(0, .ref h_k), (1, .ref h_c), (2, .int p1), (3, .int x3_11), (4, .int x4_11)] → (∀ (H1 : Heap) (locs1 : List Loc) (ls1 : Array Slot), va_P D clG ([(h_k, .inr (5, [k_towns, k_night, .ref h_k_reach, .int k_person, .int k_many, .int k_row, .int k_set, .long k_most])), (h_c, .inr (6, [.ref h_c_people, c_hours, c_heardBy, c_heardOf, c_heardAt, c_heardGive, .int c_hour, .int c_gives, .int c_peopleMany, .int c_nearMany, .int c_askedMany, .int c_heardMany, .int c_wentMany])), (h_k_reach, .inl (dA 0, 384, .inl (rx))), (h_c_people, .inl (dA 4, 6, .inr (.inr (.inr (.inr (pref np pa))))))] ++ ppool np pa pk pn pu pw pd pr ps pt) H1 → va_D A ([(h_k, .inr (5, [k_towns, k_night, .ref h_k_reach, .int k_person, .int k_many, .int k_row, .int k_set, .long k_most])), (h_c, .inr (6, [.ref h_c_people, c_hours, c_heardBy, c_heardOf, c_heardAt, c_heardGive, .int c_hour, .int c_gives, .int c_peopleMany, .int c_nearMany, .int c_askedMany, .int c_heardMany, .int c_wentMany])), (h_k_reach, .inl (dA 0, 384, .inl (rx))), (h_c_people, .inl (dA 4, 6, .inr (.inr (.inr (.inr (pref np pa))))))] ++ ppool np pa pk pn pu pw pd pr ps pt) → va_S A s.heap H1 locs1 → lv_has ls1 8 [(0, .ref h_k), (1, .ref h_c), (2, .int p1), (3, .int x3_11)] → W p l e (headSpec (ws_ yX6_lay cX6_lay 8 none) ({ frames := 2, cells := 0, slots := 0, locals := 47 })).room s m args below meth c H1 locs1 0 0 Q (F0 m 148 ls1 [])) → W p l e (headSpec (ws_ yX6_lay cX6_lay 8 none) ({ frames := 2, cells := 0, slots := 0, locals := 47 })).room s m args below meth c H locs 0 0 Q (F0 m 11 ls []) := by
  intro k_
  induction k_ with
  | zero =>
    intro x4_11 k_reach_11 rx H locs ls hN
    cases hN
  | succ k_ ih =>
    intro x4_11 k_reach_11 rx H locs ls hN hP hD hS hl kx0
    obtain ⟨r_, hM, hN⟩ := b_inv hN
    replace hM : BX6_lay_11 p1 c_peopleMany np pr x3_11 x4_11 k_reach_11 = some r_ := hM
    unfold BX6_lay_11 at hM
    refine lv_iload hx hb dX6_lay_11 (lv_at hl 4 rfl) ?_
    refine lv_aload_n hx hb dX6_lay_13 rfl (lv_at hl 1 rfl) ?_
    refine va_get (D := D) (ci := 6) (v := .int c_peopleMany) (C := RX8) (T := TX8) (N := 13) hx hb hts in_X8 hown hK.1 hP 1 rfl rfl 8 (by decide) (hts _ q483) (fun _ h9 => h9) rfl dX6_lay_14 ?_
    refine lv_icmp_ge (tgt := 148) hx hb dX6_lay_17 (by decide) (fun c2 => ?_) (fun c2 => ?_)
    · rw [if_pos c2] at hM
      have hM := Option.some.inj hM
      subst hM
      have hN := Option.some.inj hN
      subst hN
      exact kx0 _ _ _ hP hD hS (lv_sub hl [0, 1, 2, 3] rfl)
    · rw [if_neg c2] at hM
      refine lv_ldc (v := (1000000 : Int32)) hx hb hown (hts _ q1146) dX6_lay_20 ?_
      refine lv_istore (lv' := [(5, .int (1000000 : Int32)), (0, .ref h_k), (1, .ref h_c), (2, .int p1), (3, .int x3_11), (4, .int x4_11)]) hx hb dX6_lay_22 hl (by decide) rfl (fun ls hl => ?_)
      refine lv_iload_n hx hb dX6_lay_24 rfl (lv_at hl 4 rfl) ?_
      refine lv_iconst (v := (1 : Int32)) hx hb dX6_lay_25 (by decide) ?_
      refine lv_iload hx hb dX6_lay_26 (lv_at hl 5 rfl) ?_
      refine lv_ishl hx hb dX6_lay_28 ?_
      refine lv_iconst (v := (-1 : Int32)) hx hb dX6_lay_29 (by decide) ?_
      refine lv_ixor hx hb dX6_lay_30 ?_
      refine lv_iand hx hb dX6_lay_31 ?_
      refine lv_topi (fun y3 ey3 => ?_)
      replace hM := lt_inv ey3 hM
      refine lv_istore (lv' := [(6, .int y3), (5, .int (1000000 : Int32)), (0, .ref h_k), (1, .ref h_c), (2, .int p1), (3, .int x3_11), (4, .int x4_11)]) hx hb dX6_lay_32 hl (by decide) rfl (fun ls hl => ?_)
      refine lv_iload_n hx hb dX6_lay_34 rfl (lv_at hl 5 rfl) ?_
      refine lv_iload hx hb dX6_lay_35 (lv_at hl 6 rfl) ?_
      obtain ⟨r4, er4, hM⟩ := b_inv hM
      refine k_i0 [] (va_runSN (As := [.int x3_11, .int x4_11]) (rest := []) ⟨hx, hb, hml, hown, hts⟩ (ctX1_has l D dA _ x3_11 x4_11 r4 er4) ⟨va_cnB 2 hts (lw_meth q839) rfl rfl rfl (hK.nw 21 rfl) (hts _ q113) (by decide +kernel) ⟨Nat.le_of_ble_eq_true rfl, Nat.le_of_ble_eq_true rfl⟩, hts _ q838, trivial⟩ (pre_S (hP.sub [] rfl) hK (hD.sub [] (by decide) rfl)) rfl rfl hl.1 rfl (lv_room (Nat.le_of_ble_eq_true rfl)) dX6_lay_37 ⟨Nat.le_of_ble_eq_true rfl, Nat.le_of_ble_eq_true rfl⟩) hP hD hS hA rfl (fun _ => rfl) (fun u5 H locs hP hD hS => ?_)
      have hP : va_P D clG ([(h_k, .inr (5, [k_towns, k_night, .ref h_k_reach, .int k_person, .int k_many, .int k_row, .int k_set, .long k_most])), (h_c, .inr (6, [.ref h_c_people, c_hours, c_heardBy, c_heardOf, c_heardAt, c_heardGive, .int c_hour, .int c_gives, .int c_peopleMany, .int c_nearMany, .int c_askedMany, .int c_heardMany, .int c_wentMany])), (h_k_reach, .inl (dA 0, 384, .inl (k_reach_11))), (h_c_people, .inl (dA 4, 6, .inr (.inr (.inr (.inr (pref np pa))))))] ++ ppool np pa pk pn pu pw pd pr ps pt) H := hP
      have hD : va_D A ([(h_k, .inr (5, [k_towns, k_night, .ref h_k_reach, .int k_person, .int k_many, .int k_row, .int k_set, .long k_most])), (h_c, .inr (6, [.ref h_c_people, c_hours, c_heardBy, c_heardOf, c_heardAt, c_heardGive, .int c_hour, .int c_gives, .int c_peopleMany, .int c_nearMany, .int c_askedMany, .int c_heardMany, .int c_wentMany])), (h_k_reach, .inl (dA 0, 384, .inl (k_reach_11))), (h_c_people, .inl (dA 4, 6, .inr (.inr (.inr (.inr (pref np pa))))))] ++ ppool np pa pk pn pu pw pd pr ps pt) := hD
      refine lv_if_eq (tgt := 57) hx hb dX6_lay_40 (by decide) (fun c6 => ?_) (fun c6 => ?_)
      · rw [if_pos c6] at hM
        refine lv_iconst (v := (0 : Int32)) hx hb dX6_lay_57 (by decide) ?_
        refine lv_istore (lv' := [(7, .int (0 : Int32)), (6, .int y3), (5, .int (1000000 : Int32)), (0, .ref h_k), (1, .ref h_c), (2, .int p1), (3, .int x3_11), (4, .int x4_11)]) hx hb dX6_lay_58 hl (by decide) rfl (fun ls hl => ?_)
        obtain ⟨r18, er18, hM⟩ := b_inv hM
        refine wX6_lay_60 hx hb hml hown hts hK hA h_k h_c h_k_reach h_c_people p1 k_person k_many k_row k_set k_most c_hour c_gives c_peopleMany c_nearMany c_askedMany c_heardMany c_wentMany k_reach_ np pk pu pw pd pr ps pt k_towns k_night c_hours c_heardBy c_heardOf c_heardAt c_heardGive pa pn hpk x3_11 x4_11 y3 k_reach_11 _ (1000000 : Int32) (0 : Int32) _ _ _ _ er18 hP hD hS (lv_sub hl [3, 4, 5, 6, 7, 2, 1, 0] rfl) (fun H locs ls hP hD hS hl => ?_)
        refine lv_aload_n hx hb dX6_lay_123 rfl (lv_at hl 0 rfl) ?_
        refine va_get (D := D) (ci := 5) (v := .ref h_k_reach) (C := RX6) (T := TX6) (N := 8) hx hb hts in_X6 hown hK.1 hP 0 rfl rfl 2 (by decide) (hts _ q332) (fun _ h9 => h9) rfl dX6_lay_124 ?_
        refine lv_bipush (v := (6 : Int32)) hx hb dX6_lay_127 (by decide) ?_
        refine lv_iload_n hx hb dX6_lay_129 rfl (lv_at hl 3 rfl) ?_
        refine lv_imul hx hb dX6_lay_130 ?_
        refine lv_iload hx hb dX6_lay_131 (lv_at hl 4 rfl) ?_
        refine lv_iadd hx hb dX6_lay_133 ?_
        refine lv_iload hx hb dX6_lay_134 (lv_at hl 5 rfl) ?_
        refine lv_ldc (v := (1000000 : Int32)) hx hb hown (hts _ q1146) dX6_lay_136 ?_
        refine va_mmin hx hb (hml.trans hl.1.symm) hown (hts _ q1151) (hts _ q1128) (hts _ q136) (hts _ q1129) (Nat.le_of_ble_eq_true rfl) (Nat.le_of_ble_eq_true rfl) (Nat.le_of_ble_eq_true rfl) (Nat.le_of_ble_eq_true rfl) dX6_lay_138 ?_
        refine lv_toi (v := (minI r18 (1000000 : Int32))) rfl ?_
        obtain ⟨h19, hM⟩ := gi_inv hM
        refine va_iast hx hb hK.1 hP hD hS 2 0 rfl rfl h19 dX6_lay_141 (fun H locs hP hD hS => ?_)
        have hP : va_P D clG ([(h_k, .inr (5, [k_towns, k_night, .ref h_k_reach, .int k_person, .int k_many, .int k_row, .int k_set, .long k_most])), (h_c, .inr (6, [.ref h_c_people, c_hours, c_heardBy, c_heardOf, c_heardAt, c_heardGive, .int c_hour, .int c_gives, .int c_peopleMany, .int c_nearMany, .int c_askedMany, .int c_heardMany, .int c_wentMany])), (h_k_reach, .inl (dA 0, 384, .inl ((upd k_reach_11 (Int32.toNatClampNeg (((6 : Int32) * x3_11) + x4_11)) (minI r18 (1000000 : Int32)))))), (h_c_people, .inl (dA 4, 6, .inr (.inr (.inr (.inr (pref np pa))))))] ++ ppool np pa pk pn pu pw pd pr ps pt) H := hP
        have hD : va_D A ([(h_k, .inr (5, [k_towns, k_night, .ref h_k_reach, .int k_person, .int k_many, .int k_row, .int k_set, .long k_most])), (h_c, .inr (6, [.ref h_c_people, c_hours, c_heardBy, c_heardOf, c_heardAt, c_heardGive, .int c_hour, .int c_gives, .int c_peopleMany, .int c_nearMany, .int c_askedMany, .int c_heardMany, .int c_wentMany])), (h_k_reach, .inl (dA 0, 384, .inl ((upd k_reach_11 (Int32.toNatClampNeg (((6 : Int32) * x3_11) + x4_11)) (minI r18 (1000000 : Int32)))))), (h_c_people, .inl (dA 4, 6, .inr (.inr (.inr (.inr (pref np pa))))))] ++ ppool np pa pk pn pu pw pd pr ps pt) := hD
        refine lv_iinc (v := (x4_11 + (1 : Int32))) (lv' := [(4, .int (x4_11 + (1 : Int32))), (0, .ref h_k), (1, .ref h_c), (2, .int p1), (3, .int x3_11), (5, .int r18)]) hx hb dX6_lay_142 hl (k := 4) rfl (rfl) (by decide) rfl (fun ls hl => ?_)
        refine lv_goto (tgt := 11) hx hb dX6_lay_145 (by decide) ?_
        have hM := Option.some.inj hM
        subst hM
        exact ih (x4_11 + (1 : Int32)) (upd k_reach_11 (Int32.toNatClampNeg (((6 : Int32) * x3_11) + x4_11)) (minI r18 (1000000 : Int32))) _ _ _ _ hN hP hD hS (lv_sub hl [1, 2, 3, 4, 0] rfl) kx0
      · rw [if_neg c6] at hM
        refine lv_iload hx hb dX6_lay_43 (lv_at hl 0 rfl) ?_
        refine lv_if_ne (tgt := 57) hx hb dX6_lay_45 (by decide) (fun c20 => ?_) (fun c20 => ?_)
        · rw [if_neg c20] at hM
          refine lv_iconst (v := (0 : Int32)) hx hb dX6_lay_57 (by decide) ?_
          refine lv_istore (lv' := [(7, .int (0 : Int32)), (6, .int y3), (5, .int (1000000 : Int32)), (0, .ref h_k), (1, .ref h_c), (2, .int p1), (3, .int x3_11), (4, .int x4_11)]) hx hb dX6_lay_58 hl (by decide) rfl (fun ls hl => ?_)
          obtain ⟨r21, er21, hM⟩ := b_inv hM
          refine wX6_lay_60 hx hb hml hown hts hK hA h_k h_c h_k_reach h_c_people p1 k_person k_many k_row k_set k_most c_hour c_gives c_peopleMany c_nearMany c_askedMany c_heardMany c_wentMany k_reach_ np pk pu pw pd pr ps pt k_towns k_night c_hours c_heardBy c_heardOf c_heardAt c_heardGive pa pn hpk x3_11 x4_11 y3 k_reach_11 _ (1000000 : Int32) (0 : Int32) _ _ _ _ er21 hP hD hS (lv_sub hl [3, 4, 5, 6, 7, 2, 1, 0] rfl) (fun H locs ls hP hD hS hl => ?_)
          refine lv_aload_n hx hb dX6_lay_123 rfl (lv_at hl 0 rfl) ?_
          refine va_get (D := D) (ci := 5) (v := .ref h_k_reach) (C := RX6) (T := TX6) (N := 8) hx hb hts in_X6 hown hK.1 hP 0 rfl rfl 2 (by decide) (hts _ q332) (fun _ h9 => h9) rfl dX6_lay_124 ?_
          refine lv_bipush (v := (6 : Int32)) hx hb dX6_lay_127 (by decide) ?_
          refine lv_iload_n hx hb dX6_lay_129 rfl (lv_at hl 3 rfl) ?_
          refine lv_imul hx hb dX6_lay_130 ?_
          refine lv_iload hx hb dX6_lay_131 (lv_at hl 4 rfl) ?_
          refine lv_iadd hx hb dX6_lay_133 ?_
          refine lv_iload hx hb dX6_lay_134 (lv_at hl 5 rfl) ?_
          refine lv_ldc (v := (1000000 : Int32)) hx hb hown (hts _ q1146) dX6_lay_136 ?_
          refine va_mmin hx hb (hml.trans hl.1.symm) hown (hts _ q1151) (hts _ q1128) (hts _ q136) (hts _ q1129) (Nat.le_of_ble_eq_true rfl) (Nat.le_of_ble_eq_true rfl) (Nat.le_of_ble_eq_true rfl) (Nat.le_of_ble_eq_true rfl) dX6_lay_138 ?_
          refine lv_toi (v := (minI r21 (1000000 : Int32))) rfl ?_
          obtain ⟨h22, hM⟩ := gi_inv hM
          refine va_iast hx hb hK.1 hP hD hS 2 0 rfl rfl h22 dX6_lay_141 (fun H locs hP hD hS => ?_)
          have hP : va_P D clG ([(h_k, .inr (5, [k_towns, k_night, .ref h_k_reach, .int k_person, .int k_many, .int k_row, .int k_set, .long k_most])), (h_c, .inr (6, [.ref h_c_people, c_hours, c_heardBy, c_heardOf, c_heardAt, c_heardGive, .int c_hour, .int c_gives, .int c_peopleMany, .int c_nearMany, .int c_askedMany, .int c_heardMany, .int c_wentMany])), (h_k_reach, .inl (dA 0, 384, .inl ((upd k_reach_11 (Int32.toNatClampNeg (((6 : Int32) * x3_11) + x4_11)) (minI r21 (1000000 : Int32)))))), (h_c_people, .inl (dA 4, 6, .inr (.inr (.inr (.inr (pref np pa))))))] ++ ppool np pa pk pn pu pw pd pr ps pt) H := hP
          have hD : va_D A ([(h_k, .inr (5, [k_towns, k_night, .ref h_k_reach, .int k_person, .int k_many, .int k_row, .int k_set, .long k_most])), (h_c, .inr (6, [.ref h_c_people, c_hours, c_heardBy, c_heardOf, c_heardAt, c_heardGive, .int c_hour, .int c_gives, .int c_peopleMany, .int c_nearMany, .int c_askedMany, .int c_heardMany, .int c_wentMany])), (h_k_reach, .inl (dA 0, 384, .inl ((upd k_reach_11 (Int32.toNatClampNeg (((6 : Int32) * x3_11) + x4_11)) (minI r21 (1000000 : Int32)))))), (h_c_people, .inl (dA 4, 6, .inr (.inr (.inr (.inr (pref np pa))))))] ++ ppool np pa pk pn pu pw pd pr ps pt) := hD
          refine lv_iinc (v := (x4_11 + (1 : Int32))) (lv' := [(4, .int (x4_11 + (1 : Int32))), (0, .ref h_k), (1, .ref h_c), (2, .int p1), (3, .int x3_11), (5, .int r21)]) hx hb dX6_lay_142 hl (k := 4) rfl (rfl) (by decide) rfl (fun ls hl => ?_)
          refine lv_goto (tgt := 11) hx hb dX6_lay_145 (by decide) ?_
          have hM := Option.some.inj hM
          subst hM
          exact ih (x4_11 + (1 : Int32)) (upd k_reach_11 (Int32.toNatClampNeg (((6 : Int32) * x3_11) + x4_11)) (minI r21 (1000000 : Int32))) _ _ _ _ hN hP hD hS (lv_sub hl [1, 2, 3, 4, 0] rfl) kx0
        · rw [if_pos c20] at hM
          refine lv_aload_n hx hb dX6_lay_48 rfl (lv_at hl 3 rfl) ?_
          refine lv_iload_n hx hb dX6_lay_49 rfl (lv_at hl 4 rfl) ?_
          refine lv_iload hx hb dX6_lay_50 (lv_at hl 6 rfl) ?_
          obtain ⟨r23, er23, hM⟩ := b_inv hM
          refine k_ip [1, 3] (va_runS (As := [.ref h_c, .int p1, .int x4_11]) (rest := []) ⟨hx, hb, hml, hown, hts⟩ (ctX6_apart l D dA _ h_c h_c_people p1 x4_11 c_hour c_gives c_peopleMany c_nearMany c_askedMany c_heardMany c_wentMany np pk pu pw pd pr ps pt (c_hours) (c_heardBy) (c_heardOf) (c_heardAt) (c_heardGive) pa pn hpk r23 er23) (va_cwS 3 hts (lw_S q1148 q1149 q121 q1150) rfl rfl rfl (by decide +kernel) ⟨Nat.le_of_ble_eq_true rfl, Nat.le_of_ble_eq_true rfl⟩) (pre_S (hP.part [1, 3] rfl) hK (hD.part [1, 3] (by decide) rfl)) rfl rfl hl.1 rfl (lv_room (Nat.le_of_ble_eq_true rfl)) dX6_lay_52 ⟨Nat.le_of_ble_eq_true rfl, Nat.le_of_ble_eq_true rfl⟩) hP hD hS hA rfl (fun _ => rfl) (fun u24 H locs hP hD hS => ?_)
          have hP : va_P D clG ([(h_k, .inr (5, [k_towns, k_night, .ref h_k_reach, .int k_person, .int k_many, .int k_row, .int k_set, .long k_most])), (h_c, .inr (6, [.ref h_c_people, c_hours, c_heardBy, c_heardOf, c_heardAt, c_heardGive, .int c_hour, .int c_gives, .int c_peopleMany, .int c_nearMany, .int c_askedMany, .int c_heardMany, .int c_wentMany])), (h_k_reach, .inl (dA 0, 384, .inl (k_reach_11))), (h_c_people, .inl (dA 4, 6, .inr (.inr (.inr (.inr (pref np pa))))))] ++ ppool np pa pk pn pu pw pd pr ps pt) H := hP
          have hD : va_D A ([(h_k, .inr (5, [k_towns, k_night, .ref h_k_reach, .int k_person, .int k_many, .int k_row, .int k_set, .long k_most])), (h_c, .inr (6, [.ref h_c_people, c_hours, c_heardBy, c_heardOf, c_heardAt, c_heardGive, .int c_hour, .int c_gives, .int c_peopleMany, .int c_nearMany, .int c_askedMany, .int c_heardMany, .int c_wentMany])), (h_k_reach, .inl (dA 0, 384, .inl (k_reach_11))), (h_c_people, .inl (dA 4, 6, .inr (.inr (.inr (.inr (pref np pa))))))] ++ ppool np pa pk pn pu pw pd pr ps pt) := hD
          refine lv_istore (lv' := [(5, .int r23), (6, .int y3), (0, .ref h_k), (1, .ref h_c), (2, .int p1), (3, .int x3_11), (4, .int x4_11)]) hx hb dX6_lay_55 hl (by decide) rfl (fun ls hl => ?_)
          refine lv_iconst (v := (0 : Int32)) hx hb dX6_lay_57 (by decide) ?_
          refine lv_istore (lv' := [(7, .int (0 : Int32)), (5, .int r23), (6, .int y3), (0, .ref h_k), (1, .ref h_c), (2, .int p1), (3, .int x3_11), (4, .int x4_11)]) hx hb dX6_lay_58 hl (by decide) rfl (fun ls hl => ?_)
          obtain ⟨r25, er25, hM⟩ := b_inv hM
          refine wX6_lay_60 hx hb hml hown hts hK hA h_k h_c h_k_reach h_c_people p1 k_person k_many k_row k_set k_most c_hour c_gives c_peopleMany c_nearMany c_askedMany c_heardMany c_wentMany k_reach_ np pk pu pw pd pr ps pt k_towns k_night c_hours c_heardBy c_heardOf c_heardAt c_heardGive pa pn hpk x3_11 x4_11 y3 k_reach_11 _ r23 (0 : Int32) _ _ _ _ er25 hP hD hS (lv_sub hl [3, 4, 5, 6, 7, 1, 2, 0] rfl) (fun H locs ls hP hD hS hl => ?_)
          refine lv_aload_n hx hb dX6_lay_123 rfl (lv_at hl 0 rfl) ?_
          refine va_get (D := D) (ci := 5) (v := .ref h_k_reach) (C := RX6) (T := TX6) (N := 8) hx hb hts in_X6 hown hK.1 hP 0 rfl rfl 2 (by decide) (hts _ q332) (fun _ h9 => h9) rfl dX6_lay_124 ?_
          refine lv_bipush (v := (6 : Int32)) hx hb dX6_lay_127 (by decide) ?_
          refine lv_iload_n hx hb dX6_lay_129 rfl (lv_at hl 3 rfl) ?_
          refine lv_imul hx hb dX6_lay_130 ?_
          refine lv_iload hx hb dX6_lay_131 (lv_at hl 4 rfl) ?_
          refine lv_iadd hx hb dX6_lay_133 ?_
          refine lv_iload hx hb dX6_lay_134 (lv_at hl 5 rfl) ?_
          refine lv_ldc (v := (1000000 : Int32)) hx hb hown (hts _ q1146) dX6_lay_136 ?_
          refine va_mmin hx hb (hml.trans hl.1.symm) hown (hts _ q1151) (hts _ q1128) (hts _ q136) (hts _ q1129) (Nat.le_of_ble_eq_true rfl) (Nat.le_of_ble_eq_true rfl) (Nat.le_of_ble_eq_true rfl) (Nat.le_of_ble_eq_true rfl) dX6_lay_138 ?_
          refine lv_toi (v := (minI r25 (1000000 : Int32))) rfl ?_
          obtain ⟨h26, hM⟩ := gi_inv hM
          refine va_iast hx hb hK.1 hP hD hS 2 0 rfl rfl h26 dX6_lay_141 (fun H locs hP hD hS => ?_)
          have hP : va_P D clG ([(h_k, .inr (5, [k_towns, k_night, .ref h_k_reach, .int k_person, .int k_many, .int k_row, .int k_set, .long k_most])), (h_c, .inr (6, [.ref h_c_people, c_hours, c_heardBy, c_heardOf, c_heardAt, c_heardGive, .int c_hour, .int c_gives, .int c_peopleMany, .int c_nearMany, .int c_askedMany, .int c_heardMany, .int c_wentMany])), (h_k_reach, .inl (dA 0, 384, .inl ((upd k_reach_11 (Int32.toNatClampNeg (((6 : Int32) * x3_11) + x4_11)) (minI r25 (1000000 : Int32)))))), (h_c_people, .inl (dA 4, 6, .inr (.inr (.inr (.inr (pref np pa))))))] ++ ppool np pa pk pn pu pw pd pr ps pt) H := hP
          have hD : va_D A ([(h_k, .inr (5, [k_towns, k_night, .ref h_k_reach, .int k_person, .int k_many, .int k_row, .int k_set, .long k_most])), (h_c, .inr (6, [.ref h_c_people, c_hours, c_heardBy, c_heardOf, c_heardAt, c_heardGive, .int c_hour, .int c_gives, .int c_peopleMany, .int c_nearMany, .int c_askedMany, .int c_heardMany, .int c_wentMany])), (h_k_reach, .inl (dA 0, 384, .inl ((upd k_reach_11 (Int32.toNatClampNeg (((6 : Int32) * x3_11) + x4_11)) (minI r25 (1000000 : Int32)))))), (h_c_people, .inl (dA 4, 6, .inr (.inr (.inr (.inr (pref np pa))))))] ++ ppool np pa pk pn pu pw pd pr ps pt) := hD
          refine lv_iinc (v := (x4_11 + (1 : Int32))) (lv' := [(4, .int (x4_11 + (1 : Int32))), (0, .ref h_k), (1, .ref h_c), (2, .int p1), (3, .int x3_11), (5, .int r25)]) hx hb dX6_lay_142 hl (k := 4) rfl (rfl) (by decide) rfl (fun ls hl => ?_)
          refine lv_goto (tgt := 11) hx hb dX6_lay_145 (by decide) ?_
          have hM := Option.some.inj hM
          subst hM
          exact ih (x4_11 + (1 : Int32)) (upd k_reach_11 (Int32.toNatClampNeg (((6 : Int32) * x3_11) + x4_11)) (minI r25 (1000000 : Int32))) _ _ _ _ hN hP hD hS (lv_sub hl [1, 2, 3, 4, 0] rfl) kx0
set_option maxHeartbeats 40000000 in
set_option maxRecDepth 100000 in
theorem wX6_lay_2 {p : Program} {l : Launch} {e : Env} {s : State} {m : MethodId} {args : Array Value} {below : List Frame} {meth : Method} {c : Code} {D : va_G} {dA : Nat → ClassId} {A : Nat → Prop} {Q : State → Prop} (hx : p.tables.exec = Jvm.exec) (hb : c.code = cX6_lay) (hml : c.maxLocals = 8) (hown : s.vm.findClass RX6 = some m.cls) (hts : ∀ w ∈ lw_all, w.before args s = true) (hK : KK D dA s) (hA : ∀ q : Nat, s.heap.size ≤ q → A q) (h_k : Nat) (h_c : Nat) (h_k_reach : Nat) (h_c_people : Nat) (p1 : Int32) (k_person : Int32) (k_many : Int32) (k_row : Int32) (k_set : Int32) (k_most : Int64) (c_hour : Int32) (c_gives : Int32) (c_peopleMany : Int32) (c_nearMany : Int32) (c_askedMany : Int32) (c_heardMany : Int32) (c_wentMany : Int32) (k_reach_ : AI) (np : Nat) (pk : Nat → Nat) (pu : AI) (pw : AI) (pd : AI) (pr : AI) (ps : AI) (pt : AI) (k_towns : Value) (k_night : Value) (c_hours : Value) (c_heardBy : Value) (c_heardOf : Value) (c_heardAt : Value) (c_heardGive : Value) (pa : Nat → Nat) (pn : Nat → Value) (hpk : ∀ k, k < np → pk k < 4) :
    ∀ (k_ : Nat) (x3_2 : Int32) (k_reach_2 : AI) (rx : AI) (H : Heap) (locs : List Loc) (ls : Array Slot), loopN k_ (fun s_ => BX6_lay_2 p1 c_peopleMany np pr s_.1 s_.2) (x3_2, k_reach_2) = some rx → va_P D clG ([(h_k, .inr (5, [k_towns, k_night, .ref h_k_reach, .int k_person, .int k_many, .int k_row, .int k_set, .long k_most])), (h_c, .inr (6, [.ref h_c_people, c_hours, c_heardBy, c_heardOf, c_heardAt, c_heardGive, .int c_hour, .int c_gives, .int c_peopleMany, .int c_nearMany, .int c_askedMany, .int c_heardMany, .int c_wentMany])), (h_k_reach, .inl (dA 0, 384, .inl (k_reach_2))), (h_c_people, .inl (dA 4, 6, .inr (.inr (.inr (.inr (pref np pa))))))] ++ ppool np pa pk pn pu pw pd pr ps pt) H → va_D A ([(h_k, .inr (5, [k_towns, k_night, .ref h_k_reach, .int k_person, .int k_many, .int k_row, .int k_set, .long k_most])), (h_c, .inr (6, [.ref h_c_people, c_hours, c_heardBy, c_heardOf, c_heardAt, c_heardGive, .int c_hour, .int c_gives, .int c_peopleMany, .int c_nearMany, .int c_askedMany, .int c_heardMany, .int c_wentMany])), (h_k_reach, .inl (dA 0, 384, .inl (k_reach_2))), (h_c_people, .inl (dA 4, 6, .inr (.inr (.inr (.inr (pref np pa))))))] ++ ppool np pa pk pn pu pw pd pr ps pt) → va_S A s.heap H locs → lv_has ls 8 [(0, .ref h_k), (1, .ref h_c), (2, .int p1), (3, .int x3_2)] → (∀ (H1 : Heap) (locs1 : List Loc) (ls1 : Array Slot), va_P D clG ([(h_k, .inr (5, [k_towns, k_night, .ref h_k_reach, .int k_person, .int k_many, .int k_row, .int k_set, .long k_most])), (h_c, .inr (6, [.ref h_c_people, c_hours, c_heardBy, c_heardOf, c_heardAt, c_heardGive, .int c_hour, .int c_gives, .int c_peopleMany, .int c_nearMany, .int c_askedMany, .int c_heardMany, .int c_wentMany])), (h_k_reach, .inl (dA 0, 384, .inl (rx))), (h_c_people, .inl (dA 4, 6, .inr (.inr (.inr (.inr (pref np pa))))))] ++ ppool np pa pk pn pu pw pd pr ps pt) H1 → va_D A ([(h_k, .inr (5, [k_towns, k_night, .ref h_k_reach, .int k_person, .int k_many, .int k_row, .int k_set, .long k_most])), (h_c, .inr (6, [.ref h_c_people, c_hours, c_heardBy, c_heardOf, c_heardAt, c_heardGive, .int c_hour, .int c_gives, .int c_peopleMany, .int c_nearMany, .int c_askedMany, .int c_heardMany, .int c_wentMany])), (h_k_reach, .inl (dA 0, 384, .inl (rx))), (h_c_people, .inl (dA 4, 6, .inr (.inr (.inr (.inr (pref np pa))))))] ++ ppool np pa pk pn pu pw pd pr ps pt) → va_S A s.heap H1 locs1 → lv_has ls1 8 [] → W p l e (headSpec (ws_ yX6_lay cX6_lay 8 none) ({ frames := 2, cells := 0, slots := 0, locals := 47 })).room s m args below meth c H1 locs1 0 0 Q (F0 m 154 ls1 [])) → W p l e (headSpec (ws_ yX6_lay cX6_lay 8 none) ({ frames := 2, cells := 0, slots := 0, locals := 47 })).room s m args below meth c H locs 0 0 Q (F0 m 2 ls []) := by
  intro k_
  induction k_ with
  | zero =>
    intro x3_2 k_reach_2 rx H locs ls hN
    cases hN
  | succ k_ ih =>
    intro x3_2 k_reach_2 rx H locs ls hN hP hD hS hl kx0
    obtain ⟨r_, hM, hN⟩ := b_inv hN
    replace hM : BX6_lay_2 p1 c_peopleMany np pr x3_2 k_reach_2 = some r_ := hM
    unfold BX6_lay_2 at hM
    refine lv_iload_n hx hb dX6_lay_2 rfl (lv_at hl 3 rfl) ?_
    refine lv_bipush (v := (64 : Int32)) hx hb dX6_lay_3 (by decide) ?_
    refine lv_icmp_ge (tgt := 154) hx hb dX6_lay_5 (by decide) (fun c1 => ?_) (fun c1 => ?_)
    · rw [if_pos c1] at hM
      have hM := Option.some.inj hM
      subst hM
      have hN := Option.some.inj hN
      subst hN
      exact kx0 _ _ _ hP hD hS (lv_sub hl [] rfl)
    · rw [if_neg c1] at hM
      refine lv_iconst (v := (0 : Int32)) hx hb dX6_lay_8 (by decide) ?_
      refine lv_istore (lv' := [(4, .int (0 : Int32)), (0, .ref h_k), (1, .ref h_c), (2, .int p1), (3, .int x3_2)]) hx hb dX6_lay_9 hl (by decide) rfl (fun ls hl => ?_)
      obtain ⟨r27, er27, hM⟩ := b_inv hM
      refine wX6_lay_11 hx hb hml hown hts hK hA h_k h_c h_k_reach h_c_people p1 k_person k_many k_row k_set k_most c_hour c_gives c_peopleMany c_nearMany c_askedMany c_heardMany c_wentMany k_reach_ np pk pu pw pd pr ps pt k_towns k_night c_hours c_heardBy c_heardOf c_heardAt c_heardGive pa pn hpk x3_2 _ (0 : Int32) k_reach_2 _ _ _ _ er27 hP hD hS (lv_sub hl [1, 2, 3, 4, 0] rfl) (fun H locs ls hP hD hS hl => ?_)
      refine lv_iinc (v := (x3_2 + (1 : Int32))) (lv' := [(3, .int (x3_2 + (1 : Int32))), (0, .ref h_k), (1, .ref h_c), (2, .int p1)]) hx hb dX6_lay_148 hl (k := 3) rfl (rfl) (by decide) rfl (fun ls hl => ?_)
      refine lv_goto (tgt := 2) hx hb dX6_lay_151 (by decide) ?_
      have hM := Option.some.inj hM
      subst hM
      exact ih (x3_2 + (1 : Int32)) r27 _ _ _ _ hN hP hD hS (lv_sub hl [1, 2, 3, 0] rfl) kx0
set_option maxHeartbeats 40000000 in
set_option maxRecDepth 100000 in
theorem ctX6_lay (l : Launch) (D : va_G) (dA : Nat → ClassId) (sz : Nat) (h_k : Nat) (h_c : Nat) (h_k_reach : Nat) (h_c_people : Nat) (p1 : Int32) (k_person : Int32) (k_many : Int32) (k_row : Int32) (k_set : Int32) (k_most : Int64) (c_hour : Int32) (c_gives : Int32) (c_peopleMany : Int32) (c_nearMany : Int32) (c_askedMany : Int32) (c_heardMany : Int32) (c_wentMany : Int32) (k_reach_ : AI) (np : Nat) (pk : Nat → Nat) (pu : AI) (pw : AI) (pd : AI) (pr : AI) (ps : AI) (pt : AI) (k_towns : Value) (k_night : Value) (c_hours : Value) (c_heardBy : Value) (c_heardOf : Value) (c_heardAt : Value) (c_heardGive : Value) (pa : Nat → Nat) (pn : Nat → Value) (hpk : ∀ k, k < np → pk k < 4) (res : AI) (hM : MX6_lay p1 c_peopleMany k_reach_ np pr = some res) : Met l yX6_lay (ws_ yX6_lay cX6_lay 8 none) ({ frames := 2, cells := 0, slots := 0, locals := 47 }) (pre_ D dA [.ref h_k, .ref h_c, .int p1] ([(h_k, .inr (5, [k_towns, k_night, .ref h_k_reach, .int k_person, .int k_many, .int k_row, .int k_set, .long k_most])), (h_c, .inr (6, [.ref h_c_people, c_hours, c_heardBy, c_heardOf, c_heardAt, c_heardGive, .int c_hour, .int c_gives, .int c_peopleMany, .int c_nearMany, .int c_askedMany, .int c_heardMany, .int c_wentMany])), (h_k_reach, .inl (dA 0, 384, .inl (k_reach_))), (h_c_people, .inl (dA 4, 6, .inr (.inr (.inr (.inr (pref np pa))))))] ++ ppool np pa pk pn pu pw pd pr ps pt) sz) (qv_ D (fun (u : Unit) => [(h_k, .inr (5, [k_towns, k_night, .ref h_k_reach, .int k_person, .int k_many, .int k_row, .int k_set, .long k_most])), (h_c, .inr (6, [.ref h_c_people, c_hours, c_heardBy, c_heardOf, c_heardAt, c_heardGive, .int c_hour, .int c_gives, .int c_peopleMany, .int c_nearMany, .int c_askedMany, .int c_heardMany, .int c_wentMany])), (h_k_reach, .inl (dA 0, 384, .inl (res))), (h_c_people, .inl (dA 4, 6, .inr (.inr (.inr (.inr (pref np pa))))))] ++ ppool np pa pk pn pu pw pd pr ps pt) (va_A ([(h_k, .inr (5, [k_towns, k_night, .ref h_k_reach, .int k_person, .int k_many, .int k_row, .int k_set, .long k_most])), (h_c, .inr (6, [.ref h_c_people, c_hours, c_heardBy, c_heardOf, c_heardAt, c_heardGive, .int c_hour, .int c_gives, .int c_peopleMany, .int c_nearMany, .int c_askedMany, .int c_heardMany, .int c_wentMany])), (h_k_reach, .inl (dA 0, 384, .inl (k_reach_))), (h_c_people, .inl (dA 4, 6, .inr (.inr (.inr (.inr (pref np pa))))))] ++ ppool np pa pk pn pu pw pd pr ps pt) sz)) 0 0 (va_A ([(h_k, .inr (5, [k_towns, k_night, .ref h_k_reach, .int k_person, .int k_many, .int k_row, .int k_set, .long k_most])), (h_c, .inr (6, [.ref h_c_people, c_hours, c_heardBy, c_heardOf, c_heardAt, c_heardGive, .int c_hour, .int c_gives, .int c_peopleMany, .int c_nearMany, .int c_askedMany, .int c_heardMany, .int c_wentMany])), (h_k_reach, .inl (dA 0, 384, .inl (k_reach_))), (h_c_people, .inl (dA 4, 6, .inr (.inr (.inr (.inr (pref np pa))))))] ++ ppool np pa pk pn pu pw pd pr ps pt) sz) := by
  refine Met.ofW (cc := cX6_lay) (maxL := 8) (ret := none) (by decide) rfl ?_
  intro p e s m args below meth c s₁ B hml hv
  obtain ⟨rfl, hsz, hP, hK, hD0⟩ := hv
  have hx := B.exec
  have hb := B.bytes
  have hr := B.returns
  have hts := atoms_spec (ws := (ws_ yX6_lay cX6_lay 8 none)) B.pre
  have hts : ∀ w ∈ lw_all, w.before _ s = true := fun w h => hts w (List.mem_cons_of_mem _ h)
  have hown : s.vm.findClass RX6 = some m.cls := findClass_of_methodNamed B.named
  have hlocks := B.notSynchronized
  subst hsz
  have hD := hD0.self (sz := s.heap.size)
  generalize hAe : va_A ([(h_k, .inr (5, [k_towns, k_night, .ref h_k_reach, .int k_person, .int k_many, .int k_row, .int k_set, .long k_most])), (h_c, .inr (6, [.ref h_c_people, c_hours, c_heardBy, c_heardOf, c_heardAt, c_heardGive, .int c_hour, .int c_gives, .int c_peopleMany, .int c_nearMany, .int c_askedMany, .int c_heardMany, .int c_wentMany])), (h_k_reach, .inl (dA 0, 384, .inl (k_reach_))), (h_c_people, .inl (dA 4, 6, .inr (.inr (.inr (.inr (pref np pa))))))] ++ ppool np pa pk pn pu pw pd pr ps pt) s.heap.size = A at hD ⊢
  have hA : ∀ q : Nat, s.heap.size ≤ q → A q := fun q h => by rw [← hAe]; exact Or.inr h
  have hS : va_S A s.heap s.heap [] := va_S.rf
  have hP : va_P D clG ([(h_k, .inr (5, [k_towns, k_night, .ref h_k_reach, .int k_person, .int k_many, .int k_row, .int k_set, .long k_most])), (h_c, .inr (6, [.ref h_c_people, c_hours, c_heardBy, c_heardOf, c_heardAt, c_heardGive, .int c_hour, .int c_gives, .int c_peopleMany, .int c_nearMany, .int c_askedMany, .int c_heardMany, .int c_wentMany])), (h_k_reach, .inl (dA 0, 384, .inl (k_reach_))), (h_c_people, .inl (dA 4, 6, .inr (.inr (.inr (.inr (pref np pa))))))] ++ ppool np pa pk pn pu pw pd pr ps pt) s.heap := hP
  have hl := lv_entry ([.ref h_k, .ref h_c, .int p1]) (n := 8) (Nat.le_of_ble_eq_true rfl)
  rw [lg_entry_eq]
  generalize (lg_sl ([.ref h_k, .ref h_c, .int p1]) ++ List.replicate (8 - (lg_sl ([.ref h_k, .ref h_c, .int p1])).length) Slot.unset).toArray = ls at hl ⊢
  have hl : lv_has ls 8 [(0, .ref h_k), (1, .ref h_c), (2, .int p1)] := hl
  unfold MX6_lay at hM
  refine lv_iconst (v := (0 : Int32)) hx hb dX6_lay_0 (by decide) ?_
  refine lv_istore_n (lv' := [(3, .int (0 : Int32)), (0, .ref h_k), (1, .ref h_c), (2, .int p1)]) hx hb dX6_lay_1 rfl hl (by decide) rfl (fun ls hl => ?_)
  obtain ⟨r28, er28, hM⟩ := b_inv hM
  refine wX6_lay_2 hx hb hml hown hts hK hA h_k h_c h_k_reach h_c_people p1 k_person k_many k_row k_set k_most c_hour c_gives c_peopleMany c_nearMany c_askedMany c_heardMany c_wentMany k_reach_ np pk pu pw pd pr ps pt k_towns k_night c_hours c_heardBy c_heardOf c_heardAt c_heardGive pa pn hpk _ (0 : Int32) k_reach_ _ _ _ _ er28 hP hD hS (lv_sub hl [1, 2, 3, 0] rfl) (fun H locs ls hP hD hS hl => ?_)
  have hM := Option.some.inj hM
  subst hM
  exact W.vret hx hb hr (fun t ht hW => ⟨⟨(), rfl, trivial, by rw [ht]; exact hP, hD⟩, hS.F ht⟩) hS.2.2 dX6_lay_154

set_option maxHeartbeats 40000000 in
set_option maxRecDepth 100000 in
theorem wX6_hours_14 {p : Program} {l : Launch} {e : Env} {s : State} {m : MethodId} {args : Array Value} {below : List Frame} {meth : Method} {c : Code} {D : va_G} {dA : Nat → ClassId} {A : Nat → Prop} {Q : State → Prop} (hx : p.tables.exec = Jvm.exec) (hb : c.code = cX6_hours) (hml : c.maxLocals = 5) (hown : s.vm.findClass RX6 = some m.cls) (hts : ∀ w ∈ lw_all, w.before args s = true) (hK : KK D dA s) (hA : ∀ q : Nat, s.heap.size ≤ q → A q) (h_k : Nat) (h_c : Nat) (h_k_reach : Nat) (p1 : Int32) (k_person : Int32) (k_many : Int32) (k_row : Int32) (k_set : Int32) (k_most : Int64) (c_hour : Int32) (c_gives : Int32) (c_peopleMany : Int32) (c_nearMany : Int32) (c_askedMany : Int32) (c_heardMany : Int32) (c_wentMany : Int32) (k_reach_ : AI) (k_towns : Value) (k_night : Value) (c_people : Value) (c_hours : Value) (c_heardBy : Value) (c_heardOf : Value) (c_heardAt : Value) (c_heardGive : Value) :
    ∀ (k_ : Nat) (x3_14 : Int32) (x4_14 : Int32) (rx : Int32) (H : Heap) (locs : List Loc) (ls : Array Slot), loopN k_ (fun s_ => BX6_hours_14 p1 c_peopleMany k_reach_ s_.1 s_.2) (x3_14, x4_14) = some rx → va_P D clG [(h_k, .inr (5, [k_towns, k_night, .ref h_k_reach, .int k_person, .int k_many, .int k_row, .int k_set, .long k_most])), (h_c, .inr (6, [c_people, c_hours, c_heardBy, c_heardOf, c_heardAt, c_heardGive, .int c_hour, .int c_gives, .int c_peopleMany, .int c_nearMany, .int c_askedMany, .int c_heardMany, .int c_wentMany])), (h_k_reach, .inl (dA 0, 384, .inl (k_reach_)))] H → va_D A [(h_k, .inr (5, [k_towns, k_night, .ref h_k_reach, .int k_person, .int k_many, .int k_row, .int k_set, .long k_most])), (h_c, .inr (6, [c_people, c_hours, c_heardBy, c_heardOf, c_heardAt, c_heardGive, .int c_hour, .int c_gives, .int c_peopleMany, .int c_nearMany, .int c_askedMany, .int c_heardMany, .int c_wentMany])), (h_k_reach, .inl (dA 0, 384, .inl (k_reach_)))] → va_S A s.heap H locs → lv_has ls 5 [(0, .ref h_k), (1, .ref h_c), (2, .int p1), (3, .int x3_14), (4, .int x4_14)] → (∀ (H1 : Heap) (locs1 : List Loc) (ls1 : Array Slot), va_P D clG [(h_k, .inr (5, [k_towns, k_night, .ref h_k_reach, .int k_person, .int k_many, .int k_row, .int k_set, .long k_most])), (h_c, .inr (6, [c_people, c_hours, c_heardBy, c_heardOf, c_heardAt, c_heardGive, .int c_hour, .int c_gives, .int c_peopleMany, .int c_nearMany, .int c_askedMany, .int c_heardMany, .int c_wentMany])), (h_k_reach, .inl (dA 0, 384, .inl (k_reach_)))] H1 → va_D A [(h_k, .inr (5, [k_towns, k_night, .ref h_k_reach, .int k_person, .int k_many, .int k_row, .int k_set, .long k_most])), (h_c, .inr (6, [c_people, c_hours, c_heardBy, c_heardOf, c_heardAt, c_heardGive, .int c_hour, .int c_gives, .int c_peopleMany, .int c_nearMany, .int c_askedMany, .int c_heardMany, .int c_wentMany])), (h_k_reach, .inl (dA 0, 384, .inl (k_reach_)))] → va_S A s.heap H1 locs1 → lv_has ls1 5 [(3, .int rx)] → W p l e (headSpec (ws_ yX6_hours cX6_hours 5 (some .int)) ({ frames := 1, cells := 0, slots := 0, locals := 24 })).room s m args below meth c H1 locs1 0 0 Q (F0 m 60 ls1 [])) → W p l e (headSpec (ws_ yX6_hours cX6_hours 5 (some .int)) ({ frames := 1, cells := 0, slots := 0, locals := 24 })).room s m args below meth c H locs 0 0 Q (F0 m 14 ls []) := by
  intro k_
  induction k_ with
  | zero =>
    intro x3_14 x4_14 rx H locs ls hN
    cases hN
  | succ k_ ih =>
    intro x3_14 x4_14 rx H locs ls hN hP hD hS hl kx0
    obtain ⟨r_, hM, hN⟩ := b_inv hN
    replace hM : BX6_hours_14 p1 c_peopleMany k_reach_ x3_14 x4_14 = some r_ := hM
    unfold BX6_hours_14 at hM
    refine lv_iload hx hb dX6_hours_14 (lv_at hl 4 rfl) ?_
    refine lv_aload_n hx hb dX6_hours_16 rfl (lv_at hl 1 rfl) ?_
    refine va_get (D := D) (ci := 6) (v := .int c_peopleMany) (C := RX8) (T := TX8) (N := 13) hx hb hts in_X8 hown hK.1 hP 1 rfl rfl 8 (by decide) (hts _ q483) (fun _ h9 => h9) rfl dX6_hours_17 ?_
    refine lv_icmp_ge (tgt := 60) hx hb dX6_hours_20 (by decide) (fun c2 => ?_) (fun c2 => ?_)
    · rw [if_pos c2] at hM
      have hM := Option.some.inj hM
      subst hM
      have hN := Option.some.inj hN
      subst hN
      exact kx0 _ _ _ hP hD hS (lv_sub hl [3] rfl)
    · rw [if_neg c2] at hM
      refine lv_iload_n hx hb dX6_hours_23 rfl (lv_at hl 3 rfl) ?_
      refine lv_iload_n hx hb dX6_hours_24 rfl (lv_at hl 2 rfl) ?_
      refine lv_iload hx hb dX6_hours_25 (lv_at hl 4 rfl) ?_
      obtain ⟨r3, er3, hM⟩ := b_inv hM
      refine k_i0 [] (va_runSN (As := [.int p1, .int x4_14]) (rest := [.int x3_14]) ⟨hx, hb, hml, hown, hts⟩ (ctX1_has l D dA _ p1 x4_14 r3 er3) ⟨va_cnB 2 hts (lw_meth q839) rfl rfl rfl (hK.nw 21 rfl) (hts _ q113) (by decide +kernel) ⟨Nat.le_of_ble_eq_true rfl, Nat.le_of_ble_eq_true rfl⟩, hts _ q838, trivial⟩ (pre_S (hP.sub [] rfl) hK (hD.sub [] (by decide) rfl)) rfl rfl hl.1 rfl (lv_room (Nat.le_of_ble_eq_true rfl)) dX6_hours_27 ⟨Nat.le_of_ble_eq_true rfl, Nat.le_of_ble_eq_true rfl⟩) hP hD hS hA rfl (fun _ => rfl) (fun u4 H locs hP hD hS => ?_)
      have hP : va_P D clG [(h_k, .inr (5, [k_towns, k_night, .ref h_k_reach, .int k_person, .int k_many, .int k_row, .int k_set, .long k_most])), (h_c, .inr (6, [c_people, c_hours, c_heardBy, c_heardOf, c_heardAt, c_heardGive, .int c_hour, .int c_gives, .int c_peopleMany, .int c_nearMany, .int c_askedMany, .int c_heardMany, .int c_wentMany])), (h_k_reach, .inl (dA 0, 384, .inl (k_reach_)))] H := hP
      have hD : va_D A [(h_k, .inr (5, [k_towns, k_night, .ref h_k_reach, .int k_person, .int k_many, .int k_row, .int k_set, .long k_most])), (h_c, .inr (6, [c_people, c_hours, c_heardBy, c_heardOf, c_heardAt, c_heardGive, .int c_hour, .int c_gives, .int c_peopleMany, .int c_nearMany, .int c_askedMany, .int c_heardMany, .int c_wentMany])), (h_k_reach, .inl (dA 0, 384, .inl (k_reach_)))] := hD
      refine lv_if_eq (tgt := 48) hx hb dX6_hours_30 (by decide) (fun c5 => ?_) (fun c5 => ?_)
      · rw [if_pos c5] at hM
        refine lv_ldc (v := (1000000 : Int32)) hx hb hown (hts _ q1146) dX6_hours_48 ?_
        refine va_mmin hx hb (hml.trans hl.1.symm) hown (hts _ q1151) (hts _ q1128) (hts _ q136) (hts _ q1129) (Nat.le_of_ble_eq_true rfl) (Nat.le_of_ble_eq_true rfl) (Nat.le_of_ble_eq_true rfl) (Nat.le_of_ble_eq_true rfl) dX6_hours_50 ?_
        refine lv_toi (v := (minI x3_14 (1000000 : Int32))) rfl ?_
        refine lv_istore_n (lv' := [(3, .int (minI x3_14 (1000000 : Int32))), (0, .ref h_k), (1, .ref h_c), (2, .int p1), (4, .int x4_14)]) hx hb dX6_hours_53 rfl hl (by decide) rfl (fun ls hl => ?_)
        refine lv_iinc (v := (x4_14 + (1 : Int32))) (lv' := [(4, .int (x4_14 + (1 : Int32))), (3, .int (minI x3_14 (1000000 : Int32))), (0, .ref h_k), (1, .ref h_c), (2, .int p1)]) hx hb dX6_hours_54 hl (k := 4) rfl (rfl) (by decide) rfl (fun ls hl => ?_)
        refine lv_goto (tgt := 14) hx hb dX6_hours_57 (by decide) ?_
        have hM := Option.some.inj hM
        subst hM
        exact ih (minI x3_14 (1000000 : Int32)) (x4_14 + (1 : Int32)) _ _ _ _ hN hP hD hS (lv_sub hl [2, 3, 4, 1, 0] rfl) kx0
      · rw [if_neg c5] at hM
        refine lv_aload_n hx hb dX6_hours_33 rfl (lv_at hl 0 rfl) ?_
        refine va_get (D := D) (ci := 5) (v := .ref h_k_reach) (C := RX6) (T := TX6) (N := 8) hx hb hts in_X6 hown hK.1 hP 0 rfl rfl 2 (by decide) (hts _ q332) (fun _ h9 => h9) rfl dX6_hours_34 ?_
        refine lv_bipush (v := (6 : Int32)) hx hb dX6_hours_37 (by decide) ?_
        refine lv_iload_n hx hb dX6_hours_39 rfl (lv_at hl 2 rfl) ?_
        refine lv_imul hx hb dX6_hours_40 ?_
        refine lv_iload hx hb dX6_hours_41 (lv_at hl 4 rfl) ?_
        refine lv_iadd hx hb dX6_hours_43 ?_
        obtain ⟨h6, hM⟩ := gi_inv hM
        refine va_iald hx hb hK.1 hP 2 0 rfl rfl h6 dX6_hours_44 ?_
        refine lv_goto (tgt := 50) hx hb dX6_hours_45 (by decide) ?_
        refine va_mmin hx hb (hml.trans hl.1.symm) hown (hts _ q1151) (hts _ q1128) (hts _ q136) (hts _ q1129) (Nat.le_of_ble_eq_true rfl) (Nat.le_of_ble_eq_true rfl) (Nat.le_of_ble_eq_true rfl) (Nat.le_of_ble_eq_true rfl) dX6_hours_50 ?_
        refine lv_toi (v := (minI x3_14 (k_reach_ (Int32.toNatClampNeg (((6 : Int32) * p1) + x4_14))))) rfl ?_
        refine lv_topi (fun y7 ey7 => ?_)
        replace hM := lt_inv ey7 hM
        refine lv_istore_n (lv' := [(3, .int y7), (0, .ref h_k), (1, .ref h_c), (2, .int p1), (4, .int x4_14)]) hx hb dX6_hours_53 rfl hl (by decide) rfl (fun ls hl => ?_)
        refine lv_iinc (v := (x4_14 + (1 : Int32))) (lv' := [(4, .int (x4_14 + (1 : Int32))), (3, .int y7), (0, .ref h_k), (1, .ref h_c), (2, .int p1)]) hx hb dX6_hours_54 hl (k := 4) rfl (rfl) (by decide) rfl (fun ls hl => ?_)
        refine lv_goto (tgt := 14) hx hb dX6_hours_57 (by decide) ?_
        have hM := Option.some.inj hM
        subst hM
        exact ih y7 (x4_14 + (1 : Int32)) _ _ _ _ hN hP hD hS (lv_sub hl [2, 3, 4, 1, 0] rfl) kx0
set_option maxHeartbeats 40000000 in
set_option maxRecDepth 100000 in
theorem ctX6_hours (l : Launch) (D : va_G) (dA : Nat → ClassId) (sz : Nat) (h_k : Nat) (h_c : Nat) (h_k_reach : Nat) (p1 : Int32) (k_person : Int32) (k_many : Int32) (k_row : Int32) (k_set : Int32) (k_most : Int64) (c_hour : Int32) (c_gives : Int32) (c_peopleMany : Int32) (c_nearMany : Int32) (c_askedMany : Int32) (c_heardMany : Int32) (c_wentMany : Int32) (k_reach_ : AI) (k_towns : Value) (k_night : Value) (c_people : Value) (c_hours : Value) (c_heardBy : Value) (c_heardOf : Value) (c_heardAt : Value) (c_heardGive : Value) (res : Int32) (hM : MX6_hours p1 c_peopleMany k_reach_ = some res) : Met l yX6_hours (ws_ yX6_hours cX6_hours 5 (some .int)) ({ frames := 1, cells := 0, slots := 0, locals := 24 }) (pre_ D dA [.ref h_k, .ref h_c, .int p1] [(h_k, .inr (5, [k_towns, k_night, .ref h_k_reach, .int k_person, .int k_many, .int k_row, .int k_set, .long k_most])), (h_c, .inr (6, [c_people, c_hours, c_heardBy, c_heardOf, c_heardAt, c_heardGive, .int c_hour, .int c_gives, .int c_peopleMany, .int c_nearMany, .int c_askedMany, .int c_heardMany, .int c_wentMany])), (h_k_reach, .inl (dA 0, 384, .inl (k_reach_)))] sz) (qi_ D res (fun (u : Unit) => [(h_k, .inr (5, [k_towns, k_night, .ref h_k_reach, .int k_person, .int k_many, .int k_row, .int k_set, .long k_most])), (h_c, .inr (6, [c_people, c_hours, c_heardBy, c_heardOf, c_heardAt, c_heardGive, .int c_hour, .int c_gives, .int c_peopleMany, .int c_nearMany, .int c_askedMany, .int c_heardMany, .int c_wentMany])), (h_k_reach, .inl (dA 0, 384, .inl (k_reach_)))]) (va_A [(h_k, .inr (5, [k_towns, k_night, .ref h_k_reach, .int k_person, .int k_many, .int k_row, .int k_set, .long k_most])), (h_c, .inr (6, [c_people, c_hours, c_heardBy, c_heardOf, c_heardAt, c_heardGive, .int c_hour, .int c_gives, .int c_peopleMany, .int c_nearMany, .int c_askedMany, .int c_heardMany, .int c_wentMany])), (h_k_reach, .inl (dA 0, 384, .inl (k_reach_)))] sz)) 0 0 (va_A [(h_k, .inr (5, [k_towns, k_night, .ref h_k_reach, .int k_person, .int k_many, .int k_row, .int k_set, .long k_most])), (h_c, .inr (6, [c_people, c_hours, c_heardBy, c_heardOf, c_heardAt, c_heardGive, .int c_hour, .int c_gives, .int c_peopleMany, .int c_nearMany, .int c_askedMany, .int c_heardMany, .int c_wentMany])), (h_k_reach, .inl (dA 0, 384, .inl (k_reach_)))] sz) := by
  refine Met.ofW (cc := cX6_hours) (maxL := 5) (ret := (some .int)) (by decide) rfl ?_
  intro p e s m args below meth c s₁ B hml hv
  obtain ⟨rfl, hsz, hP, hK, hD0⟩ := hv
  have hx := B.exec
  have hb := B.bytes
  have hr := B.returns
  have hts := atoms_spec (ws := (ws_ yX6_hours cX6_hours 5 (some .int))) B.pre
  have hts : ∀ w ∈ lw_all, w.before _ s = true := fun w h => hts w (List.mem_cons_of_mem _ h)
  have hown : s.vm.findClass RX6 = some m.cls := findClass_of_methodNamed B.named
  have hlocks := B.notSynchronized
  subst hsz
  have hD := hD0.self (sz := s.heap.size)
  generalize hAe : va_A [(h_k, .inr (5, [k_towns, k_night, .ref h_k_reach, .int k_person, .int k_many, .int k_row, .int k_set, .long k_most])), (h_c, .inr (6, [c_people, c_hours, c_heardBy, c_heardOf, c_heardAt, c_heardGive, .int c_hour, .int c_gives, .int c_peopleMany, .int c_nearMany, .int c_askedMany, .int c_heardMany, .int c_wentMany])), (h_k_reach, .inl (dA 0, 384, .inl (k_reach_)))] s.heap.size = A at hD ⊢
  have hA : ∀ q : Nat, s.heap.size ≤ q → A q := fun q h => by rw [← hAe]; exact Or.inr h
  have hS : va_S A s.heap s.heap [] := va_S.rf
  have hP : va_P D clG [(h_k, .inr (5, [k_towns, k_night, .ref h_k_reach, .int k_person, .int k_many, .int k_row, .int k_set, .long k_most])), (h_c, .inr (6, [c_people, c_hours, c_heardBy, c_heardOf, c_heardAt, c_heardGive, .int c_hour, .int c_gives, .int c_peopleMany, .int c_nearMany, .int c_askedMany, .int c_heardMany, .int c_wentMany])), (h_k_reach, .inl (dA 0, 384, .inl (k_reach_)))] s.heap := hP
  have hl := lv_entry ([.ref h_k, .ref h_c, .int p1]) (n := 5) (Nat.le_of_ble_eq_true rfl)
  rw [lg_entry_eq]
  generalize (lg_sl ([.ref h_k, .ref h_c, .int p1]) ++ List.replicate (5 - (lg_sl ([.ref h_k, .ref h_c, .int p1])).length) Slot.unset).toArray = ls at hl ⊢
  have hl : lv_has ls 5 [(0, .ref h_k), (1, .ref h_c), (2, .int p1)] := hl
  unfold MX6_hours at hM
  refine lv_iload_n hx hb dX6_hours_0 rfl (lv_at hl 2 rfl) ?_
  refine lv_if_ne (tgt := 8) hx hb dX6_hours_1 (by decide) (fun c1 => ?_) (fun c1 => ?_)
  · rw [if_neg c1] at hM
    refine lv_ldc (v := (1000000 : Int32)) hx hb hown (hts _ q1146) dX6_hours_8 ?_
    refine lv_istore_n (lv' := [(3, .int (1000000 : Int32)), (0, .ref h_k), (1, .ref h_c), (2, .int p1)]) hx hb dX6_hours_10 rfl hl (by decide) rfl (fun ls hl => ?_)
    refine lv_iconst (v := (0 : Int32)) hx hb dX6_hours_11 (by decide) ?_
    refine lv_istore (lv' := [(4, .int (0 : Int32)), (3, .int (1000000 : Int32)), (0, .ref h_k), (1, .ref h_c), (2, .int p1)]) hx hb dX6_hours_12 hl (by decide) rfl (fun ls hl => ?_)
    obtain ⟨r8, er8, hM⟩ := b_inv hM
    refine wX6_hours_14 hx hb hml hown hts hK hA h_k h_c h_k_reach p1 k_person k_many k_row k_set k_most c_hour c_gives c_peopleMany c_nearMany c_askedMany c_heardMany c_wentMany k_reach_ k_towns k_night c_people c_hours c_heardBy c_heardOf c_heardAt c_heardGive _ (1000000 : Int32) (0 : Int32) _ _ _ _ er8 hP hD hS (lv_sub hl [2, 3, 4, 1, 0] rfl) (fun H locs ls hP hD hS hl => ?_)
    refine lv_iload_n hx hb dX6_hours_60 rfl (lv_at hl 0 rfl) ?_
    have hM := Option.some.inj hM
    subst hM
    exact W.iret (v := r8) hx hb hr (fun t ht hW => ⟨⟨r8, (), rfl, rfl, by rw [ht]; exact hP, hD⟩, hS.F ht⟩) hS.2.2 dX6_hours_61
  · rw [if_pos c1] at hM
    refine lv_iconst (v := (0 : Int32)) hx hb dX6_hours_4 (by decide) ?_
    refine lv_goto (tgt := 10) hx hb dX6_hours_5 (by decide) ?_
    refine lv_istore_n (lv' := [(3, .int (0 : Int32)), (0, .ref h_k), (1, .ref h_c), (2, .int p1)]) hx hb dX6_hours_10 rfl hl (by decide) rfl (fun ls hl => ?_)
    refine lv_iconst (v := (0 : Int32)) hx hb dX6_hours_11 (by decide) ?_
    refine lv_istore (lv' := [(4, .int (0 : Int32)), (3, .int (0 : Int32)), (0, .ref h_k), (1, .ref h_c), (2, .int p1)]) hx hb dX6_hours_12 hl (by decide) rfl (fun ls hl => ?_)
    obtain ⟨r9, er9, hM⟩ := b_inv hM
    refine wX6_hours_14 hx hb hml hown hts hK hA h_k h_c h_k_reach p1 k_person k_many k_row k_set k_most c_hour c_gives c_peopleMany c_nearMany c_askedMany c_heardMany c_wentMany k_reach_ k_towns k_night c_people c_hours c_heardBy c_heardOf c_heardAt c_heardGive _ (0 : Int32) (0 : Int32) _ _ _ _ er9 hP hD hS (lv_sub hl [2, 3, 4, 1, 0] rfl) (fun H locs ls hP hD hS hl => ?_)
    refine lv_iload_n hx hb dX6_hours_60 rfl (lv_at hl 0 rfl) ?_
    have hM := Option.some.inj hM
    subst hM
    exact W.iret (v := r9) hx hb hr (fun t ht hW => ⟨⟨r9, (), rfl, rfl, by rw [ht]; exact hP, hD⟩, hS.F ht⟩) hS.2.2 dX6_hours_61
