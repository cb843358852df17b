set_option maxRecDepth 100000
set_option maxHeartbeats 40000000 in
set_option maxRecDepth 100000 in
theorem ctX1_planWhy (l : Launch) (D : va_G) (dA : Nat → ClassId) (sz : Nat) (h_o : Nat) (h_c : Nat) (h_o_town : Nat) (p0 : Int32) (p1 : Bool) (o_taped : Int32) (o_trouble : Int32) (o_fault : Int32) (o_where : Int32) (o_imageMany : Int32) (o_undoMany : Int32) (o_firstRest : Int32) (o_catAt : Int32) (c_hour : Int32) (c_gives : Int32) (c_peopleMany : Int32) (c_nearMany : Int32) (c_askedMany : Int32) (c_heardMany : Int32) (c_wentMany : Int32) (o_town_living : Int32) (o_town_hour : Int32) (o_town_cat : Int32) (o_town_nights : Int32) (o_town_seed : Int32) (o_tape : Value) (o_scanner : Value) (o_was : Value) (o_trial : Value) (o_night : Value) (o_plans : Value) (o_undone : Value) (o_images : Value) (o_often : Value) (o_next : Value) (c_people : Value) (c_hours : Value) (c_heardBy : Value) (c_heardOf : Value) (c_heardAt : Value) (c_heardGive : Value) (o_town_has : Value) (o_town_hours : Value) (o_town_city : Value) (res : Int32) (hM : MX1_planWhy p0 p1 c_peopleMany o_town_living = some res) : Met l yX1_planWhy (ws_ yX1_planWhy cX1_planWhy 3 (some .int)) ({ frames := 2, cells := 0, slots := 0, locals := 43 }) (pre_ D dA [.ref h_o, .int p0, .int (b2i p1)] [(h_o, .inr (0, [o_tape, .int o_taped, o_scanner, .ref h_c, .int o_trouble, .int o_fault, .int o_where, .int o_imageMany, .int o_undoMany, .ref h_o_town, o_was, o_trial, o_night, o_plans, o_undone, o_images, o_often, .int o_firstRest, o_next, .int o_catAt])), (h_c, .inr (6, [c_people, c_hours, c_heardBy, c_heardOf, c_heardAt, c_heardGive, .int c_hour, .int c_gives, .int c_peopleMany, .int c_nearMany, .int c_askedMany, .int c_heardMany, .int c_wentMany])), (h_o_town, .inr (3, [o_town_has, o_town_hours, o_town_city, .int o_town_living, .int o_town_hour, .int o_town_cat, .int o_town_nights, .int o_town_seed]))] sz) (qi_ D res (fun (u : Unit) => [(h_o, .inr (0, [o_tape, .int o_taped, o_scanner, .ref h_c, .int o_trouble, .int o_fault, .int o_where, .int o_imageMany, .int o_undoMany, .ref h_o_town, o_was, o_trial, o_night, o_plans, o_undone, o_images, o_often, .int o_firstRest, o_next, .int o_catAt])), (h_c, .inr (6, [c_people, c_hours, c_heardBy, c_heardOf, c_heardAt, c_heardGive, .int c_hour, .int c_gives, .int c_peopleMany, .int c_nearMany, .int c_askedMany, .int c_heardMany, .int c_wentMany])), (h_o_town, .inr (3, [o_town_has, o_town_hours, o_town_city, .int o_town_living, .int o_town_hour, .int o_town_cat, .int o_town_nights, .int o_town_seed]))]) (va_A [(h_o, .inr (0, [o_tape, .int o_taped, o_scanner, .ref h_c, .int o_trouble, .int o_fault, .int o_where, .int o_imageMany, .int o_undoMany, .ref h_o_town, o_was, o_trial, o_night, o_plans, o_undone, o_images, o_often, .int o_firstRest, o_next, .int o_catAt])), (h_c, .inr (6, [c_people, c_hours, c_heardBy, c_heardOf, c_heardAt, c_heardGive, .int c_hour, .int c_gives, .int c_peopleMany, .int c_nearMany, .int c_askedMany, .int c_heardMany, .int c_wentMany])), (h_o_town, .inr (3, [o_town_has, o_town_hours, o_town_city, .int o_town_living, .int o_town_hour, .int o_town_cat, .int o_town_nights, .int o_town_seed]))] sz)) 0 0 (va_A [(h_o, .inr (0, [o_tape, .int o_taped, o_scanner, .ref h_c, .int o_trouble, .int o_fault, .int o_where, .int o_imageMany, .int o_undoMany, .ref h_o_town, o_was, o_trial, o_night, o_plans, o_undone, o_images, o_often, .int o_firstRest, o_next, .int o_catAt])), (h_c, .inr (6, [c_people, c_hours, c_heardBy, c_heardOf, c_heardAt, c_heardGive, .int c_hour, .int c_gives, .int c_peopleMany, .int c_nearMany, .int c_askedMany, .int c_heardMany, .int c_wentMany])), (h_o_town, .inr (3, [o_town_has, o_town_hours, o_town_city, .int o_town_living, .int o_town_hour, .int o_town_cat, .int o_town_nights, .int o_town_seed]))] sz) := by
  refine Met.ofW (cc := cX1_planWhy) (maxL := 3) (ret := (some .int)) (by decide) rfl ?_
  intro p e s m args below meth c s₁ B hml hv
  obtain ⟨rfl, hsz, hP, hK, hD0⟩ := hv
  have hx := B.exec
  have hb := B.bytes
  have hr := B.returns
  have hts := atoms_spec (ws := (ws_ yX1_planWhy cX1_planWhy 3 (some .int))) B.pre
  have hts : ∀ w ∈ lw_all, w.before _ s = true := fun w h => hts w (List.mem_cons_of_mem _ h)
  have hown : s.vm.findClass RX1 = some m.cls := findClass_of_methodNamed B.named
  have hlocks := B.notSynchronized
  subst hsz
  have hD := hD0.self (sz := s.heap.size)
  generalize hAe : va_A [(h_o, .inr (0, [o_tape, .int o_taped, o_scanner, .ref h_c, .int o_trouble, .int o_fault, .int o_where, .int o_imageMany, .int o_undoMany, .ref h_o_town, o_was, o_trial, o_night, o_plans, o_undone, o_images, o_often, .int o_firstRest, o_next, .int o_catAt])), (h_c, .inr (6, [c_people, c_hours, c_heardBy, c_heardOf, c_heardAt, c_heardGive, .int c_hour, .int c_gives, .int c_peopleMany, .int c_nearMany, .int c_askedMany, .int c_heardMany, .int c_wentMany])), (h_o_town, .inr (3, [o_town_has, o_town_hours, o_town_city, .int o_town_living, .int o_town_hour, .int o_town_cat, .int o_town_nights, .int o_town_seed]))] s.heap.size = A at hD ⊢
  have hA : ∀ q : Nat, s.heap.size ≤ q → A q := fun q h => by rw [← hAe]; exact Or.inr h
  have hS : va_S A s.heap s.heap [] := va_S.rf
  have hP : va_P D clG [(h_o, .inr (0, [o_tape, .int o_taped, o_scanner, .ref h_c, .int o_trouble, .int o_fault, .int o_where, .int o_imageMany, .int o_undoMany, .ref h_o_town, o_was, o_trial, o_night, o_plans, o_undone, o_images, o_often, .int o_firstRest, o_next, .int o_catAt])), (h_c, .inr (6, [c_people, c_hours, c_heardBy, c_heardOf, c_heardAt, c_heardGive, .int c_hour, .int c_gives, .int c_peopleMany, .int c_nearMany, .int c_askedMany, .int c_heardMany, .int c_wentMany])), (h_o_town, .inr (3, [o_town_has, o_town_hours, o_town_city, .int o_town_living, .int o_town_hour, .int o_town_cat, .int o_town_nights, .int o_town_seed]))] s.heap := hP
  have hl := lv_entry ([.ref h_o, .int p0, .int (b2i p1)]) (n := 3) (Nat.le_of_ble_eq_true rfl)
  rw [lg_entry_eq]
  generalize (lg_sl ([.ref h_o, .int p0, .int (b2i p1)]) ++ List.replicate (3 - (lg_sl ([.ref h_o, .int p0, .int (b2i p1)])).length) Slot.unset).toArray = ls at hl ⊢
  have hl : lv_has ls 3 [(0, .ref h_o), (1, .int p0), (2, .int (b2i p1))] := hl
  unfold MX1_planWhy at hM
  refine lv_aload_n hx hb dX1_planWhy_0 rfl (lv_at hl 0 rfl) ?_
  refine lv_iload_n hx hb dX1_planWhy_1 rfl (lv_at hl 1 rfl) ?_
  obtain ⟨r1, er1, hM⟩ := b_inv hM
  refine k_i0 [0, 1] (va_runV (As := [.int p0]) (rest := []) ⟨hx, hb, hml, hown, hts⟩ (ctX1_isPerson l D dA _ h_o h_c p0 o_taped o_trouble o_fault o_where o_imageMany o_undoMany o_firstRest o_catAt c_hour c_gives c_peopleMany c_nearMany c_askedMany c_heardMany c_wentMany (o_tape) (o_scanner) (.ref h_o_town) (o_was) (o_trial) (o_night) (o_plans) (o_undone) (o_images) (o_often) (o_next) (c_people) (c_hours) (c_heardBy) (c_heardOf) (c_heardAt) (c_heardGive) r1 er1) (cwV 1 hts (lw_V q913 q915 qs24 q113 q916) rfl rfl rfl (by decide +kernel) ⟨Nat.le_of_ble_eq_true rfl, Nat.le_of_ble_eq_true rfl⟩) (pre_V (hP.sub [0, 1] rfl) hK (hD.sub [0, 1] (by decide) rfl) (ci := 0) (q0 := 0) rfl rfl) rfl rfl hl.1 rfl (lv_room (Nat.le_of_ble_eq_true rfl)) dX1_planWhy_2 ⟨Nat.le_of_ble_eq_true rfl, Nat.le_of_ble_eq_true rfl⟩) hP hD hS hA rfl (fun _ => rfl) (fun u2 H locs hP hD hS => ?_)
  have hP : va_P D clG [(h_o, .inr (0, [o_tape, .int o_taped, o_scanner, .ref h_c, .int o_trouble, .int o_fault, .int o_where, .int o_imageMany, .int o_undoMany, .ref h_o_town, o_was, o_trial, o_night, o_plans, o_undone, o_images, o_often, .int o_firstRest, o_next, .int o_catAt])), (h_c, .inr (6, [c_people, c_hours, c_heardBy, c_heardOf, c_heardAt, c_heardGive, .int c_hour, .int c_gives, .int c_peopleMany, .int c_nearMany, .int c_askedMany, .int c_heardMany, .int c_wentMany])), (h_o_town, .inr (3, [o_town_has, o_town_hours, o_town_city, .int o_town_living, .int o_town_hour, .int o_town_cat, .int o_town_nights, .int o_town_seed]))] H := hP
  have hD : va_D A [(h_o, .inr (0, [o_tape, .int o_taped, o_scanner, .ref h_c, .int o_trouble, .int o_fault, .int o_where, .int o_imageMany, .int o_undoMany, .ref h_o_town, o_was, o_trial, o_night, o_plans, o_undone, o_images, o_often, .int o_firstRest, o_next, .int o_catAt])), (h_c, .inr (6, [c_people, c_hours, c_heardBy, c_heardOf, c_heardAt, c_heardGive, .int c_hour, .int c_gives, .int c_peopleMany, .int c_nearMany, .int c_askedMany, .int c_heardMany, .int c_wentMany])), (h_o_town, .inr (3, [o_town_has, o_town_hours, o_town_city, .int o_town_living, .int o_town_hour, .int o_town_cat, .int o_town_nights, .int o_town_seed]))] := hD
  refine lv_if_ne (tgt := 12) hx hb dX1_planWhy_5 (by decide) (fun c3 => ?_) (fun c3 => ?_)
  · rw [if_neg c3] at hM
    refine lv_iload_n hx hb dX1_planWhy_12 rfl (lv_at hl 2 rfl) ?_
    refine lv_if_ne (tgt := 20) hx hb dX1_planWhy_13 (by decide) (fun c4 => ?_) (fun c4 => ?_)
    · rw [if_neg c4] at hM
      refine lv_aload_n hx hb dX1_planWhy_20 rfl (lv_at hl 0 rfl) ?_
      refine va_get (D := D) (ci := 0) (v := .ref h_o_town) (C := RX1) (T := TX1) (N := 20) hx hb hts in_X1 hown hK.1 hP 0 rfl rfl 9 (by decide) (hts _ q367) (fun _ h9 => h9) rfl dX1_planWhy_21 ?_
      refine lv_iload_n hx hb dX1_planWhy_24 rfl (lv_at hl 1 rfl) ?_
      obtain ⟨r5, er5, hM⟩ := b_inv hM
      refine k_i0 [2] (va_runV (As := [.int p0]) (rest := []) ⟨hx, hb, hml, hown, hts⟩ (ctX4_isLiving l D dA _ h_o_town p0 o_town_living o_town_hour o_town_cat o_town_nights o_town_seed (o_town_has) (o_town_hours) (o_town_city) r5 er5) (cwV 1 hts (lw_V q934 q935 q936 q119 q937) rfl rfl rfl (by decide +kernel) ⟨Nat.le_of_ble_eq_true rfl, Nat.le_of_ble_eq_true rfl⟩) (pre_V (hP.sub [2] rfl) hK (hD.sub [2] (by decide) rfl) (ci := 3) (q0 := 0) rfl rfl) rfl rfl hl.1 rfl (lv_room (Nat.le_of_ble_eq_true rfl)) dX1_planWhy_25 ⟨Nat.le_of_ble_eq_true rfl, Nat.le_of_ble_eq_true rfl⟩) hP hD hS hA rfl (fun _ => rfl) (fun u6 H locs hP hD hS => ?_)
      have hP : va_P D clG [(h_o, .inr (0, [o_tape, .int o_taped, o_scanner, .ref h_c, .int o_trouble, .int o_fault, .int o_where, .int o_imageMany, .int o_undoMany, .ref h_o_town, o_was, o_trial, o_night, o_plans, o_undone, o_images, o_often, .int o_firstRest, o_next, .int o_catAt])), (h_c, .inr (6, [c_people, c_hours, c_heardBy, c_heardOf, c_heardAt, c_heardGive, .int c_hour, .int c_gives, .int c_peopleMany, .int c_nearMany, .int c_askedMany, .int c_heardMany, .int c_wentMany])), (h_o_town, .inr (3, [o_town_has, o_town_hours, o_town_city, .int o_town_living, .int o_town_hour, .int o_town_cat, .int o_town_nights, .int o_town_seed]))] H := hP
      have hD : va_D A [(h_o, .inr (0, [o_tape, .int o_taped, o_scanner, .ref h_c, .int o_trouble, .int o_fault, .int o_where, .int o_imageMany, .int o_undoMany, .ref h_o_town, o_was, o_trial, o_night, o_plans, o_undone, o_images, o_often, .int o_firstRest, o_next, .int o_catAt])), (h_c, .inr (6, [c_people, c_hours, c_heardBy, c_heardOf, c_heardAt, c_heardGive, .int c_hour, .int c_gives, .int c_peopleMany, .int c_nearMany, .int c_askedMany, .int c_heardMany, .int c_wentMany])), (h_o_town, .inr (3, [o_town_has, o_town_hours, o_town_city, .int o_town_living, .int o_town_hour, .int o_town_cat, .int o_town_nights, .int o_town_seed]))] := hD
      refine lv_if_eq (tgt := 35) hx hb dX1_planWhy_28 (by decide) (fun c7 => ?_) (fun c7 => ?_)
      · rw [if_pos c7] at hM
        refine lv_iconst (v := (5 : Int32)) hx hb dX1_planWhy_35 (by decide) ?_
        have hM := Option.some.inj hM
        subst hM
        exact W.iret (v := (5 : Int32)) hx hb hr (fun t ht hW => ⟨⟨(5 : Int32), (), rfl, rfl, by rw [ht]; exact hP, hD⟩, hS.F ht⟩) hS.2.2 dX1_planWhy_36
      · rw [if_neg c7] at hM
        refine lv_iconst (v := (0 : Int32)) hx hb dX1_planWhy_31 (by decide) ?_
        refine lv_goto (tgt := 36) hx hb dX1_planWhy_32 (by decide) ?_
        have hM := Option.some.inj hM
        subst hM
        exact W.iret (v := (0 : Int32)) hx hb hr (fun t ht hW => ⟨⟨(0 : Int32), (), rfl, rfl, by rw [ht]; exact hP, hD⟩, hS.F ht⟩) hS.2.2 dX1_planWhy_36
    · rw [if_pos c4] at hM
      refine lv_iconst (v := (2 : Int32)) hx hb dX1_planWhy_16 (by decide) ?_
      refine lv_goto (tgt := 36) hx hb dX1_planWhy_17 (by decide) ?_
      have hM := Option.some.inj hM
      subst hM
      exact W.iret (v := (2 : Int32)) hx hb hr (fun t ht hW => ⟨⟨(2 : Int32), (), rfl, rfl, by rw [ht]; exact hP, hD⟩, hS.F ht⟩) hS.2.2 dX1_planWhy_36
  · rw [if_pos c3] at hM
    refine lv_iconst (v := (1 : Int32)) hx hb dX1_planWhy_8 (by decide) ?_
    refine lv_goto (tgt := 36) hx hb dX1_planWhy_9 (by decide) ?_
    have hM := Option.some.inj hM
    subst hM
    exact W.iret (v := (1 : Int32)) hx hb hr (fun t ht hW => ⟨⟨(1 : Int32), (), rfl, rfl, by rw [ht]; exact hP, hD⟩, hS.F ht⟩) hS.2.2 dX1_planWhy_36

set_option maxHeartbeats 40000000 in
set_option maxRecDepth 100000 in
theorem ctX4_asks (l : Launch) (D : va_G) (dA : Nat → ClassId) (sz : Nat) (h_t : Nat) (h_c : Nat) (h_t_has : Nat) (h_t_hours : Nat) (p0 : Int32) (p1 : Int32) (t_living : Int32) (t_hour : Int32) (t_cat : Int32) (t_nights : Int32) (t_seed : Int32) (c_hour : Int32) (c_gives : Int32) (c_peopleMany : Int32) (c_nearMany : Int32) (c_askedMany : Int32) (c_heardMany : Int32) (c_wentMany : Int32) (t_has_ : AI) (t_hours_ : AI) (c_people : Value) (c_hours : Value) (c_heardBy : Value) (c_heardOf : Value) (c_heardAt : Value) (c_heardGive : Value) (res : (Int32 × Int32 × AI × AI)) (hM : MX4_asks p0 p1 t_hour c_gives t_has_ t_hours_ = some res) : Met l yX4_asks (ws_ yX4_asks cX4_asks 4 (some .int)) ({ frames := 1, cells := 0, slots := 0, locals := 24 }) (pre_ D dA [.ref h_t, .int p0, .int p1] [(h_t, .inr (3, [.ref h_t_has, .ref h_t_hours, .ref h_c, .int t_living, .int t_hour, .int t_cat, .int t_nights, .int t_seed])), (h_c, .inr (6, [c_people, c_hours, c_heardBy, c_heardOf, c_heardAt, c_heardGive, .int c_hour, .int c_gives, .int c_peopleMany, .int c_nearMany, .int c_askedMany, .int c_heardMany, .int c_wentMany])), (h_t_has, .inl (dA 0, 6, .inl (t_has_))), (h_t_hours, .inl (dA 0, 36, .inl (t_hours_)))] sz) (qi_ D res.1 (fun (u : Unit) => [(h_t, .inr (3, [.ref h_t_has, .ref h_t_hours, .ref h_c, .int t_living, .int res.2.1, .int t_cat, .int t_nights, .int t_seed])), (h_c, .inr (6, [c_people, c_hours, c_heardBy, c_heardOf, c_heardAt, c_heardGive, .int c_hour, .int c_gives, .int c_peopleMany, .int c_nearMany, .int c_askedMany, .int c_heardMany, .int c_wentMany])), (h_t_has, .inl (dA 0, 6, .inl (res.2.2.1))), (h_t_hours, .inl (dA 0, 36, .inl (res.2.2.2)))]) (va_A [(h_t, .inr (3, [.ref h_t_has, .ref h_t_hours, .ref h_c, .int t_living, .int t_hour, .int t_cat, .int t_nights, .int t_seed])), (h_c, .inr (6, [c_people, c_hours, c_heardBy, c_heardOf, c_heardAt, c_heardGive, .int c_hour, .int c_gives, .int c_peopleMany, .int c_nearMany, .int c_askedMany, .int c_heardMany, .int c_wentMany])), (h_t_has, .inl (dA 0, 6, .inl (t_has_))), (h_t_hours, .inl (dA 0, 36, .inl (t_hours_)))] sz)) 0 0 (va_A [(h_t, .inr (3, [.ref h_t_has, .ref h_t_hours, .ref h_c, .int t_living, .int t_hour, .int t_cat, .int t_nights, .int t_seed])), (h_c, .inr (6, [c_people, c_hours, c_heardBy, c_heardOf, c_heardAt, c_heardGive, .int c_hour, .int c_gives, .int c_peopleMany, .int c_nearMany, .int c_askedMany, .int c_heardMany, .int c_wentMany])), (h_t_has, .inl (dA 0, 6, .inl (t_has_))), (h_t_hours, .inl (dA 0, 36, .inl (t_hours_)))] sz) := by
  refine Met.ofW (cc := cX4_asks) (maxL := 4) (ret := (some .int)) (by decide) rfl ?_
  intro p e s m args below meth c s₁ B hml hv
  obtain ⟨rfl, hsz, hP, hK, hD0⟩ := hv
  have hx := B.exec
  have hb := B.bytes
  have hr := B.returns
  have hts := atoms_spec (ws := (ws_ yX4_asks cX4_asks 4 (some .int))) B.pre
  have hts : ∀ w ∈ lw_all, w.before _ s = true := fun w h => hts w (List.mem_cons_of_mem _ h)
  have hown : s.vm.findClass RX4 = some m.cls := findClass_of_methodNamed B.named
  have hlocks := B.notSynchronized
  subst hsz
  have hD := hD0.self (sz := s.heap.size)
  generalize hAe : va_A [(h_t, .inr (3, [.ref h_t_has, .ref h_t_hours, .ref h_c, .int t_living, .int t_hour, .int t_cat, .int t_nights, .int t_seed])), (h_c, .inr (6, [c_people, c_hours, c_heardBy, c_heardOf, c_heardAt, c_heardGive, .int c_hour, .int c_gives, .int c_peopleMany, .int c_nearMany, .int c_askedMany, .int c_heardMany, .int c_wentMany])), (h_t_has, .inl (dA 0, 6, .inl (t_has_))), (h_t_hours, .inl (dA 0, 36, .inl (t_hours_)))] s.heap.size = A at hD ⊢
  have hA : ∀ q : Nat, s.heap.size ≤ q → A q := fun q h => by rw [← hAe]; exact Or.inr h
  have hS : va_S A s.heap s.heap [] := va_S.rf
  have hP : va_P D clG [(h_t, .inr (3, [.ref h_t_has, .ref h_t_hours, .ref h_c, .int t_living, .int t_hour, .int t_cat, .int t_nights, .int t_seed])), (h_c, .inr (6, [c_people, c_hours, c_heardBy, c_heardOf, c_heardAt, c_heardGive, .int c_hour, .int c_gives, .int c_peopleMany, .int c_nearMany, .int c_askedMany, .int c_heardMany, .int c_wentMany])), (h_t_has, .inl (dA 0, 6, .inl (t_has_))), (h_t_hours, .inl (dA 0, 36, .inl (t_hours_)))] s.heap := hP
  have hl := lv_entry ([.ref h_t, .int p0, .int p1]) (n := 4) (Nat.le_of_ble_eq_true rfl)
  rw [lg_entry_eq]
  generalize (lg_sl ([.ref h_t, .int p0, .int p1]) ++ List.replicate (4 - (lg_sl ([.ref h_t, .int p0, .int p1])).length) Slot.unset).toArray = ls at hl ⊢
  have hl : lv_has ls 4 [(0, .ref h_t), (1, .int p0), (2, .int p1)] := hl
  unfold MX4_asks at hM
  refine lv_aload_n hx hb dX4_asks_0 rfl (lv_at hl 0 rfl) ?_
  refine va_get (D := D) (ci := 3) (v := .ref h_c) (C := RX4) (T := TX4) (N := 8) hx hb hts in_X4 hown hK.1 hP 0 rfl rfl 2 (by decide) (hts _ q272) (fun _ h9 => h9) rfl dX4_asks_1 ?_
  refine va_get (D := D) (ci := 6) (v := .int c_gives) (C := RX8) (T := TX8) (N := 13) hx hb hts in_X8 hown hK.1 hP 1 rfl rfl 7 (by decide) (hts _ q477) (fun _ h9 => h9) rfl dX4_asks_4 ?_
  refine lv_aload_n hx hb dX4_asks_7 rfl (lv_at hl 0 rfl) ?_
  refine va_get (D := D) (ci := 3) (v := .ref h_t_has) (C := RX4) (T := TX4) (N := 8) hx hb hts in_X4 hown hK.1 hP 0 rfl rfl 0 (by decide) (hts _ q267) (fun _ h9 => h9) rfl dX4_asks_8 ?_
  refine lv_iload_n hx hb dX4_asks_11 rfl (lv_at hl 2 rfl) ?_
  obtain ⟨h1, hM⟩ := gi_inv hM
  refine va_iald hx hb hK.1 hP 2 0 rfl rfl h1 dX4_asks_12 ?_
  refine va_mmin hx hb (hml.trans hl.1.symm) hown (hts _ q1127) (hts _ q1128) (hts _ q136) (hts _ q1129) (Nat.le_of_ble_eq_true rfl) (Nat.le_of_ble_eq_true rfl) (Nat.le_of_ble_eq_true rfl) (Nat.le_of_ble_eq_true rfl) dX4_asks_13 ?_
  refine lv_toi (v := (minI c_gives (t_has_ (Int32.toNatClampNeg p1)))) rfl ?_
  refine lv_istore_n (lv' := [(3, .int (minI c_gives (t_has_ (Int32.toNatClampNeg p1)))), (0, .ref h_t), (1, .int p0), (2, .int p1)]) hx hb dX4_asks_16 rfl hl (by decide) rfl (fun ls hl => ?_)
  refine lv_aload_n hx hb dX4_asks_17 rfl (lv_at hl 1 rfl) ?_
  refine lv_dup hx hb dX4_asks_18 rfl ?_
  refine va_get (D := D) (ci := 3) (v := .int t_hour) (C := RX4) (T := TX4) (N := 8) hx hb hts in_X4 hown hK.1 hP 0 rfl rfl 4 (by decide) (hts _ q278) (fun _ h9 => h9) rfl dX4_asks_19 ?_
  refine lv_iconst (v := (1 : Int32)) hx hb dX4_asks_22 (by decide) ?_
  refine lv_iadd hx hb dX4_asks_23 ?_
  refine va_put (D := D) (ci := 3) (v := .int (t_hour + (1 : Int32))) (ty := .int) (C := RX4) (T := TX4) (N := 8) hx hb hts in_X4 tyX4 tyX4_ok nmX4 hown hK.1 hP hD hS 0 rfl rfl 4 (by decide) (hts _ q278) (fun _ h9 => h9) rfl (by decide +kernel) rfl rfl (Nat.le_of_ble_eq_true rfl) dX4_asks_24 (fun H locs hP hD hS => ?_)
  have hP : va_P D clG [(h_t, .inr (3, [.ref h_t_has, .ref h_t_hours, .ref h_c, .int t_living, .int (t_hour + (1 : Int32)), .int t_cat, .int t_nights, .int t_seed])), (h_c, .inr (6, [c_people, c_hours, c_heardBy, c_heardOf, c_heardAt, c_heardGive, .int c_hour, .int c_gives, .int c_peopleMany, .int c_nearMany, .int c_askedMany, .int c_heardMany, .int c_wentMany])), (h_t_has, .inl (dA 0, 6, .inl (t_has_))), (h_t_hours, .inl (dA 0, 36, .inl (t_hours_)))] H := hP
  have hD : va_D A [(h_t, .inr (3, [.ref h_t_has, .ref h_t_hours, .ref h_c, .int t_living, .int (t_hour + (1 : Int32)), .int t_cat, .int t_nights, .int t_seed])), (h_c, .inr (6, [c_people, c_hours, c_heardBy, c_heardOf, c_heardAt, c_heardGive, .int c_hour, .int c_gives, .int c_peopleMany, .int c_nearMany, .int c_askedMany, .int c_heardMany, .int c_wentMany])), (h_t_has, .inl (dA 0, 6, .inl (t_has_))), (h_t_hours, .inl (dA 0, 36, .inl (t_hours_)))] := hD
  refine lv_aload_n hx hb dX4_asks_27 rfl (lv_at hl 1 rfl) ?_
  refine va_get (D := D) (ci := 3) (v := .ref h_t_hours) (C := RX4) (T := TX4) (N := 8) hx hb hts in_X4 hown hK.1 hP 0 rfl rfl 1 (by decide) (hts _ q270) (fun _ h9 => h9) rfl dX4_asks_28 ?_
  refine lv_bipush (v := (6 : Int32)) hx hb dX4_asks_31 (by decide) ?_
  refine lv_iload_n hx hb dX4_asks_33 rfl (lv_at hl 2 rfl) ?_
  refine lv_imul hx hb dX4_asks_34 ?_
  refine lv_iload_n hx hb dX4_asks_35 rfl (lv_at hl 3 rfl) ?_
  refine lv_iadd hx hb dX4_asks_36 ?_
  refine lv_aload_n hx hb dX4_asks_37 rfl (lv_at hl 1 rfl) ?_
  refine va_get (D := D) (ci := 3) (v := .int (t_hour + (1 : Int32))) (C := RX4) (T := TX4) (N := 8) hx hb hts in_X4 hown hK.1 hP 0 rfl rfl 4 (by decide) (hts _ q278) (fun _ h9 => h9) rfl dX4_asks_38 ?_
  obtain ⟨h2, hM⟩ := gi_inv hM
  refine va_iast hx hb hK.1 hP hD hS 3 0 rfl rfl h2 dX4_asks_41 (fun H locs hP hD hS => ?_)
  have hP : va_P D clG [(h_t, .inr (3, [.ref h_t_has, .ref h_t_hours, .ref h_c, .int t_living, .int (t_hour + (1 : Int32)), .int t_cat, .int t_nights, .int t_seed])), (h_c, .inr (6, [c_people, c_hours, c_heardBy, c_heardOf, c_heardAt, c_heardGive, .int c_hour, .int c_gives, .int c_peopleMany, .int c_nearMany, .int c_askedMany, .int c_heardMany, .int c_wentMany])), (h_t_has, .inl (dA 0, 6, .inl (t_has_))), (h_t_hours, .inl (dA 0, 36, .inl ((upd t_hours_ (Int32.toNatClampNeg (((6 : Int32) * p0) + p1)) (t_hour + (1 : Int32))))))] H := hP
  have hD : va_D A [(h_t, .inr (3, [.ref h_t_has, .ref h_t_hours, .ref h_c, .int t_living, .int (t_hour + (1 : Int32)), .int t_cat, .int t_nights, .int t_seed])), (h_c, .inr (6, [c_people, c_hours, c_heardBy, c_heardOf, c_heardAt, c_heardGive, .int c_hour, .int c_gives, .int c_peopleMany, .int c_nearMany, .int c_askedMany, .int c_heardMany, .int c_wentMany])), (h_t_has, .inl (dA 0, 6, .inl (t_has_))), (h_t_hours, .inl (dA 0, 36, .inl ((upd t_hours_ (Int32.toNatClampNeg (((6 : Int32) * p0) + p1)) (t_hour + (1 : Int32))))))] := hD
  refine lv_aload_n hx hb dX4_asks_42 rfl (lv_at hl 1 rfl) ?_
  refine va_get (D := D) (ci := 3) (v := .ref h_t_has) (C := RX4) (T := TX4) (N := 8) hx hb hts in_X4 hown hK.1 hP 0 rfl rfl 0 (by decide) (hts _ q267) (fun _ h9 => h9) rfl dX4_asks_43 ?_
  refine lv_iload_n hx hb dX4_asks_46 rfl (lv_at hl 3 rfl) ?_
  refine lv_dup2_11 hx hb dX4_asks_47 rfl rfl ?_
  obtain ⟨h3, hM⟩ := gi_inv hM
  refine va_iald hx hb hK.1 hP 2 0 rfl rfl h3 dX4_asks_48 ?_
  refine lv_iload_n hx hb dX4_asks_49 rfl (lv_at hl 0 rfl) ?_
  refine lv_isub hx hb dX4_asks_50 ?_
  obtain ⟨h4, hM⟩ := gi_inv hM
  refine lv_topi (fun y5 ey5 => ?_)
  replace hM := lt_inv ey5 hM
  refine va_iast hx hb hK.1 hP hD hS 2 0 rfl rfl h4 dX4_asks_51 (fun H locs hP hD hS => ?_)
  have hP : va_P D clG [(h_t, .inr (3, [.ref h_t_has, .ref h_t_hours, .ref h_c, .int t_living, .int (t_hour + (1 : Int32)), .int t_cat, .int t_nights, .int t_seed])), (h_c, .inr (6, [c_people, c_hours, c_heardBy, c_heardOf, c_heardAt, c_heardGive, .int c_hour, .int c_gives, .int c_peopleMany, .int c_nearMany, .int c_askedMany, .int c_heardMany, .int c_wentMany])), (h_t_has, .inl (dA 0, 6, .inl ((upd t_has_ (Int32.toNatClampNeg p1) y5)))), (h_t_hours, .inl (dA 0, 36, .inl ((upd t_hours_ (Int32.toNatClampNeg (((6 : Int32) * p0) + p1)) (t_hour + (1 : Int32))))))] H := hP
  have hD : va_D A [(h_t, .inr (3, [.ref h_t_has, .ref h_t_hours, .ref h_c, .int t_living, .int (t_hour + (1 : Int32)), .int t_cat, .int t_nights, .int t_seed])), (h_c, .inr (6, [c_people, c_hours, c_heardBy, c_heardOf, c_heardAt, c_heardGive, .int c_hour, .int c_gives, .int c_peopleMany, .int c_nearMany, .int c_askedMany, .int c_heardMany, .int c_wentMany])), (h_t_has, .inl (dA 0, 6, .inl ((upd t_has_ (Int32.toNatClampNeg p1) y5)))), (h_t_hours, .inl (dA 0, 36, .inl ((upd t_hours_ (Int32.toNatClampNeg (((6 : Int32) * p0) + p1)) (t_hour + (1 : Int32))))))] := hD
  refine lv_aload_n hx hb dX4_asks_52 rfl (lv_at hl 1 rfl) ?_
  refine va_get (D := D) (ci := 3) (v := .ref h_t_has) (C := RX4) (T := TX4) (N := 8) hx hb hts in_X4 hown hK.1 hP 0 rfl rfl 0 (by decide) (hts _ q267) (fun _ h9 => h9) rfl dX4_asks_53 ?_
  refine lv_iload_n hx hb dX4_asks_56 rfl (lv_at hl 2 rfl) ?_
  refine lv_dup2_11 hx hb dX4_asks_57 rfl rfl ?_
  obtain ⟨h6, hM⟩ := gi_inv hM
  refine va_iald hx hb hK.1 hP 2 0 rfl rfl h6 dX4_asks_58 ?_
  refine lv_iload_n hx hb dX4_asks_59 rfl (lv_at hl 0 rfl) ?_
  refine lv_iadd hx hb dX4_asks_60 ?_
  obtain ⟨h7, hM⟩ := gi_inv hM
  refine lv_topi (fun y8 ey8 => ?_)
  replace hM := lt_inv ey8 hM
  refine va_iast hx hb hK.1 hP hD hS 2 0 rfl rfl h7 dX4_asks_61 (fun H locs hP hD hS => ?_)
  have hP : va_P D clG [(h_t, .inr (3, [.ref h_t_has, .ref h_t_hours, .ref h_c, .int t_living, .int (t_hour + (1 : Int32)), .int t_cat, .int t_nights, .int t_seed])), (h_c, .inr (6, [c_people, c_hours, c_heardBy, c_heardOf, c_heardAt, c_heardGive, .int c_hour, .int c_gives, .int c_peopleMany, .int c_nearMany, .int c_askedMany, .int c_heardMany, .int c_wentMany])), (h_t_has, .inl (dA 0, 6, .inl ((upd (upd t_has_ (Int32.toNatClampNeg p1) y5) (Int32.toNatClampNeg p0) y8)))), (h_t_hours, .inl (dA 0, 36, .inl ((upd t_hours_ (Int32.toNatClampNeg (((6 : Int32) * p0) + p1)) (t_hour + (1 : Int32))))))] H := hP
  have hD : va_D A [(h_t, .inr (3, [.ref h_t_has, .ref h_t_hours, .ref h_c, .int t_living, .int (t_hour + (1 : Int32)), .int t_cat, .int t_nights, .int t_seed])), (h_c, .inr (6, [c_people, c_hours, c_heardBy, c_heardOf, c_heardAt, c_heardGive, .int c_hour, .int c_gives, .int c_peopleMany, .int c_nearMany, .int c_askedMany, .int c_heardMany, .int c_wentMany])), (h_t_has, .inl (dA 0, 6, .inl ((upd (upd t_has_ (Int32.toNatClampNeg p1) y5) (Int32.toNatClampNeg p0) y8)))), (h_t_hours, .inl (dA 0, 36, .inl ((upd t_hours_ (Int32.toNatClampNeg (((6 : Int32) * p0) + p1)) (t_hour + (1 : Int32))))))] := hD
  refine lv_iload_n hx hb dX4_asks_62 rfl (lv_at hl 0 rfl) ?_
  have hM := Option.some.inj hM
  subst hM
  exact W.iret (v := (minI c_gives (t_has_ (Int32.toNatClampNeg p1)))) hx hb hr (fun t ht hW => ⟨⟨(minI c_gives (t_has_ (Int32.toNatClampNeg p1))), (), rfl, rfl, by rw [ht]; exact hP, hD⟩, hS.F ht⟩) hS.2.2 dX4_asks_63
