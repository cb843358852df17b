set_option maxRecDepth 100000
set_option maxHeartbeats 40000000 in
set_option maxRecDepth 100000 in
theorem ctX1_richestN (l : Launch) (D : va_G) (dA : Nat → ClassId) (sz : Nat) (h_o : Nat) (o_taped : Int32) (o_trouble : Int32) (o_fault : Int32) (o_where : Int32) (o_imageMany : Int32) (o_undoMany : Int32) (o_firstRest : Int32) (o_catAt : Int32) (o_tape : Value) (o_scanner : Value) (o_town : Value) (o_was : Value) (o_trial : Value) (o_night : Value) (o_plans : Value) (o_undone : Value) (o_images : Value) (o_often : Value) (o_next : Value) (res : (Int32 × Int32 × Int32)) (hM : MX1_richestN  = some res) : Met l yX1_richest (ws_ yX1_richest cX1_richest 3 (some .int)) ({ frames := 1, cells := 0, slots := 0, locals := 21 }) (pre_ D dA [.ref h_o] [(h_o, .inr (0, [o_tape, .int o_taped, o_scanner, .null, .int o_trouble, .int o_fault, .int o_where, .int o_imageMany, .int o_undoMany, o_town, o_was, o_trial, o_night, o_plans, o_undone, o_images, o_often, .int o_firstRest, o_next, .int o_catAt]))] sz) (qi_ D res.1 (fun (u : Unit) => [(h_o, .inr (0, [o_tape, .int o_taped, o_scanner, .null, .int res.2.1, .int o_fault, .int res.2.2, .int o_imageMany, .int o_undoMany, o_town, o_was, o_trial, o_night, o_plans, o_undone, o_images, o_often, .int o_firstRest, o_next, .int o_catAt]))]) (va_A [(h_o, .inr (0, [o_tape, .int o_taped, o_scanner, .null, .int o_trouble, .int o_fault, .int o_where, .int o_imageMany, .int o_undoMany, o_town, o_was, o_trial, o_night, o_plans, o_undone, o_images, o_often, .int o_firstRest, o_next, .int o_catAt]))] sz)) 0 0 (va_A [(h_o, .inr (0, [o_tape, .int o_taped, o_scanner, .null, .int o_trouble, .int o_fault, .int o_where, .int o_imageMany, .int o_undoMany, o_town, o_was, o_trial, o_night, o_plans, o_undone, o_images, o_often, .int o_firstRest, o_next, .int o_catAt]))] sz) := by
  refine Met.ofW (cc := cX1_richest) (maxL := 3) (ret := (some .int)) (by decide) rfl ?_
  intro p e s m args below meth c s₁ B hml hv
  obtain ⟨rfl, hsz, hP, hK, hD0⟩ := hv
  have hx := B.exec
  have hb := B.bytes
  have hr := B.returns
  have hts := atoms_spec (ws := (ws_ yX1_richest cX1_richest 3 (some .int))) B.pre
  have hts : ∀ w ∈ lw_all, w.before _ s = true := fun w h => hts w (List.mem_cons_of_mem _ h)
  have hown : s.vm.findClass RX1 = some m.cls := findClass_of_methodNamed B.named
  have hlocks := B.notSynchronized
  subst hsz
  have hD := hD0.self (sz := s.heap.size)
  generalize hAe : va_A [(h_o, .inr (0, [o_tape, .int o_taped, o_scanner, .null, .int o_trouble, .int o_fault, .int o_where, .int o_imageMany, .int o_undoMany, o_town, o_was, o_trial, o_night, o_plans, o_undone, o_images, o_often, .int o_firstRest, o_next, .int o_catAt]))] s.heap.size = A at hD ⊢
  have hA : ∀ q : Nat, s.heap.size ≤ q → A q := fun q h => by rw [← hAe]; exact Or.inr h
  have hS : va_S A s.heap s.heap [] := va_S.rf
  have hP : va_P D clG [(h_o, .inr (0, [o_tape, .int o_taped, o_scanner, .null, .int o_trouble, .int o_fault, .int o_where, .int o_imageMany, .int o_undoMany, o_town, o_was, o_trial, o_night, o_plans, o_undone, o_images, o_often, .int o_firstRest, o_next, .int o_catAt]))] s.heap := hP
  have hl := lv_entry ([.ref h_o]) (n := 3) (Nat.le_of_ble_eq_true rfl)
  rw [lg_entry_eq]
  generalize (lg_sl ([.ref h_o]) ++ List.replicate (3 - (lg_sl ([.ref h_o])).length) Slot.unset).toArray = ls at hl ⊢
  have hl : lv_has ls 3 [(0, .ref h_o)] := hl
  unfold MX1_richestN at hM
  refine lv_aload_n hx hb dX1_richest_0 rfl (lv_at hl 0 rfl) ?_
  obtain ⟨r1, er1, hM⟩ := b_inv hM
  refine k_v0 [0] (va_runV (As := []) (rest := []) ⟨hx, hb, hml, hown, hts⟩ (ctX1_anew l D dA _ h_o o_taped o_trouble o_fault o_where o_imageMany o_undoMany o_firstRest o_catAt (o_tape) (o_scanner) (.null) (o_town) (o_was) (o_trial) (o_night) (o_plans) (o_undone) (o_images) (o_often) (o_next) r1 er1) (cwV 0 hts (lw_V q432 q434 qs2 q113 q435) rfl rfl rfl (by decide +kernel) ⟨Nat.le_of_ble_eq_true rfl, Nat.le_of_ble_eq_true rfl⟩) (pre_V (hP.sub [0] rfl) hK (hD.sub [0] (by decide) rfl) (ci := 0) (q0 := 0) rfl rfl) rfl rfl hl.1 rfl (lv_room (Nat.le_of_ble_eq_true rfl)) dX1_richest_1 ⟨Nat.le_of_ble_eq_true rfl, Nat.le_of_ble_eq_true rfl⟩) hP hD hS hA rfl (fun _ => rfl) (fun u2 H locs hP hD hS => ?_)
  have hP : va_P D clG [(h_o, .inr (0, [o_tape, .int o_taped, o_scanner, .null, .int r1.1, .int o_fault, .int r1.2, .int o_imageMany, .int o_undoMany, o_town, o_was, o_trial, o_night, o_plans, o_undone, o_images, o_often, .int o_firstRest, o_next, .int o_catAt]))] H := hP
  have hD : va_D A [(h_o, .inr (0, [o_tape, .int o_taped, o_scanner, .null, .int r1.1, .int o_fault, .int r1.2, .int o_imageMany, .int o_undoMany, o_town, o_was, o_trial, o_night, o_plans, o_undone, o_images, o_often, .int o_firstRest, o_next, .int o_catAt]))] := hD
  refine lv_aload_n hx hb dX1_richest_4 rfl (lv_at hl 0 rfl) ?_
  refine va_get (D := D) (ci := 0) (v := .null) (C := RX1) (T := TX1) (N := 20) hx hb hts in_X1 hown hK.1 hP 0 rfl rfl 3 (by decide) (hts _ q361) (fun _ h9 => h9) rfl dX1_richest_5 ?_
  refine lv_ifnonnullN hx hb dX1_richest_8 ?_
  refine lv_aload_n hx hb dX1_richest_11 rfl (lv_at hl 0 rfl) ?_
  refine lv_iconst (v := (1 : Int32)) hx hb dX1_richest_12 (by decide) ?_
  obtain ⟨r3, er3, hM⟩ := b_inv hM
  refine k_i0 [0] (va_runV (As := [.int (1 : Int32)]) (rest := []) ⟨hx, hb, hml, hown, hts⟩ (ctX1_no l D dA _ h_o (1 : Int32) o_taped r1.1 o_fault r1.2 o_imageMany o_undoMany o_firstRest o_catAt (o_tape) (o_scanner) (.null) (o_town) (o_was) (o_trial) (o_night) (o_plans) (o_undone) (o_images) (o_often) (o_next) r3 er3) (cwV 1 hts (lw_V q439 q441 qs3 q113 q442) rfl rfl rfl (by decide +kernel) ⟨Nat.le_of_ble_eq_true rfl, Nat.le_of_ble_eq_true rfl⟩) (pre_V (hP.sub [0] rfl) hK (hD.sub [0] (by decide) rfl) (ci := 0) (q0 := 0) rfl rfl) rfl rfl hl.1 rfl (lv_room (Nat.le_of_ble_eq_true rfl)) dX1_richest_13 ⟨Nat.le_of_ble_eq_true rfl, Nat.le_of_ble_eq_true rfl⟩) hP hD hS hA rfl (fun _ => rfl) (fun u4 H locs hP hD hS => ?_)
  have hP : va_P D clG [(h_o, .inr (0, [o_tape, .int o_taped, o_scanner, .null, .int r3.2, .int o_fault, .int r1.2, .int o_imageMany, .int o_undoMany, o_town, o_was, o_trial, o_night, o_plans, o_undone, o_images, o_often, .int o_firstRest, o_next, .int o_catAt]))] H := hP
  have hD : va_D A [(h_o, .inr (0, [o_tape, .int o_taped, o_scanner, .null, .int r3.2, .int o_fault, .int r1.2, .int o_imageMany, .int o_undoMany, o_town, o_was, o_trial, o_night, o_plans, o_undone, o_images, o_often, .int o_firstRest, o_next, .int o_catAt]))] := hD
  have hM := Option.some.inj hM
  subst hM
  exact W.iret (v := r3.1) hx hb hr (fun t ht hW => ⟨⟨r3.1, (), rfl, rfl, by rw [ht]; exact hP, hD⟩, hS.F ht⟩) hS.2.2 dX1_richest_16

set_option maxHeartbeats 40000000 in
set_option maxRecDepth 100000 in
theorem ctX7_richestN (l : Launch) (D : va_G) (dA : Nat → ClassId) (sz : Nat) (h_m : Nat) (m_thrown : Int32) (m_trouble : Int32) (m_where : Int32) (m_taped : Int32) (m_size : Int32) (m_spot : Int32) (m_sort : Int32) (m_place : Int32) (m_number : Int32) (m_fault : Int32) (m_wrongAt : Int32) (m_word : Int64) (m_askedOf : Int32) (m_acts : Int32) (m_images : Int32) (m_catGets : Int32) (m_whole : Int64) (m_bestSum : Int64) (m_tourHoursNow : Int32) (m_fitsNow : Int32) (m_foundHour : Int32) (m_lookLeft : Int32) (m_firstCatNow : Int32) (m_read : Value) (m_tape : Value) (m_v : Value) (m_x : Value) (m_past : Value) (m_kept : Value) (m_heir : Value) (m_then : Value) (m_come : Value) (m_comeThen : Value) (m_hour : Value) (m_partIn : Value) (m_heirIn : Value) (res : (Int32 × Int32 × Int32 × Int32)) (hM : MX7_richestN  = some res) : Met l yX7_richest (ws_ yX7_richest cX7_richest 3 (some .int)) ({ frames := 1, cells := 0, slots := 0, locals := 21 }) (pre_ D dA [.ref h_m] [(h_m, .inr (11, [.int m_thrown, .int m_trouble, .int m_where, .null, m_read, m_tape, .int m_taped, .int m_size, .int m_spot, .int m_sort, .int m_place, .int m_number, .int m_fault, .int m_wrongAt, .long m_word, .int m_askedOf, m_v, m_x, m_past, m_kept, .int m_acts, .int m_images, m_heir, m_then, .int m_catGets, .long m_whole, .long m_bestSum, m_come, m_comeThen, .int m_tourHoursNow, m_hour, m_partIn, m_heirIn, .int m_fitsNow, .int m_foundHour, .int m_lookLeft, .int m_firstCatNow]))] sz) (qi_ D res.1 (fun (u : Unit) => [(h_m, .inr (11, [.int res.2.1, .int res.2.2.1, .int res.2.2.2, .null, m_read, m_tape, .int m_taped, .int m_size, .int m_spot, .int m_sort, .int m_place, .int m_number, .int m_fault, .int m_wrongAt, .long m_word, .int m_askedOf, m_v, m_x, m_past, m_kept, .int m_acts, .int m_images, m_heir, m_then, .int m_catGets, .long m_whole, .long m_bestSum, m_come, m_comeThen, .int m_tourHoursNow, m_hour, m_partIn, m_heirIn, .int m_fitsNow, .int m_foundHour, .int m_lookLeft, .int m_firstCatNow]))]) (va_A [(h_m, .inr (11, [.int m_thrown, .int m_trouble, .int m_where, .null, m_read, m_tape, .int m_taped, .int m_size, .int m_spot, .int m_sort, .int m_place, .int m_number, .int m_fault, .int m_wrongAt, .long m_word, .int m_askedOf, m_v, m_x, m_past, m_kept, .int m_acts, .int m_images, m_heir, m_then, .int m_catGets, .long m_whole, .long m_bestSum, m_come, m_comeThen, .int m_tourHoursNow, m_hour, m_partIn, m_heirIn, .int m_fitsNow, .int m_foundHour, .int m_lookLeft, .int m_firstCatNow]))] sz)) 0 0 (va_A [(h_m, .inr (11, [.int m_thrown, .int m_trouble, .int m_where, .null, m_read, m_tape, .int m_taped, .int m_size, .int m_spot, .int m_sort, .int m_place, .int m_number, .int m_fault, .int m_wrongAt, .long m_word, .int m_askedOf, m_v, m_x, m_past, m_kept, .int m_acts, .int m_images, m_heir, m_then, .int m_catGets, .long m_whole, .long m_bestSum, m_come, m_comeThen, .int m_tourHoursNow, m_hour, m_partIn, m_heirIn, .int m_fitsNow, .int m_foundHour, .int m_lookLeft, .int m_firstCatNow]))] sz) := by
  refine Met.ofW (cc := cX7_richest) (maxL := 3) (ret := (some .int)) (by decide) rfl ?_
  intro p e s m args below meth c s₁ B hml hv
  obtain ⟨rfl, hsz, hP, hK, hD0⟩ := hv
  have hx := B.exec
  have hb := B.bytes
  have hr := B.returns
  have hts := atoms_spec (ws := (ws_ yX7_richest cX7_richest 3 (some .int))) B.pre
  have hts : ∀ w ∈ lw_all, w.before _ s = true := fun w h => hts w (List.mem_cons_of_mem _ h)
  have hown : s.vm.findClass RX7 = some m.cls := findClass_of_methodNamed B.named
  have hlocks := B.notSynchronized
  subst hsz
  have hD := hD0.self (sz := s.heap.size)
  generalize hAe : va_A [(h_m, .inr (11, [.int m_thrown, .int m_trouble, .int m_where, .null, m_read, m_tape, .int m_taped, .int m_size, .int m_spot, .int m_sort, .int m_place, .int m_number, .int m_fault, .int m_wrongAt, .long m_word, .int m_askedOf, m_v, m_x, m_past, m_kept, .int m_acts, .int m_images, m_heir, m_then, .int m_catGets, .long m_whole, .long m_bestSum, m_come, m_comeThen, .int m_tourHoursNow, m_hour, m_partIn, m_heirIn, .int m_fitsNow, .int m_foundHour, .int m_lookLeft, .int m_firstCatNow]))] s.heap.size = A at hD ⊢
  have hA : ∀ q : Nat, s.heap.size ≤ q → A q := fun q h => by rw [← hAe]; exact Or.inr h
  have hS : va_S A s.heap s.heap [] := va_S.rf
  have hP : va_P D clG [(h_m, .inr (11, [.int m_thrown, .int m_trouble, .int m_where, .null, m_read, m_tape, .int m_taped, .int m_size, .int m_spot, .int m_sort, .int m_place, .int m_number, .int m_fault, .int m_wrongAt, .long m_word, .int m_askedOf, m_v, m_x, m_past, m_kept, .int m_acts, .int m_images, m_heir, m_then, .int m_catGets, .long m_whole, .long m_bestSum, m_come, m_comeThen, .int m_tourHoursNow, m_hour, m_partIn, m_heirIn, .int m_fitsNow, .int m_foundHour, .int m_lookLeft, .int m_firstCatNow]))] s.heap := hP
  have hl := lv_entry ([.ref h_m]) (n := 3) (Nat.le_of_ble_eq_true rfl)
  rw [lg_entry_eq]
  generalize (lg_sl ([.ref h_m]) ++ List.replicate (3 - (lg_sl ([.ref h_m])).length) Slot.unset).toArray = ls at hl ⊢
  have hl : lv_has ls 3 [(0, .ref h_m)] := hl
  unfold MX7_richestN at hM
  refine lv_aload_n hx hb dX7_richest_0 rfl (lv_at hl 0 rfl) ?_
  refine lv_iconst (v := (0 : Int32)) hx hb dX7_richest_1 (by decide) ?_
  refine va_put (D := D) (ci := 11) (v := .int (0 : Int32)) (ty := .int) (C := RX7) (T := TX7) (N := 37) hx hb hts in_X7 tyX7 tyX7_ok nmX7 hown hK.1 hP hD hS 0 rfl rfl 0 (by decide) (hts _ q1372) (fun _ h9 => h9) rfl (by decide +kernel) rfl rfl (Nat.le_of_ble_eq_true rfl) dX7_richest_2 (fun H locs hP hD hS => ?_)
  have hP : va_P D clG [(h_m, .inr (11, [.int (0 : Int32), .int m_trouble, .int m_where, .null, m_read, m_tape, .int m_taped, .int m_size, .int m_spot, .int m_sort, .int m_place, .int m_number, .int m_fault, .int m_wrongAt, .long m_word, .int m_askedOf, m_v, m_x, m_past, m_kept, .int m_acts, .int m_images, m_heir, m_then, .int m_catGets, .long m_whole, .long m_bestSum, m_come, m_comeThen, .int m_tourHoursNow, m_hour, m_partIn, m_heirIn, .int m_fitsNow, .int m_foundHour, .int m_lookLeft, .int m_firstCatNow]))] H := hP
  have hD : va_D A [(h_m, .inr (11, [.int (0 : Int32), .int m_trouble, .int m_where, .null, m_read, m_tape, .int m_taped, .int m_size, .int m_spot, .int m_sort, .int m_place, .int m_number, .int m_fault, .int m_wrongAt, .long m_word, .int m_askedOf, m_v, m_x, m_past, m_kept, .int m_acts, .int m_images, m_heir, m_then, .int m_catGets, .long m_whole, .long m_bestSum, m_come, m_comeThen, .int m_tourHoursNow, m_hour, m_partIn, m_heirIn, .int m_fitsNow, .int m_foundHour, .int m_lookLeft, .int m_firstCatNow]))] := hD
  refine lv_aload_n hx hb dX7_richest_5 rfl (lv_at hl 0 rfl) ?_
  refine va_get (D := D) (ci := 11) (v := .null) (C := RX7) (T := TX7) (N := 37) hx hb hts in_X7 hown hK.1 hP 0 rfl rfl 3 (by decide) (hts _ q1375) (fun _ h9 => h9) rfl dX7_richest_6 ?_
  refine lv_ifnonnullN hx hb dX7_richest_9 ?_
  refine lv_aload_n hx hb dX7_richest_12 rfl (lv_at hl 0 rfl) ?_
  refine lv_iconst (v := (1 : Int32)) hx hb dX7_richest_13 (by decide) ?_
  obtain ⟨r1, er1, hM⟩ := b_inv hM
  refine k_i0 [0] (va_runV (As := [.int (1 : Int32)]) (rest := []) ⟨hx, hb, hml, hown, hts⟩ (ctX7_refused l D dA _ h_m (1 : Int32) (0 : Int32) m_trouble m_where m_taped m_size m_spot m_sort m_place m_number m_fault m_wrongAt m_word m_askedOf m_acts m_images m_catGets m_whole m_bestSum m_tourHoursNow m_fitsNow m_foundHour m_lookLeft m_firstCatNow (.null) (m_read) (m_tape) (m_v) (m_x) (m_past) (m_kept) (m_heir) (m_then) (m_come) (m_comeThen) (m_hour) (m_partIn) (m_heirIn) r1 er1) (cwV 1 hts (lw_V q1496 q1498 qs50 q122 q1499) rfl rfl rfl (by decide +kernel) ⟨Nat.le_of_ble_eq_true rfl, Nat.le_of_ble_eq_true rfl⟩) (pre_V (hP.sub [0] rfl) hK (hD.sub [0] (by decide) rfl) (ci := 11) (q0 := 0) rfl rfl) rfl rfl hl.1 rfl (lv_room (Nat.le_of_ble_eq_true rfl)) dX7_richest_14 ⟨Nat.le_of_ble_eq_true rfl, Nat.le_of_ble_eq_true rfl⟩) hP hD hS hA rfl (fun _ => rfl) (fun u2 H locs hP hD hS => ?_)
  have hP : va_P D clG [(h_m, .inr (11, [.int (0 : Int32), .int r1.2.1, .int r1.2.2, .null, m_read, m_tape, .int m_taped, .int m_size, .int m_spot, .int m_sort, .int m_place, .int m_number, .int m_fault, .int m_wrongAt, .long m_word, .int m_askedOf, m_v, m_x, m_past, m_kept, .int m_acts, .int m_images, m_heir, m_then, .int m_catGets, .long m_whole, .long m_bestSum, m_come, m_comeThen, .int m_tourHoursNow, m_hour, m_partIn, m_heirIn, .int m_fitsNow, .int m_foundHour, .int m_lookLeft, .int m_firstCatNow]))] H := hP
  have hD : va_D A [(h_m, .inr (11, [.int (0 : Int32), .int r1.2.1, .int r1.2.2, .null, m_read, m_tape, .int m_taped, .int m_size, .int m_spot, .int m_sort, .int m_place, .int m_number, .int m_fault, .int m_wrongAt, .long m_word, .int m_askedOf, m_v, m_x, m_past, m_kept, .int m_acts, .int m_images, m_heir, m_then, .int m_catGets, .long m_whole, .long m_bestSum, m_come, m_comeThen, .int m_tourHoursNow, m_hour, m_partIn, m_heirIn, .int m_fitsNow, .int m_foundHour, .int m_lookLeft, .int m_firstCatNow]))] := hD
  have hM := Option.some.inj hM
  subst hM
  exact W.iret (v := r1.1) hx hb hr (fun t ht hW => ⟨⟨r1.1, (), rfl, rfl, by rw [ht]; exact hP, hD⟩, hS.F ht⟩) hS.2.2 dX7_richest_17

set_option maxHeartbeats 40000000 in
set_option maxRecDepth 100000 in
theorem ctX1_goesToN (l : Launch) (D : va_G) (dA : Nat → ClassId) (sz : Nat) (h_o : Nat) (p0 : Int32) (p1 : Int32) (o_taped : Int32) (o_trouble : Int32) (o_fault : Int32) (o_where : Int32) (o_imageMany : Int32) (o_undoMany : Int32) (o_firstRest : Int32) (o_catAt : Int32) (o_tape : Value) (o_scanner : Value) (o_town : Value) (o_was : Value) (o_trial : Value) (o_night : Value) (o_plans : Value) (o_undone : Value) (o_images : Value) (o_often : Value) (o_next : Value) (res : (Int32 × Int32 × Int32)) (hM : MX1_goesToN  = some res) : Met l yX1_goesTo (ws_ yX1_goesTo cX1_goesTo 4 (some .int)) ({ frames := 1, cells := 0, slots := 0, locals := 22 }) (pre_ D dA [.ref h_o, .int p0, .int p1] [(h_o, .inr (0, [o_tape, .int o_taped, o_scanner, .null, .int o_trouble, .int o_fault, .int o_where, .int o_imageMany, .int o_undoMany, o_town, o_was, o_trial, o_night, o_plans, o_undone, o_images, o_often, .int o_firstRest, o_next, .int o_catAt]))] sz) (qi_ D res.1 (fun (u : Unit) => [(h_o, .inr (0, [o_tape, .int o_taped, o_scanner, .null, .int res.2.1, .int o_fault, .int res.2.2, .int o_imageMany, .int o_undoMany, o_town, o_was, o_trial, o_night, o_plans, o_undone, o_images, o_often, .int o_firstRest, o_next, .int o_catAt]))]) (va_A [(h_o, .inr (0, [o_tape, .int o_taped, o_scanner, .null, .int o_trouble, .int o_fault, .int o_where, .int o_imageMany, .int o_undoMany, o_town, o_was, o_trial, o_night, o_plans, o_undone, o_images, o_often, .int o_firstRest, o_next, .int o_catAt]))] sz)) 0 0 (va_A [(h_o, .inr (0, [o_tape, .int o_taped, o_scanner, .null, .int o_trouble, .int o_fault, .int o_where, .int o_imageMany, .int o_undoMany, o_town, o_was, o_trial, o_night, o_plans, o_undone, o_images, o_often, .int o_firstRest, o_next, .int o_catAt]))] sz) := by
  refine Met.ofW (cc := cX1_goesTo) (maxL := 4) (ret := (some .int)) (by decide) rfl ?_
  intro p e s m args below meth c s₁ B hml hv
  obtain ⟨rfl, hsz, hP, hK, hD0⟩ := hv
  have hx := B.exec
  have hb := B.bytes
  have hr := B.returns
  have hts := atoms_spec (ws := (ws_ yX1_goesTo cX1_goesTo 4 (some .int))) B.pre
  have hts : ∀ w ∈ lw_all, w.before _ s = true := fun w h => hts w (List.mem_cons_of_mem _ h)
  have hown : s.vm.findClass RX1 = some m.cls := findClass_of_methodNamed B.named
  have hlocks := B.notSynchronized
  subst hsz
  have hD := hD0.self (sz := s.heap.size)
  generalize hAe : va_A [(h_o, .inr (0, [o_tape, .int o_taped, o_scanner, .null, .int o_trouble, .int o_fault, .int o_where, .int o_imageMany, .int o_undoMany, o_town, o_was, o_trial, o_night, o_plans, o_undone, o_images, o_often, .int o_firstRest, o_next, .int o_catAt]))] s.heap.size = A at hD ⊢
  have hA : ∀ q : Nat, s.heap.size ≤ q → A q := fun q h => by rw [← hAe]; exact Or.inr h
  have hS : va_S A s.heap s.heap [] := va_S.rf
  have hP : va_P D clG [(h_o, .inr (0, [o_tape, .int o_taped, o_scanner, .null, .int o_trouble, .int o_fault, .int o_where, .int o_imageMany, .int o_undoMany, o_town, o_was, o_trial, o_night, o_plans, o_undone, o_images, o_often, .int o_firstRest, o_next, .int o_catAt]))] s.heap := hP
  have hl := lv_entry ([.ref h_o, .int p0, .int p1]) (n := 4) (Nat.le_of_ble_eq_true rfl)
  rw [lg_entry_eq]
  generalize (lg_sl ([.ref h_o, .int p0, .int p1]) ++ List.replicate (4 - (lg_sl ([.ref h_o, .int p0, .int p1])).length) Slot.unset).toArray = ls at hl ⊢
  have hl : lv_has ls 4 [(0, .ref h_o), (1, .int p0), (2, .int p1)] := hl
  unfold MX1_goesToN at hM
  refine lv_aload_n hx hb dX1_goesTo_0 rfl (lv_at hl 0 rfl) ?_
  obtain ⟨r1, er1, hM⟩ := b_inv hM
  refine k_v0 [0] (va_runV (As := []) (rest := []) ⟨hx, hb, hml, hown, hts⟩ (ctX1_anew l D dA _ h_o o_taped o_trouble o_fault o_where o_imageMany o_undoMany o_firstRest o_catAt (o_tape) (o_scanner) (.null) (o_town) (o_was) (o_trial) (o_night) (o_plans) (o_undone) (o_images) (o_often) (o_next) r1 er1) (cwV 0 hts (lw_V q432 q434 qs2 q113 q435) rfl rfl rfl (by decide +kernel) ⟨Nat.le_of_ble_eq_true rfl, Nat.le_of_ble_eq_true rfl⟩) (pre_V (hP.sub [0] rfl) hK (hD.sub [0] (by decide) rfl) (ci := 0) (q0 := 0) rfl rfl) rfl rfl hl.1 rfl (lv_room (Nat.le_of_ble_eq_true rfl)) dX1_goesTo_1 ⟨Nat.le_of_ble_eq_true rfl, Nat.le_of_ble_eq_true rfl⟩) hP hD hS hA rfl (fun _ => rfl) (fun u2 H locs hP hD hS => ?_)
  have hP : va_P D clG [(h_o, .inr (0, [o_tape, .int o_taped, o_scanner, .null, .int r1.1, .int o_fault, .int r1.2, .int o_imageMany, .int o_undoMany, o_town, o_was, o_trial, o_night, o_plans, o_undone, o_images, o_often, .int o_firstRest, o_next, .int o_catAt]))] H := hP
  have hD : va_D A [(h_o, .inr (0, [o_tape, .int o_taped, o_scanner, .null, .int r1.1, .int o_fault, .int r1.2, .int o_imageMany, .int o_undoMany, o_town, o_was, o_trial, o_night, o_plans, o_undone, o_images, o_often, .int o_firstRest, o_next, .int o_catAt]))] := hD
  refine lv_aload_n hx hb dX1_goesTo_4 rfl (lv_at hl 0 rfl) ?_
  refine lv_aload_n hx hb dX1_goesTo_5 rfl (lv_at hl 0 rfl) ?_
  refine lv_iload_n hx hb dX1_goesTo_6 rfl (lv_at hl 1 rfl) ?_
  obtain ⟨r3, er3, hM⟩ := b_inv hM
  refine k_i0 [0] (va_runV (As := [.int p0]) (rest := [.ref h_o]) ⟨hx, hb, hml, hown, hts⟩ (ctX1_isPersonN l D dA _ h_o p0 o_taped r1.1 o_fault r1.2 o_imageMany o_undoMany o_firstRest o_catAt (o_tape) (o_scanner) (o_town) (o_was) (o_trial) (o_night) (o_plans) (o_undone) (o_images) (o_often) (o_next) r3 er3) (cwV 1 hts (lw_V q913 q915 qs24 q113 q916) rfl rfl rfl (by decide +kernel) ⟨Nat.le_of_ble_eq_true rfl, Nat.le_of_ble_eq_true rfl⟩) (pre_V (hP.sub [0] rfl) hK (hD.sub [0] (by decide) rfl) (ci := 0) (q0 := 0) rfl rfl) rfl rfl hl.1 rfl (lv_room (Nat.le_of_ble_eq_true rfl)) dX1_goesTo_7 ⟨Nat.le_of_ble_eq_true rfl, Nat.le_of_ble_eq_true rfl⟩) hP hD hS hA rfl (fun _ => rfl) (fun u4 H locs hP hD hS => ?_)
  have hP : va_P D clG [(h_o, .inr (0, [o_tape, .int o_taped, o_scanner, .null, .int r1.1, .int o_fault, .int r1.2, .int o_imageMany, .int o_undoMany, o_town, o_was, o_trial, o_night, o_plans, o_undone, o_images, o_often, .int o_firstRest, o_next, .int o_catAt]))] H := hP
  have hD : va_D A [(h_o, .inr (0, [o_tape, .int o_taped, o_scanner, .null, .int r1.1, .int o_fault, .int r1.2, .int o_imageMany, .int o_undoMany, o_town, o_was, o_trial, o_night, o_plans, o_undone, o_images, o_often, .int o_firstRest, o_next, .int o_catAt]))] := hD
  have kr3 := krX1_isPersonN _ er3
  refine lv_toi (v := (0 : Int32)) (by rw [kr3]; rfl) ?_
  refine lv_aload_n hx hb dX1_goesTo_10 rfl (lv_at hl 0 rfl) ?_
  refine lv_iload_n hx hb dX1_goesTo_11 rfl (lv_at hl 1 rfl) ?_
  obtain ⟨r5, er5, hM⟩ := b_inv hM
  refine k_i0 [0] (va_runV (As := [.int p0]) (rest := [.int (0 : Int32), .ref h_o]) ⟨hx, hb, hml, hown, hts⟩ (ctX1_isPersonN l D dA _ h_o p0 o_taped r1.1 o_fault r1.2 o_imageMany o_undoMany o_firstRest o_catAt (o_tape) (o_scanner) (o_town) (o_was) (o_trial) (o_night) (o_plans) (o_undone) (o_images) (o_often) (o_next) r5 er5) (cwV 1 hts (lw_V q913 q915 qs24 q113 q916) rfl rfl rfl (by decide +kernel) ⟨Nat.le_of_ble_eq_true rfl, Nat.le_of_ble_eq_true rfl⟩) (pre_V (hP.sub [0] rfl) hK (hD.sub [0] (by decide) rfl) (ci := 0) (q0 := 0) rfl rfl) rfl rfl hl.1 rfl (lv_room (Nat.le_of_ble_eq_true rfl)) dX1_goesTo_12 ⟨Nat.le_of_ble_eq_true rfl, Nat.le_of_ble_eq_true rfl⟩) hP hD hS hA rfl (fun _ => rfl) (fun u6 H locs hP hD hS => ?_)
  have hP : va_P D clG [(h_o, .inr (0, [o_tape, .int o_taped, o_scanner, .null, .int r1.1, .int o_fault, .int r1.2, .int o_imageMany, .int o_undoMany, o_town, o_was, o_trial, o_night, o_plans, o_undone, o_images, o_often, .int o_firstRest, o_next, .int o_catAt]))] H := hP
  have hD : va_D A [(h_o, .inr (0, [o_tape, .int o_taped, o_scanner, .null, .int r1.1, .int o_fault, .int r1.2, .int o_imageMany, .int o_undoMany, o_town, o_was, o_trial, o_night, o_plans, o_undone, o_images, o_often, .int o_firstRest, o_next, .int o_catAt]))] := hD
  have kr5 := krX1_isPersonN _ er5
  refine lv_toi (v := (0 : Int32)) (by rw [kr5]; rfl) ?_
  refine lv_if_eq (tgt := 38) hx hb dX1_goesTo_15 (by decide) (fun _ => ?_) (fun c7 => absurd c7 (by decide))
  refine lv_iconst (v := (0 : Int32)) hx hb dX1_goesTo_38 (by decide) ?_
  obtain ⟨r8, er8, hM⟩ := b_inv hM
  refine k_i0 [0] (va_runV (As := [.int (0 : Int32), .int (0 : Int32)]) (rest := []) ⟨hx, hb, hml, hown, hts⟩ (ctX1_numberWhy l D dA _ h_o false false o_taped r1.1 o_fault r1.2 o_imageMany o_undoMany o_firstRest o_catAt (o_tape) (o_scanner) (.null) (o_town) (o_was) (o_trial) (o_night) (o_plans) (o_undone) (o_images) (o_often) (o_next) r8 er8) (cwV 2 hts (lw_V q1022 q1024 qs31 q113 q1025) rfl rfl rfl (by decide +kernel) ⟨Nat.le_of_ble_eq_true rfl, Nat.le_of_ble_eq_true rfl⟩) (pre_V (hP.sub [0] rfl) hK (hD.sub [0] (by decide) rfl) (ci := 0) (q0 := 0) rfl rfl) rfl rfl hl.1 rfl (lv_room (Nat.le_of_ble_eq_true rfl)) dX1_goesTo_39 ⟨Nat.le_of_ble_eq_true rfl, Nat.le_of_ble_eq_true rfl⟩) hP hD hS hA rfl (fun _ => rfl) (fun u9 H locs hP hD hS => ?_)
  have hP : va_P D clG [(h_o, .inr (0, [o_tape, .int o_taped, o_scanner, .null, .int r1.1, .int o_fault, .int r1.2, .int o_imageMany, .int o_undoMany, o_town, o_was, o_trial, o_night, o_plans, o_undone, o_images, o_often, .int o_firstRest, o_next, .int o_catAt]))] H := hP
  have hD : va_D A [(h_o, .inr (0, [o_tape, .int o_taped, o_scanner, .null, .int r1.1, .int o_fault, .int r1.2, .int o_imageMany, .int o_undoMany, o_town, o_was, o_trial, o_night, o_plans, o_undone, o_images, o_often, .int o_firstRest, o_next, .int o_catAt]))] := hD
  have kr8 := knw er8
  refine lv_toi (v := (1 : Int32)) (by rw [kr8]) ?_
  refine lv_istore_n (lv' := [(3, .int (1 : Int32)), (0, .ref h_o), (1, .int p0), (2, .int p1)]) hx hb dX1_goesTo_42 rfl hl (by decide) rfl (fun ls hl => ?_)
  refine lv_iload_n hx hb dX1_goesTo_43 rfl (lv_at hl 0 rfl) ?_
  refine lv_if_eq (tgt := 55) hx hb dX1_goesTo_44 (by decide) (fun c10 => absurd c10 (by decide)) (fun _ => ?_)
  refine lv_aload_n hx hb dX1_goesTo_47 rfl (lv_at hl 1 rfl) ?_
  refine lv_iload_n hx hb dX1_goesTo_48 rfl (lv_at hl 0 rfl) ?_
  obtain ⟨r11, er11, hM⟩ := b_inv hM
  refine k_i0 [0] (va_runV (As := [.int (1 : Int32)]) (rest := []) ⟨hx, hb, hml, hown, hts⟩ (ctX1_no l D dA _ h_o (1 : Int32) o_taped r1.1 o_fault r1.2 o_imageMany o_undoMany o_firstRest o_catAt (o_tape) (o_scanner) (.null) (o_town) (o_was) (o_trial) (o_night) (o_plans) (o_undone) (o_images) (o_often) (o_next) r11 er11) (cwV 1 hts (lw_V q439 q441 qs3 q113 q442) rfl rfl rfl (by decide +kernel) ⟨Nat.le_of_ble_eq_true rfl, Nat.le_of_ble_eq_true rfl⟩) (pre_V (hP.sub [0] rfl) hK (hD.sub [0] (by decide) rfl) (ci := 0) (q0 := 0) rfl rfl) rfl rfl hl.1 rfl (lv_room (Nat.le_of_ble_eq_true rfl)) dX1_goesTo_49 ⟨Nat.le_of_ble_eq_true rfl, Nat.le_of_ble_eq_true rfl⟩) hP hD hS hA rfl (fun _ => rfl) (fun u12 H locs hP hD hS => ?_)
  have hP : va_P D clG [(h_o, .inr (0, [o_tape, .int o_taped, o_scanner, .null, .int r11.2, .int o_fault, .int r1.2, .int o_imageMany, .int o_undoMany, o_town, o_was, o_trial, o_night, o_plans, o_undone, o_images, o_often, .int o_firstRest, o_next, .int o_catAt]))] H := hP
  have hD : va_D A [(h_o, .inr (0, [o_tape, .int o_taped, o_scanner, .null, .int r11.2, .int o_fault, .int r1.2, .int o_imageMany, .int o_undoMany, o_town, o_was, o_trial, o_night, o_plans, o_undone, o_images, o_often, .int o_firstRest, o_next, .int o_catAt]))] := hD
  refine lv_goto (tgt := 64) hx hb dX1_goesTo_52 (by decide) ?_
  have hM := Option.some.inj hM
  subst hM
  exact W.iret (v := r11.1) hx hb hr (fun t ht hW => ⟨⟨r11.1, (), rfl, rfl, by rw [ht]; exact hP, hD⟩, hS.F ht⟩) hS.2.2 dX1_goesTo_64

set_option maxHeartbeats 40000000 in
set_option maxRecDepth 100000 in
theorem ctX7_goesToN (l : Launch) (D : va_G) (dA : Nat → ClassId) (sz : Nat) (h_m : Nat) (p0 : Int32) (p1 : Int32) (m_thrown : Int32) (m_trouble : Int32) (m_where : Int32) (m_taped : Int32) (m_size : Int32) (m_spot : Int32) (m_sort : Int32) (m_place : Int32) (m_number : Int32) (m_fault : Int32) (m_wrongAt : Int32) (m_word : Int64) (m_askedOf : Int32) (m_acts : Int32) (m_images : Int32) (m_catGets : Int32) (m_whole : Int64) (m_bestSum : Int64) (m_tourHoursNow : Int32) (m_fitsNow : Int32) (m_foundHour : Int32) (m_lookLeft : Int32) (m_firstCatNow : Int32) (m_read : Value) (m_tape : Value) (m_v : Value) (m_x : Value) (m_past : Value) (m_kept : Value) (m_heir : Value) (m_then : Value) (m_come : Value) (m_comeThen : Value) (m_hour : Value) (m_partIn : Value) (m_heirIn : Value) (res : (Int32 × Int32 × Int32 × Int32)) (hM : MX7_goesToN  = some res) : Met l yX7_goesTo (ws_ yX7_goesTo cX7_goesTo 3 (some .int)) ({ frames := 1, cells := 0, slots := 0, locals := 21 }) (pre_ D dA [.ref h_m, .int p0, .int p1] [(h_m, .inr (11, [.int m_thrown, .int m_trouble, .int m_where, .null, m_read, m_tape, .int m_taped, .int m_size, .int m_spot, .int m_sort, .int m_place, .int m_number, .int m_fault, .int m_wrongAt, .long m_word, .int m_askedOf, m_v, m_x, m_past, m_kept, .int m_acts, .int m_images, m_heir, m_then, .int m_catGets, .long m_whole, .long m_bestSum, m_come, m_comeThen, .int m_tourHoursNow, m_hour, m_partIn, m_heirIn, .int m_fitsNow, .int m_foundHour, .int m_lookLeft, .int m_firstCatNow]))] sz) (qi_ D res.1 (fun (u : Unit) => [(h_m, .inr (11, [.int res.2.1, .int res.2.2.1, .int res.2.2.2, .null, m_read, m_tape, .int m_taped, .int m_size, .int m_spot, .int m_sort, .int m_place, .int m_number, .int m_fault, .int m_wrongAt, .long m_word, .int m_askedOf, m_v, m_x, m_past, m_kept, .int m_acts, .int m_images, m_heir, m_then, .int m_catGets, .long m_whole, .long m_bestSum, m_come, m_comeThen, .int m_tourHoursNow, m_hour, m_partIn, m_heirIn, .int m_fitsNow, .int m_foundHour, .int m_lookLeft, .int m_firstCatNow]))]) (va_A [(h_m, .inr (11, [.int m_thrown, .int m_trouble, .int m_where, .null, m_read, m_tape, .int m_taped, .int m_size, .int m_spot, .int m_sort, .int m_place, .int m_number, .int m_fault, .int m_wrongAt, .long m_word, .int m_askedOf, m_v, m_x, m_past, m_kept, .int m_acts, .int m_images, m_heir, m_then, .int m_catGets, .long m_whole, .long m_bestSum, m_come, m_comeThen, .int m_tourHoursNow, m_hour, m_partIn, m_heirIn, .int m_fitsNow, .int m_foundHour, .int m_lookLeft, .int m_firstCatNow]))] sz)) 0 0 (va_A [(h_m, .inr (11, [.int m_thrown, .int m_trouble, .int m_where, .null, m_read, m_tape, .int m_taped, .int m_size, .int m_spot, .int m_sort, .int m_place, .int m_number, .int m_fault, .int m_wrongAt, .long m_word, .int m_askedOf, m_v, m_x, m_past, m_kept, .int m_acts, .int m_images, m_heir, m_then, .int m_catGets, .long m_whole, .long m_bestSum, m_come, m_comeThen, .int m_tourHoursNow, m_hour, m_partIn, m_heirIn, .int m_fitsNow, .int m_foundHour, .int m_lookLeft, .int m_firstCatNow]))] sz) := by
  refine Met.ofW (cc := cX7_goesTo) (maxL := 3) (ret := (some .int)) (by decide) rfl ?_
  intro p e s m args below meth c s₁ B hml hv
  obtain ⟨rfl, hsz, hP, hK, hD0⟩ := hv
  have hx := B.exec
  have hb := B.bytes
  have hr := B.returns
  have hts := atoms_spec (ws := (ws_ yX7_goesTo cX7_goesTo 3 (some .int))) B.pre
  have hts : ∀ w ∈ lw_all, w.before _ s = true := fun w h => hts w (List.mem_cons_of_mem _ h)
  have hown : s.vm.findClass RX7 = some m.cls := findClass_of_methodNamed B.named
  have hlocks := B.notSynchronized
  subst hsz
  have hD := hD0.self (sz := s.heap.size)
  generalize hAe : va_A [(h_m, .inr (11, [.int m_thrown, .int m_trouble, .int m_where, .null, m_read, m_tape, .int m_taped, .int m_size, .int m_spot, .int m_sort, .int m_place, .int m_number, .int m_fault, .int m_wrongAt, .long m_word, .int m_askedOf, m_v, m_x, m_past, m_kept, .int m_acts, .int m_images, m_heir, m_then, .int m_catGets, .long m_whole, .long m_bestSum, m_come, m_comeThen, .int m_tourHoursNow, m_hour, m_partIn, m_heirIn, .int m_fitsNow, .int m_foundHour, .int m_lookLeft, .int m_firstCatNow]))] s.heap.size = A at hD ⊢
  have hA : ∀ q : Nat, s.heap.size ≤ q → A q := fun q h => by rw [← hAe]; exact Or.inr h
  have hS : va_S A s.heap s.heap [] := va_S.rf
  have hP : va_P D clG [(h_m, .inr (11, [.int m_thrown, .int m_trouble, .int m_where, .null, m_read, m_tape, .int m_taped, .int m_size, .int m_spot, .int m_sort, .int m_place, .int m_number, .int m_fault, .int m_wrongAt, .long m_word, .int m_askedOf, m_v, m_x, m_past, m_kept, .int m_acts, .int m_images, m_heir, m_then, .int m_catGets, .long m_whole, .long m_bestSum, m_come, m_comeThen, .int m_tourHoursNow, m_hour, m_partIn, m_heirIn, .int m_fitsNow, .int m_foundHour, .int m_lookLeft, .int m_firstCatNow]))] s.heap := hP
  have hl := lv_entry ([.ref h_m, .int p0, .int p1]) (n := 3) (Nat.le_of_ble_eq_true rfl)
  rw [lg_entry_eq]
  generalize (lg_sl ([.ref h_m, .int p0, .int p1]) ++ List.replicate (3 - (lg_sl ([.ref h_m, .int p0, .int p1])).length) Slot.unset).toArray = ls at hl ⊢
  have hl : lv_has ls 3 [(0, .ref h_m), (1, .int p0), (2, .int p1)] := hl
  unfold MX7_goesToN at hM
  refine lv_aload_n hx hb dX7_goesTo_0 rfl (lv_at hl 0 rfl) ?_
  refine lv_iconst (v := (0 : Int32)) hx hb dX7_goesTo_1 (by decide) ?_
  refine va_put (D := D) (ci := 11) (v := .int (0 : Int32)) (ty := .int) (C := RX7) (T := TX7) (N := 37) hx hb hts in_X7 tyX7 tyX7_ok nmX7 hown hK.1 hP hD hS 0 rfl rfl 0 (by decide) (hts _ q1372) (fun _ h9 => h9) rfl (by decide +kernel) rfl rfl (Nat.le_of_ble_eq_true rfl) dX7_goesTo_2 (fun H locs hP hD hS => ?_)
  have hP : va_P D clG [(h_m, .inr (11, [.int (0 : Int32), .int m_trouble, .int m_where, .null, m_read, m_tape, .int m_taped, .int m_size, .int m_spot, .int m_sort, .int m_place, .int m_number, .int m_fault, .int m_wrongAt, .long m_word, .int m_askedOf, m_v, m_x, m_past, m_kept, .int m_acts, .int m_images, m_heir, m_then, .int m_catGets, .long m_whole, .long m_bestSum, m_come, m_comeThen, .int m_tourHoursNow, m_hour, m_partIn, m_heirIn, .int m_fitsNow, .int m_foundHour, .int m_lookLeft, .int m_firstCatNow]))] H := hP
  have hD : va_D A [(h_m, .inr (11, [.int (0 : Int32), .int m_trouble, .int m_where, .null, m_read, m_tape, .int m_taped, .int m_size, .int m_spot, .int m_sort, .int m_place, .int m_number, .int m_fault, .int m_wrongAt, .long m_word, .int m_askedOf, m_v, m_x, m_past, m_kept, .int m_acts, .int m_images, m_heir, m_then, .int m_catGets, .long m_whole, .long m_bestSum, m_come, m_comeThen, .int m_tourHoursNow, m_hour, m_partIn, m_heirIn, .int m_fitsNow, .int m_foundHour, .int m_lookLeft, .int m_firstCatNow]))] := hD
  refine lv_aload_n hx hb dX7_goesTo_5 rfl (lv_at hl 0 rfl) ?_
  refine lv_iload_n hx hb dX7_goesTo_6 rfl (lv_at hl 1 rfl) ?_
  obtain ⟨r1, er1, hM⟩ := b_inv hM
  refine k_i0 [0] (va_runV (As := [.int p0]) (rest := []) ⟨hx, hb, hml, hown, hts⟩ (ctX7_isPersonN l D dA _ h_m p0 (0 : Int32) m_trouble m_where m_taped m_size m_spot m_sort m_place m_number m_fault m_wrongAt m_word m_askedOf m_acts m_images m_catGets m_whole m_bestSum m_tourHoursNow m_fitsNow m_foundHour m_lookLeft m_firstCatNow (m_read) (m_tape) (m_v) (m_x) (m_past) (m_kept) (m_heir) (m_then) (m_come) (m_comeThen) (m_hour) (m_partIn) (m_heirIn) r1 er1) (cwV 1 hts (lw_V q1733 q1735 qs71 q122 q1736) rfl rfl rfl (by decide +kernel) ⟨Nat.le_of_ble_eq_true rfl, Nat.le_of_ble_eq_true rfl⟩) (pre_V (hP.sub [0] rfl) hK (hD.sub [0] (by decide) rfl) (ci := 11) (q0 := 0) rfl rfl) rfl rfl hl.1 rfl (lv_room (Nat.le_of_ble_eq_true rfl)) dX7_goesTo_7 ⟨Nat.le_of_ble_eq_true rfl, Nat.le_of_ble_eq_true rfl⟩) hP hD hS hA rfl (fun _ => rfl) (fun u2 H locs hP hD hS => ?_)
  have hP : va_P D clG [(h_m, .inr (11, [.int (0 : Int32), .int m_trouble, .int m_where, .null, m_read, m_tape, .int m_taped, .int m_size, .int m_spot, .int m_sort, .int m_place, .int m_number, .int m_fault, .int m_wrongAt, .long m_word, .int m_askedOf, m_v, m_x, m_past, m_kept, .int m_acts, .int m_images, m_heir, m_then, .int m_catGets, .long m_whole, .long m_bestSum, m_come, m_comeThen, .int m_tourHoursNow, m_hour, m_partIn, m_heirIn, .int m_fitsNow, .int m_foundHour, .int m_lookLeft, .int m_firstCatNow]))] H := hP
  have hD : va_D A [(h_m, .inr (11, [.int (0 : Int32), .int m_trouble, .int m_where, .null, m_read, m_tape, .int m_taped, .int m_size, .int m_spot, .int m_sort, .int m_place, .int m_number, .int m_fault, .int m_wrongAt, .long m_word, .int m_askedOf, m_v, m_x, m_past, m_kept, .int m_acts, .int m_images, m_heir, m_then, .int m_catGets, .long m_whole, .long m_bestSum, m_come, m_comeThen, .int m_tourHoursNow, m_hour, m_partIn, m_heirIn, .int m_fitsNow, .int m_foundHour, .int m_lookLeft, .int m_firstCatNow]))] := hD
  have kr1 := krX7_isPersonN _ er1
  refine lv_toi (v := (0 : Int32)) (by rw [kr1]; rfl) ?_
  refine lv_if_ne (tgt := 19) hx hb dX7_goesTo_10 (by decide) (fun c3 => absurd c3 (by decide)) (fun _ => ?_)
  refine lv_aload_n hx hb dX7_goesTo_13 rfl (lv_at hl 0 rfl) ?_
  refine lv_iconst (v := (1 : Int32)) hx hb dX7_goesTo_14 (by decide) ?_
  obtain ⟨r4, er4, hM⟩ := b_inv hM
  refine k_i0 [0] (va_runV (As := [.int (1 : Int32)]) (rest := []) ⟨hx, hb, hml, hown, hts⟩ (ctX7_refused l D dA _ h_m (1 : Int32) (0 : Int32) m_trouble m_where m_taped m_size m_spot m_sort m_place m_number m_fault m_wrongAt m_word m_askedOf m_acts m_images m_catGets m_whole m_bestSum m_tourHoursNow m_fitsNow m_foundHour m_lookLeft m_firstCatNow (.null) (m_read) (m_tape) (m_v) (m_x) (m_past) (m_kept) (m_heir) (m_then) (m_come) (m_comeThen) (m_hour) (m_partIn) (m_heirIn) r4 er4) (cwV 1 hts (lw_V q1496 q1498 qs50 q122 q1499) rfl rfl rfl (by decide +kernel) ⟨Nat.le_of_ble_eq_true rfl, Nat.le_of_ble_eq_true rfl⟩) (pre_V (hP.sub [0] rfl) hK (hD.sub [0] (by decide) rfl) (ci := 11) (q0 := 0) rfl rfl) rfl rfl hl.1 rfl (lv_room (Nat.le_of_ble_eq_true rfl)) dX7_goesTo_15 ⟨Nat.le_of_ble_eq_true rfl, Nat.le_of_ble_eq_true rfl⟩) hP hD hS hA rfl (fun _ => rfl) (fun u5 H locs hP hD hS => ?_)
  have hP : va_P D clG [(h_m, .inr (11, [.int (0 : Int32), .int r4.2.1, .int r4.2.2, .null, m_read, m_tape, .int m_taped, .int m_size, .int m_spot, .int m_sort, .int m_place, .int m_number, .int m_fault, .int m_wrongAt, .long m_word, .int m_askedOf, m_v, m_x, m_past, m_kept, .int m_acts, .int m_images, m_heir, m_then, .int m_catGets, .long m_whole, .long m_bestSum, m_come, m_comeThen, .int m_tourHoursNow, m_hour, m_partIn, m_heirIn, .int m_fitsNow, .int m_foundHour, .int m_lookLeft, .int m_firstCatNow]))] H := hP
  have hD : va_D A [(h_m, .inr (11, [.int (0 : Int32), .int r4.2.1, .int r4.2.2, .null, m_read, m_tape, .int m_taped, .int m_size, .int m_spot, .int m_sort, .int m_place, .int m_number, .int m_fault, .int m_wrongAt, .long m_word, .int m_askedOf, m_v, m_x, m_past, m_kept, .int m_acts, .int m_images, m_heir, m_then, .int m_catGets, .long m_whole, .long m_bestSum, m_come, m_comeThen, .int m_tourHoursNow, m_hour, m_partIn, m_heirIn, .int m_fitsNow, .int m_foundHour, .int m_lookLeft, .int m_firstCatNow]))] := hD
  have hM := Option.some.inj hM
  subst hM
  exact W.iret (v := r4.1) hx hb hr (fun t ht hW => ⟨⟨r4.1, (), rfl, rfl, by rw [ht]; exact hP, hD⟩, hS.F ht⟩) hS.2.2 dX7_goesTo_18

set_option maxHeartbeats 40000000 in
set_option maxRecDepth 100000 in
theorem ctX1_hasThenN (l : Launch) (D : va_G) (dA : Nat → ClassId) (sz : Nat) (h_o : Nat) (p0 : Int32) (p1 : Int32) (o_taped : Int32) (o_trouble : Int32) (o_fault : Int32) (o_where : Int32) (o_imageMany : Int32) (o_undoMany : Int32) (o_firstRest : Int32) (o_catAt : Int32) (o_tape : Value) (o_scanner : Value) (o_town : Value) (o_was : Value) (o_trial : Value) (o_night : Value) (o_plans : Value) (o_undone : Value) (o_images : Value) (o_often : Value) (o_next : Value) (res : (Int32 × Int32 × Int32)) (hM : MX1_hasThenN  = some res) : Met l yX1_hasThen (ws_ yX1_hasThen cX1_hasThen 4 (some .int)) ({ frames := 2, cells := 0, slots := 0, locals := 42 }) (pre_ D dA [.ref h_o, .int p0, .int p1] [(h_o, .inr (0, [o_tape, .int o_taped, o_scanner, .null, .int o_trouble, .int o_fault, .int o_where, .int o_imageMany, .int o_undoMany, o_town, o_was, o_trial, o_night, o_plans, o_undone, o_images, o_often, .int o_firstRest, o_next, .int o_catAt]))] sz) (qi_ D res.1 (fun (u : Unit) => [(h_o, .inr (0, [o_tape, .int o_taped, o_scanner, .null, .int res.2.1, .int o_fault, .int res.2.2, .int o_imageMany, .int o_undoMany, o_town, o_was, o_trial, o_night, o_plans, o_undone, o_images, o_often, .int o_firstRest, o_next, .int o_catAt]))]) (va_A [(h_o, .inr (0, [o_tape, .int o_taped, o_scanner, .null, .int o_trouble, .int o_fault, .int o_where, .int o_imageMany, .int o_undoMany, o_town, o_was, o_trial, o_night, o_plans, o_undone, o_images, o_often, .int o_firstRest, o_next, .int o_catAt]))] sz)) 0 0 (va_A [(h_o, .inr (0, [o_tape, .int o_taped, o_scanner, .null, .int o_trouble, .int o_fault, .int o_where, .int o_imageMany, .int o_undoMany, o_town, o_was, o_trial, o_night, o_plans, o_undone, o_images, o_often, .int o_firstRest, o_next, .int o_catAt]))] sz) := by
  refine Met.ofW (cc := cX1_hasThen) (maxL := 4) (ret := (some .int)) (by decide) rfl ?_
  intro p e s m args below meth c s₁ B hml hv
  obtain ⟨rfl, hsz, hP, hK, hD0⟩ := hv
  have hx := B.exec
  have hb := B.bytes
  have hr := B.returns
  have hts := atoms_spec (ws := (ws_ yX1_hasThen cX1_hasThen 4 (some .int))) B.pre
  have hts : ∀ w ∈ lw_all, w.before _ s = true := fun w h => hts w (List.mem_cons_of_mem _ h)
  have hown : s.vm.findClass RX1 = some m.cls := findClass_of_methodNamed B.named
  have hlocks := B.notSynchronized
  subst hsz
  have hD := hD0.self (sz := s.heap.size)
  generalize hAe : va_A [(h_o, .inr (0, [o_tape, .int o_taped, o_scanner, .null, .int o_trouble, .int o_fault, .int o_where, .int o_imageMany, .int o_undoMany, o_town, o_was, o_trial, o_night, o_plans, o_undone, o_images, o_often, .int o_firstRest, o_next, .int o_catAt]))] s.heap.size = A at hD ⊢
  have hA : ∀ q : Nat, s.heap.size ≤ q → A q := fun q h => by rw [← hAe]; exact Or.inr h
  have hS : va_S A s.heap s.heap [] := va_S.rf
  have hP : va_P D clG [(h_o, .inr (0, [o_tape, .int o_taped, o_scanner, .null, .int o_trouble, .int o_fault, .int o_where, .int o_imageMany, .int o_undoMany, o_town, o_was, o_trial, o_night, o_plans, o_undone, o_images, o_often, .int o_firstRest, o_next, .int o_catAt]))] s.heap := hP
  have hl := lv_entry ([.ref h_o, .int p0, .int p1]) (n := 4) (Nat.le_of_ble_eq_true rfl)
  rw [lg_entry_eq]
  generalize (lg_sl ([.ref h_o, .int p0, .int p1]) ++ List.replicate (4 - (lg_sl ([.ref h_o, .int p0, .int p1])).length) Slot.unset).toArray = ls at hl ⊢
  have hl : lv_has ls 4 [(0, .ref h_o), (1, .int p0), (2, .int p1)] := hl
  unfold MX1_hasThenN at hM
  refine lv_aload_n hx hb dX1_hasThen_0 rfl (lv_at hl 0 rfl) ?_
  obtain ⟨r1, er1, hM⟩ := b_inv hM
  refine k_v0 [0] (va_runV (As := []) (rest := []) ⟨hx, hb, hml, hown, hts⟩ (ctX1_anew l D dA _ h_o o_taped o_trouble o_fault o_where o_imageMany o_undoMany o_firstRest o_catAt (o_tape) (o_scanner) (.null) (o_town) (o_was) (o_trial) (o_night) (o_plans) (o_undone) (o_images) (o_often) (o_next) r1 er1) (cwV 0 hts (lw_V q432 q434 qs2 q113 q435) rfl rfl rfl (by decide +kernel) ⟨Nat.le_of_ble_eq_true rfl, Nat.le_of_ble_eq_true rfl⟩) (pre_V (hP.sub [0] rfl) hK (hD.sub [0] (by decide) rfl) (ci := 0) (q0 := 0) rfl rfl) rfl rfl hl.1 rfl (lv_room (Nat.le_of_ble_eq_true rfl)) dX1_hasThen_1 ⟨Nat.le_of_ble_eq_true rfl, Nat.le_of_ble_eq_true rfl⟩) hP hD hS hA rfl (fun _ => rfl) (fun u2 H locs hP hD hS => ?_)
  have hP : va_P D clG [(h_o, .inr (0, [o_tape, .int o_taped, o_scanner, .null, .int r1.1, .int o_fault, .int r1.2, .int o_imageMany, .int o_undoMany, o_town, o_was, o_trial, o_night, o_plans, o_undone, o_images, o_often, .int o_firstRest, o_next, .int o_catAt]))] H := hP
  have hD : va_D A [(h_o, .inr (0, [o_tape, .int o_taped, o_scanner, .null, .int r1.1, .int o_fault, .int r1.2, .int o_imageMany, .int o_undoMany, o_town, o_was, o_trial, o_night, o_plans, o_undone, o_images, o_often, .int o_firstRest, o_next, .int o_catAt]))] := hD
  refine lv_aload_n hx hb dX1_hasThen_4 rfl (lv_at hl 0 rfl) ?_
  refine lv_iload_n hx hb dX1_hasThen_5 rfl (lv_at hl 1 rfl) ?_
  obtain ⟨r3, er3, hM⟩ := b_inv hM
  refine k_i0 [0] (va_runV (As := [.int p0]) (rest := []) ⟨hx, hb, hml, hown, hts⟩ (ctX1_livesWhyN l D dA _ h_o p0 o_taped r1.1 o_fault r1.2 o_imageMany o_undoMany o_firstRest o_catAt (o_tape) (o_scanner) (o_town) (o_was) (o_trial) (o_night) (o_plans) (o_undone) (o_images) (o_often) (o_next) r3 er3) (cwV 1 hts (lw_V q970 q972 qs28 q113 q973) rfl rfl rfl (by decide +kernel) ⟨Nat.le_of_ble_eq_true rfl, Nat.le_of_ble_eq_true rfl⟩) (pre_V (hP.sub [0] rfl) hK (hD.sub [0] (by decide) rfl) (ci := 0) (q0 := 0) rfl rfl) rfl rfl hl.1 rfl (lv_room (Nat.le_of_ble_eq_true rfl)) dX1_hasThen_6 ⟨Nat.le_of_ble_eq_true rfl, Nat.le_of_ble_eq_true rfl⟩) hP hD hS hA rfl (fun _ => rfl) (fun u4 H locs hP hD hS => ?_)
  have hP : va_P D clG [(h_o, .inr (0, [o_tape, .int o_taped, o_scanner, .null, .int r1.1, .int o_fault, .int r1.2, .int o_imageMany, .int o_undoMany, o_town, o_was, o_trial, o_night, o_plans, o_undone, o_images, o_often, .int o_firstRest, o_next, .int o_catAt]))] H := hP
  have hD : va_D A [(h_o, .inr (0, [o_tape, .int o_taped, o_scanner, .null, .int r1.1, .int o_fault, .int r1.2, .int o_imageMany, .int o_undoMany, o_town, o_was, o_trial, o_night, o_plans, o_undone, o_images, o_often, .int o_firstRest, o_next, .int o_catAt]))] := hD
  have kr3 := krX1_livesWhyN _ er3
  refine lv_toi (v := (1 : Int32)) (by rw [kr3]) ?_
  refine lv_istore_n (lv' := [(3, .int (1 : Int32)), (0, .ref h_o), (1, .int p0), (2, .int p1)]) hx hb dX1_hasThen_9 rfl hl (by decide) rfl (fun ls hl => ?_)
  refine lv_iload_n hx hb dX1_hasThen_10 rfl (lv_at hl 0 rfl) ?_
  refine lv_if_ne (tgt := 24) hx hb dX1_hasThen_11 (by decide) (fun _ => ?_) (fun c5 => absurd c5 (by decide))
  refine lv_iload_n hx hb dX1_hasThen_24 rfl (lv_at hl 0 rfl) ?_
  refine lv_if_eq (tgt := 36) hx hb dX1_hasThen_25 (by decide) (fun c6 => absurd c6 (by decide)) (fun _ => ?_)
  refine lv_aload_n hx hb dX1_hasThen_28 rfl (lv_at hl 1 rfl) ?_
  refine lv_iload_n hx hb dX1_hasThen_29 rfl (lv_at hl 0 rfl) ?_
  obtain ⟨r7, er7, hM⟩ := b_inv hM
  refine k_i0 [0] (va_runV (As := [.int (1 : Int32)]) (rest := []) ⟨hx, hb, hml, hown, hts⟩ (ctX1_no l D dA _ h_o (1 : Int32) o_taped r1.1 o_fault r1.2 o_imageMany o_undoMany o_firstRest o_catAt (o_tape) (o_scanner) (.null) (o_town) (o_was) (o_trial) (o_night) (o_plans) (o_undone) (o_images) (o_often) (o_next) r7 er7) (cwV 1 hts (lw_V q439 q441 qs3 q113 q442) rfl rfl rfl (by decide +kernel) ⟨Nat.le_of_ble_eq_true rfl, Nat.le_of_ble_eq_true rfl⟩) (pre_V (hP.sub [0] rfl) hK (hD.sub [0] (by decide) rfl) (ci := 0) (q0 := 0) rfl rfl) rfl rfl hl.1 rfl (lv_room (Nat.le_of_ble_eq_true rfl)) dX1_hasThen_30 ⟨Nat.le_of_ble_eq_true rfl, Nat.le_of_ble_eq_true rfl⟩) hP hD hS hA rfl (fun _ => rfl) (fun u8 H locs hP hD hS => ?_)
  have hP : va_P D clG [(h_o, .inr (0, [o_tape, .int o_taped, o_scanner, .null, .int r7.2, .int o_fault, .int r1.2, .int o_imageMany, .int o_undoMany, o_town, o_was, o_trial, o_night, o_plans, o_undone, o_images, o_often, .int o_firstRest, o_next, .int o_catAt]))] H := hP
  have hD : va_D A [(h_o, .inr (0, [o_tape, .int o_taped, o_scanner, .null, .int r7.2, .int o_fault, .int r1.2, .int o_imageMany, .int o_undoMany, o_town, o_was, o_trial, o_night, o_plans, o_undone, o_images, o_often, .int o_firstRest, o_next, .int o_catAt]))] := hD
  refine lv_goto (tgt := 53) hx hb dX1_hasThen_33 (by decide) ?_
  have hM := Option.some.inj hM
  subst hM
  exact W.iret (v := r7.1) hx hb hr (fun t ht hW => ⟨⟨r7.1, (), rfl, rfl, by rw [ht]; exact hP, hD⟩, hS.F ht⟩) hS.2.2 dX1_hasThen_53

set_option maxHeartbeats 40000000 in
set_option maxRecDepth 100000 in
theorem ctX7_hasThenN (l : Launch) (D : va_G) (dA : Nat → ClassId) (sz : Nat) (h_m : Nat) (p0 : Int32) (p1 : Int32) (m_thrown : Int32) (m_trouble : Int32) (m_where : Int32) (m_taped : Int32) (m_size : Int32) (m_spot : Int32) (m_sort : Int32) (m_place : Int32) (m_number : Int32) (m_fault : Int32) (m_wrongAt : Int32) (m_word : Int64) (m_askedOf : Int32) (m_acts : Int32) (m_images : Int32) (m_catGets : Int32) (m_whole : Int64) (m_bestSum : Int64) (m_tourHoursNow : Int32) (m_fitsNow : Int32) (m_foundHour : Int32) (m_lookLeft : Int32) (m_firstCatNow : Int32) (m_read : Value) (m_tape : Value) (m_v : Value) (m_x : Value) (m_past : Value) (m_kept : Value) (m_heir : Value) (m_then : Value) (m_come : Value) (m_comeThen : Value) (m_hour : Value) (m_partIn : Value) (m_heirIn : Value) (res : (Int32 × Int32 × Int32 × Int32)) (hM : MX7_hasThenN  = some res) : Met l yX7_hasThen (ws_ yX7_hasThen cX7_hasThen 4 (some .int)) ({ frames := 2, cells := 0, slots := 0, locals := 42 }) (pre_ D dA [.ref h_m, .int p0, .int p1] [(h_m, .inr (11, [.int m_thrown, .int m_trouble, .int m_where, .null, m_read, m_tape, .int m_taped, .int m_size, .int m_spot, .int m_sort, .int m_place, .int m_number, .int m_fault, .int m_wrongAt, .long m_word, .int m_askedOf, m_v, m_x, m_past, m_kept, .int m_acts, .int m_images, m_heir, m_then, .int m_catGets, .long m_whole, .long m_bestSum, m_come, m_comeThen, .int m_tourHoursNow, m_hour, m_partIn, m_heirIn, .int m_fitsNow, .int m_foundHour, .int m_lookLeft, .int m_firstCatNow]))] sz) (qi_ D res.1 (fun (u : Unit) => [(h_m, .inr (11, [.int res.2.1, .int res.2.2.1, .int res.2.2.2, .null, m_read, m_tape, .int m_taped, .int m_size, .int m_spot, .int m_sort, .int m_place, .int m_number, .int m_fault, .int m_wrongAt, .long m_word, .int m_askedOf, m_v, m_x, m_past, m_kept, .int m_acts, .int m_images, m_heir, m_then, .int m_catGets, .long m_whole, .long m_bestSum, m_come, m_comeThen, .int m_tourHoursNow, m_hour, m_partIn, m_heirIn, .int m_fitsNow, .int m_foundHour, .int m_lookLeft, .int m_firstCatNow]))]) (va_A [(h_m, .inr (11, [.int m_thrown, .int m_trouble, .int m_where, .null, m_read, m_tape, .int m_taped, .int m_size, .int m_spot, .int m_sort, .int m_place, .int m_number, .int m_fault, .int m_wrongAt, .long m_word, .int m_askedOf, m_v, m_x, m_past, m_kept, .int m_acts, .int m_images, m_heir, m_then, .int m_catGets, .long m_whole, .long m_bestSum, m_come, m_comeThen, .int m_tourHoursNow, m_hour, m_partIn, m_heirIn, .int m_fitsNow, .int m_foundHour, .int m_lookLeft, .int m_firstCatNow]))] sz)) 0 0 (va_A [(h_m, .inr (11, [.int m_thrown, .int m_trouble, .int m_where, .null, m_read, m_tape, .int m_taped, .int m_size, .int m_spot, .int m_sort, .int m_place, .int m_number, .int m_fault, .int m_wrongAt, .long m_word, .int m_askedOf, m_v, m_x, m_past, m_kept, .int m_acts, .int m_images, m_heir, m_then, .int m_catGets, .long m_whole, .long m_bestSum, m_come, m_comeThen, .int m_tourHoursNow, m_hour, m_partIn, m_heirIn, .int m_fitsNow, .int m_foundHour, .int m_lookLeft, .int m_firstCatNow]))] sz) := by
  refine Met.ofW (cc := cX7_hasThen) (maxL := 4) (ret := (some .int)) (by decide) rfl ?_
  intro p e s m args below meth c s₁ B hml hv
  obtain ⟨rfl, hsz, hP, hK, hD0⟩ := hv
  have hx := B.exec
  have hb := B.bytes
  have hr := B.returns
  have hts := atoms_spec (ws := (ws_ yX7_hasThen cX7_hasThen 4 (some .int))) B.pre
  have hts : ∀ w ∈ lw_all, w.before _ s = true := fun w h => hts w (List.mem_cons_of_mem _ h)
  have hown : s.vm.findClass RX7 = some m.cls := findClass_of_methodNamed B.named
  have hlocks := B.notSynchronized
  subst hsz
  have hD := hD0.self (sz := s.heap.size)
  generalize hAe : va_A [(h_m, .inr (11, [.int m_thrown, .int m_trouble, .int m_where, .null, m_read, m_tape, .int m_taped, .int m_size, .int m_spot, .int m_sort, .int m_place, .int m_number, .int m_fault, .int m_wrongAt, .long m_word, .int m_askedOf, m_v, m_x, m_past, m_kept, .int m_acts, .int m_images, m_heir, m_then, .int m_catGets, .long m_whole, .long m_bestSum, m_come, m_comeThen, .int m_tourHoursNow, m_hour, m_partIn, m_heirIn, .int m_fitsNow, .int m_foundHour, .int m_lookLeft, .int m_firstCatNow]))] s.heap.size = A at hD ⊢
  have hA : ∀ q : Nat, s.heap.size ≤ q → A q := fun q h => by rw [← hAe]; exact Or.inr h
  have hS : va_S A s.heap s.heap [] := va_S.rf
  have hP : va_P D clG [(h_m, .inr (11, [.int m_thrown, .int m_trouble, .int m_where, .null, m_read, m_tape, .int m_taped, .int m_size, .int m_spot, .int m_sort, .int m_place, .int m_number, .int m_fault, .int m_wrongAt, .long m_word, .int m_askedOf, m_v, m_x, m_past, m_kept, .int m_acts, .int m_images, m_heir, m_then, .int m_catGets, .long m_whole, .long m_bestSum, m_come, m_comeThen, .int m_tourHoursNow, m_hour, m_partIn, m_heirIn, .int m_fitsNow, .int m_foundHour, .int m_lookLeft, .int m_firstCatNow]))] s.heap := hP
  have hl := lv_entry ([.ref h_m, .int p0, .int p1]) (n := 4) (Nat.le_of_ble_eq_true rfl)
  rw [lg_entry_eq]
  generalize (lg_sl ([.ref h_m, .int p0, .int p1]) ++ List.replicate (4 - (lg_sl ([.ref h_m, .int p0, .int p1])).length) Slot.unset).toArray = ls at hl ⊢
  have hl : lv_has ls 4 [(0, .ref h_m), (1, .int p0), (2, .int p1)] := hl
  unfold MX7_hasThenN at hM
  refine lv_aload_n hx hb dX7_hasThen_0 rfl (lv_at hl 0 rfl) ?_
  refine lv_iconst (v := (0 : Int32)) hx hb dX7_hasThen_1 (by decide) ?_
  refine va_put (D := D) (ci := 11) (v := .int (0 : Int32)) (ty := .int) (C := RX7) (T := TX7) (N := 37) hx hb hts in_X7 tyX7 tyX7_ok nmX7 hown hK.1 hP hD hS 0 rfl rfl 0 (by decide) (hts _ q1372) (fun _ h9 => h9) rfl (by decide +kernel) rfl rfl (Nat.le_of_ble_eq_true rfl) dX7_hasThen_2 (fun H locs hP hD hS => ?_)
  have hP : va_P D clG [(h_m, .inr (11, [.int (0 : Int32), .int m_trouble, .int m_where, .null, m_read, m_tape, .int m_taped, .int m_size, .int m_spot, .int m_sort, .int m_place, .int m_number, .int m_fault, .int m_wrongAt, .long m_word, .int m_askedOf, m_v, m_x, m_past, m_kept, .int m_acts, .int m_images, m_heir, m_then, .int m_catGets, .long m_whole, .long m_bestSum, m_come, m_comeThen, .int m_tourHoursNow, m_hour, m_partIn, m_heirIn, .int m_fitsNow, .int m_foundHour, .int m_lookLeft, .int m_firstCatNow]))] H := hP
  have hD : va_D A [(h_m, .inr (11, [.int (0 : Int32), .int m_trouble, .int m_where, .null, m_read, m_tape, .int m_taped, .int m_size, .int m_spot, .int m_sort, .int m_place, .int m_number, .int m_fault, .int m_wrongAt, .long m_word, .int m_askedOf, m_v, m_x, m_past, m_kept, .int m_acts, .int m_images, m_heir, m_then, .int m_catGets, .long m_whole, .long m_bestSum, m_come, m_comeThen, .int m_tourHoursNow, m_hour, m_partIn, m_heirIn, .int m_fitsNow, .int m_foundHour, .int m_lookLeft, .int m_firstCatNow]))] := hD
  refine lv_aload_n hx hb dX7_hasThen_5 rfl (lv_at hl 0 rfl) ?_
  refine lv_iload_n hx hb dX7_hasThen_6 rfl (lv_at hl 1 rfl) ?_
  obtain ⟨r1, er1, hM⟩ := b_inv hM
  refine k_i0 [0] (va_runV (As := [.int p0]) (rest := []) ⟨hx, hb, hml, hown, hts⟩ (ctX7_refusesLivingN l D dA _ h_m p0 (0 : Int32) m_trouble m_where m_taped m_size m_spot m_sort m_place m_number m_fault m_wrongAt m_word m_askedOf m_acts m_images m_catGets m_whole m_bestSum m_tourHoursNow m_fitsNow m_foundHour m_lookLeft m_firstCatNow (m_read) (m_tape) (m_v) (m_x) (m_past) (m_kept) (m_heir) (m_then) (m_come) (m_comeThen) (m_hour) (m_partIn) (m_heirIn) r1 er1) (cwV 1 hts (lw_V q1761 q1763 qs76 q122 q1764) rfl rfl rfl (by decide +kernel) ⟨Nat.le_of_ble_eq_true rfl, Nat.le_of_ble_eq_true rfl⟩) (pre_V (hP.sub [0] rfl) hK (hD.sub [0] (by decide) rfl) (ci := 11) (q0 := 0) rfl rfl) rfl rfl hl.1 rfl (lv_room (Nat.le_of_ble_eq_true rfl)) dX7_hasThen_7 ⟨Nat.le_of_ble_eq_true rfl, Nat.le_of_ble_eq_true rfl⟩) hP hD hS hA rfl (fun _ => rfl) (fun u2 H locs hP hD hS => ?_)
  have hP : va_P D clG [(h_m, .inr (11, [.int (0 : Int32), .int m_trouble, .int m_where, .null, m_read, m_tape, .int m_taped, .int m_size, .int m_spot, .int m_sort, .int m_place, .int m_number, .int m_fault, .int m_wrongAt, .long m_word, .int m_askedOf, m_v, m_x, m_past, m_kept, .int m_acts, .int m_images, m_heir, m_then, .int m_catGets, .long m_whole, .long m_bestSum, m_come, m_comeThen, .int m_tourHoursNow, m_hour, m_partIn, m_heirIn, .int m_fitsNow, .int m_foundHour, .int m_lookLeft, .int m_firstCatNow]))] H := hP
  have hD : va_D A [(h_m, .inr (11, [.int (0 : Int32), .int m_trouble, .int m_where, .null, m_read, m_tape, .int m_taped, .int m_size, .int m_spot, .int m_sort, .int m_place, .int m_number, .int m_fault, .int m_wrongAt, .long m_word, .int m_askedOf, m_v, m_x, m_past, m_kept, .int m_acts, .int m_images, m_heir, m_then, .int m_catGets, .long m_whole, .long m_bestSum, m_come, m_comeThen, .int m_tourHoursNow, m_hour, m_partIn, m_heirIn, .int m_fitsNow, .int m_foundHour, .int m_lookLeft, .int m_firstCatNow]))] := hD
  have kr1 := krX7_refusesLivingN _ er1
  refine lv_toi (v := (1 : Int32)) (by rw [kr1]) ?_
  refine lv_istore_n (lv' := [(3, .int (1 : Int32)), (0, .ref h_m), (1, .int p0), (2, .int p1)]) hx hb dX7_hasThen_10 rfl hl (by decide) rfl (fun ls hl => ?_)
  refine lv_iload_n hx hb dX7_hasThen_11 rfl (lv_at hl 0 rfl) ?_
  refine lv_if_le (tgt := 21) hx hb dX7_hasThen_12 (by decide) (fun c3 => absurd c3 (by decide)) (fun _ => ?_)
  refine lv_aload_n hx hb dX7_hasThen_15 rfl (lv_at hl 1 rfl) ?_
  refine lv_iload_n hx hb dX7_hasThen_16 rfl (lv_at hl 0 rfl) ?_
  obtain ⟨r4, er4, hM⟩ := b_inv hM
  refine k_i0 [0] (va_runV (As := [.int (1 : Int32)]) (rest := []) ⟨hx, hb, hml, hown, hts⟩ (ctX7_refused l D dA _ h_m (1 : Int32) (0 : Int32) m_trouble m_where m_taped m_size m_spot m_sort m_place m_number m_fault m_wrongAt m_word m_askedOf m_acts m_images m_catGets m_whole m_bestSum m_tourHoursNow m_fitsNow m_foundHour m_lookLeft m_firstCatNow (.null) (m_read) (m_tape) (m_v) (m_x) (m_past) (m_kept) (m_heir) (m_then) (m_come) (m_comeThen) (m_hour) (m_partIn) (m_heirIn) r4 er4) (cwV 1 hts (lw_V q1496 q1498 qs50 q122 q1499) rfl rfl rfl (by decide +kernel) ⟨Nat.le_of_ble_eq_true rfl, Nat.le_of_ble_eq_true rfl⟩) (pre_V (hP.sub [0] rfl) hK (hD.sub [0] (by decide) rfl) (ci := 11) (q0 := 0) rfl rfl) rfl rfl hl.1 rfl (lv_room (Nat.le_of_ble_eq_true rfl)) dX7_hasThen_17 ⟨Nat.le_of_ble_eq_true rfl, Nat.le_of_ble_eq_true rfl⟩) hP hD hS hA rfl (fun _ => rfl) (fun u5 H locs hP hD hS => ?_)
  have hP : va_P D clG [(h_m, .inr (11, [.int (0 : Int32), .int r4.2.1, .int r4.2.2, .null, m_read, m_tape, .int m_taped, .int m_size, .int m_spot, .int m_sort, .int m_place, .int m_number, .int m_fault, .int m_wrongAt, .long m_word, .int m_askedOf, m_v, m_x, m_past, m_kept, .int m_acts, .int m_images, m_heir, m_then, .int m_catGets, .long m_whole, .long m_bestSum, m_come, m_comeThen, .int m_tourHoursNow, m_hour, m_partIn, m_heirIn, .int m_fitsNow, .int m_foundHour, .int m_lookLeft, .int m_firstCatNow]))] H := hP
  have hD : va_D A [(h_m, .inr (11, [.int (0 : Int32), .int r4.2.1, .int r4.2.2, .null, m_read, m_tape, .int m_taped, .int m_size, .int m_spot, .int m_sort, .int m_place, .int m_number, .int m_fault, .int m_wrongAt, .long m_word, .int m_askedOf, m_v, m_x, m_past, m_kept, .int m_acts, .int m_images, m_heir, m_then, .int m_catGets, .long m_whole, .long m_bestSum, m_come, m_comeThen, .int m_tourHoursNow, m_hour, m_partIn, m_heirIn, .int m_fitsNow, .int m_foundHour, .int m_lookLeft, .int m_firstCatNow]))] := hD
  have hM := Option.some.inj hM
  subst hM
  exact W.iret (v := r4.1) hx hb hr (fun t ht hW => ⟨⟨r4.1, (), rfl, rfl, by rw [ht]; exact hP, hD⟩, hS.F ht⟩) hS.2.2 dX7_hasThen_20

set_option maxHeartbeats 40000000 in
set_option maxRecDepth 100000 in
theorem ctX1_catThenN (l : Launch) (D : va_G) (dA : Nat → ClassId) (sz : Nat) (h_o : Nat) (p0 : Int32) (o_taped : Int32) (o_trouble : Int32) (o_fault : Int32) (o_where : Int32) (o_imageMany : Int32) (o_undoMany : Int32) (o_firstRest : Int32) (o_catAt : Int32) (o_tape : Value) (o_scanner : Value) (o_town : Value) (o_was : Value) (o_trial : Value) (o_night : Value) (o_plans : Value) (o_undone : Value) (o_images : Value) (o_often : Value) (o_next : Value) (res : (Int32 × Int32 × Int32)) (hM : MX1_catThenN  = some res) : Met l yX1_catThen (ws_ yX1_catThen cX1_catThen 3 (some .int)) ({ frames := 1, cells := 0, slots := 0, locals := 22 }) (pre_ D dA [.ref h_o, .int p0] [(h_o, .inr (0, [o_tape, .int o_taped, o_scanner, .null, .int o_trouble, .int o_fault, .int o_where, .int o_imageMany, .int o_undoMany, o_town, o_was, o_trial, o_night, o_plans, o_undone, o_images, o_often, .int o_firstRest, o_next, .int o_catAt]))] sz) (qi_ D res.1 (fun (u : Unit) => [(h_o, .inr (0, [o_tape, .int o_taped, o_scanner, .null, .int res.2.1, .int o_fault, .int res.2.2, .int o_imageMany, .int o_undoMany, o_town, o_was, o_trial, o_night, o_plans, o_undone, o_images, o_often, .int o_firstRest, o_next, .int o_catAt]))]) (va_A [(h_o, .inr (0, [o_tape, .int o_taped, o_scanner, .null, .int o_trouble, .int o_fault, .int o_where, .int o_imageMany, .int o_undoMany, o_town, o_was, o_trial, o_night, o_plans, o_undone, o_images, o_often, .int o_firstRest, o_next, .int o_catAt]))] sz)) 0 0 (va_A [(h_o, .inr (0, [o_tape, .int o_taped, o_scanner, .null, .int o_trouble, .int o_fault, .int o_where, .int o_imageMany, .int o_undoMany, o_town, o_was, o_trial, o_night, o_plans, o_undone, o_images, o_often, .int o_firstRest, o_next, .int o_catAt]))] sz) := by
  refine Met.ofW (cc := cX1_catThen) (maxL := 3) (ret := (some .int)) (by decide) rfl ?_
  intro p e s m args below meth c s₁ B hml hv
  obtain ⟨rfl, hsz, hP, hK, hD0⟩ := hv
  have hx := B.exec
  have hb := B.bytes
  have hr := B.returns
  have hts := atoms_spec (ws := (ws_ yX1_catThen cX1_catThen 3 (some .int))) B.pre
  have hts : ∀ w ∈ lw_all, w.before _ s = true := fun w h => hts w (List.mem_cons_of_mem _ h)
  have hown : s.vm.findClass RX1 = some m.cls := findClass_of_methodNamed B.named
  have hlocks := B.notSynchronized
  subst hsz
  have hD := hD0.self (sz := s.heap.size)
  generalize hAe : va_A [(h_o, .inr (0, [o_tape, .int o_taped, o_scanner, .null, .int o_trouble, .int o_fault, .int o_where, .int o_imageMany, .int o_undoMany, o_town, o_was, o_trial, o_night, o_plans, o_undone, o_images, o_often, .int o_firstRest, o_next, .int o_catAt]))] s.heap.size = A at hD ⊢
  have hA : ∀ q : Nat, s.heap.size ≤ q → A q := fun q h => by rw [← hAe]; exact Or.inr h
  have hS : va_S A s.heap s.heap [] := va_S.rf
  have hP : va_P D clG [(h_o, .inr (0, [o_tape, .int o_taped, o_scanner, .null, .int o_trouble, .int o_fault, .int o_where, .int o_imageMany, .int o_undoMany, o_town, o_was, o_trial, o_night, o_plans, o_undone, o_images, o_often, .int o_firstRest, o_next, .int o_catAt]))] s.heap := hP
  have hl := lv_entry ([.ref h_o, .int p0]) (n := 3) (Nat.le_of_ble_eq_true rfl)
  rw [lg_entry_eq]
  generalize (lg_sl ([.ref h_o, .int p0]) ++ List.replicate (3 - (lg_sl ([.ref h_o, .int p0])).length) Slot.unset).toArray = ls at hl ⊢
  have hl : lv_has ls 3 [(0, .ref h_o), (1, .int p0)] := hl
  unfold MX1_catThenN at hM
  refine lv_aload_n hx hb dX1_catThen_0 rfl (lv_at hl 0 rfl) ?_
  obtain ⟨r1, er1, hM⟩ := b_inv hM
  refine k_v0 [0] (va_runV (As := []) (rest := []) ⟨hx, hb, hml, hown, hts⟩ (ctX1_anew l D dA _ h_o o_taped o_trouble o_fault o_where o_imageMany o_undoMany o_firstRest o_catAt (o_tape) (o_scanner) (.null) (o_town) (o_was) (o_trial) (o_night) (o_plans) (o_undone) (o_images) (o_often) (o_next) r1 er1) (cwV 0 hts (lw_V q432 q434 qs2 q113 q435) rfl rfl rfl (by decide +kernel) ⟨Nat.le_of_ble_eq_true rfl, Nat.le_of_ble_eq_true rfl⟩) (pre_V (hP.sub [0] rfl) hK (hD.sub [0] (by decide) rfl) (ci := 0) (q0 := 0) rfl rfl) rfl rfl hl.1 rfl (lv_room (Nat.le_of_ble_eq_true rfl)) dX1_catThen_1 ⟨Nat.le_of_ble_eq_true rfl, Nat.le_of_ble_eq_true rfl⟩) hP hD hS hA rfl (fun _ => rfl) (fun u2 H locs hP hD hS => ?_)
  have hP : va_P D clG [(h_o, .inr (0, [o_tape, .int o_taped, o_scanner, .null, .int r1.1, .int o_fault, .int r1.2, .int o_imageMany, .int o_undoMany, o_town, o_was, o_trial, o_night, o_plans, o_undone, o_images, o_often, .int o_firstRest, o_next, .int o_catAt]))] H := hP
  have hD : va_D A [(h_o, .inr (0, [o_tape, .int o_taped, o_scanner, .null, .int r1.1, .int o_fault, .int r1.2, .int o_imageMany, .int o_undoMany, o_town, o_was, o_trial, o_night, o_plans, o_undone, o_images, o_often, .int o_firstRest, o_next, .int o_catAt]))] := hD
  refine lv_aload_n hx hb dX1_catThen_4 rfl (lv_at hl 0 rfl) ?_
  refine lv_aload_n hx hb dX1_catThen_5 rfl (lv_at hl 0 rfl) ?_
  refine va_get (D := D) (ci := 0) (v := .null) (C := RX1) (T := TX1) (N := 20) hx hb hts in_X1 hown hK.1 hP 0 rfl rfl 3 (by decide) (hts _ q361) (fun _ h9 => h9) rfl dX1_catThen_6 ?_
  refine lv_ifnullN (tgt := 16) hx hb dX1_catThen_9 (by decide) ?_
  refine lv_iconst (v := (0 : Int32)) hx hb dX1_catThen_16 (by decide) ?_
  refine lv_aload_n hx hb dX1_catThen_17 rfl (lv_at hl 0 rfl) ?_
  refine va_get (D := D) (ci := 0) (v := .null) (C := RX1) (T := TX1) (N := 20) hx hb hts in_X1 hown hK.1 hP 0 rfl rfl 3 (by decide) (hts _ q361) (fun _ h9 => h9) rfl dX1_catThen_18 ?_
  refine lv_ifnullN (tgt := 36) hx hb dX1_catThen_21 (by decide) ?_
  refine lv_iconst (v := (0 : Int32)) hx hb dX1_catThen_36 (by decide) ?_
  obtain ⟨r3, er3, hM⟩ := b_inv hM
  refine k_i0 [0] (va_runV (As := [.int (0 : Int32), .int (0 : Int32)]) (rest := []) ⟨hx, hb, hml, hown, hts⟩ (ctX1_numberWhy l D dA _ h_o false false o_taped r1.1 o_fault r1.2 o_imageMany o_undoMany o_firstRest o_catAt (o_tape) (o_scanner) (.null) (o_town) (o_was) (o_trial) (o_night) (o_plans) (o_undone) (o_images) (o_often) (o_next) r3 er3) (cwV 2 hts (lw_V q1022 q1024 qs31 q113 q1025) rfl rfl rfl (by decide +kernel) ⟨Nat.le_of_ble_eq_true rfl, Nat.le_of_ble_eq_true rfl⟩) (pre_V (hP.sub [0] rfl) hK (hD.sub [0] (by decide) rfl) (ci := 0) (q0 := 0) rfl rfl) rfl rfl hl.1 rfl (lv_room (Nat.le_of_ble_eq_true rfl)) dX1_catThen_37 ⟨Nat.le_of_ble_eq_true rfl, Nat.le_of_ble_eq_true rfl⟩) hP hD hS hA rfl (fun _ => rfl) (fun u4 H locs hP hD hS => ?_)
  have hP : va_P D clG [(h_o, .inr (0, [o_tape, .int o_taped, o_scanner, .null, .int r1.1, .int o_fault, .int r1.2, .int o_imageMany, .int o_undoMany, o_town, o_was, o_trial, o_night, o_plans, o_undone, o_images, o_often, .int o_firstRest, o_next, .int o_catAt]))] H := hP
  have hD : va_D A [(h_o, .inr (0, [o_tape, .int o_taped, o_scanner, .null, .int r1.1, .int o_fault, .int r1.2, .int o_imageMany, .int o_undoMany, o_town, o_was, o_trial, o_night, o_plans, o_undone, o_images, o_often, .int o_firstRest, o_next, .int o_catAt]))] := hD
  have kr3 := knw er3
  refine lv_toi (v := (1 : Int32)) (by rw [kr3]) ?_
  refine lv_istore_n (lv' := [(2, .int (1 : Int32)), (0, .ref h_o), (1, .int p0)]) hx hb dX1_catThen_40 rfl hl (by decide) rfl (fun ls hl => ?_)
  refine lv_iload_n hx hb dX1_catThen_41 rfl (lv_at hl 0 rfl) ?_
  refine lv_if_eq (tgt := 53) hx hb dX1_catThen_42 (by decide) (fun c5 => absurd c5 (by decide)) (fun _ => ?_)
  refine lv_aload_n hx hb dX1_catThen_45 rfl (lv_at hl 1 rfl) ?_
  refine lv_iload_n hx hb dX1_catThen_46 rfl (lv_at hl 0 rfl) ?_
  obtain ⟨r6, er6, hM⟩ := b_inv hM
  refine k_i0 [0] (va_runV (As := [.int (1 : Int32)]) (rest := []) ⟨hx, hb, hml, hown, hts⟩ (ctX1_no l D dA _ h_o (1 : Int32) o_taped r1.1 o_fault r1.2 o_imageMany o_undoMany o_firstRest o_catAt (o_tape) (o_scanner) (.null) (o_town) (o_was) (o_trial) (o_night) (o_plans) (o_undone) (o_images) (o_often) (o_next) r6 er6) (cwV 1 hts (lw_V q439 q441 qs3 q113 q442) rfl rfl rfl (by decide +kernel) ⟨Nat.le_of_ble_eq_true rfl, Nat.le_of_ble_eq_true rfl⟩) (pre_V (hP.sub [0] rfl) hK (hD.sub [0] (by decide) rfl) (ci := 0) (q0 := 0) rfl rfl) rfl rfl hl.1 rfl (lv_room (Nat.le_of_ble_eq_true rfl)) dX1_catThen_47 ⟨Nat.le_of_ble_eq_true rfl, Nat.le_of_ble_eq_true rfl⟩) hP hD hS hA rfl (fun _ => rfl) (fun u7 H locs hP hD hS => ?_)
  have hP : va_P D clG [(h_o, .inr (0, [o_tape, .int o_taped, o_scanner, .null, .int r6.2, .int o_fault, .int r1.2, .int o_imageMany, .int o_undoMany, o_town, o_was, o_trial, o_night, o_plans, o_undone, o_images, o_often, .int o_firstRest, o_next, .int o_catAt]))] H := hP
  have hD : va_D A [(h_o, .inr (0, [o_tape, .int o_taped, o_scanner, .null, .int r6.2, .int o_fault, .int r1.2, .int o_imageMany, .int o_undoMany, o_town, o_was, o_trial, o_night, o_plans, o_undone, o_images, o_often, .int o_firstRest, o_next, .int o_catAt]))] := hD
  refine lv_goto (tgt := 76) hx hb dX1_catThen_50 (by decide) ?_
  have hM := Option.some.inj hM
  subst hM
  exact W.iret (v := r6.1) hx hb hr (fun t ht hW => ⟨⟨r6.1, (), rfl, rfl, by rw [ht]; exact hP, hD⟩, hS.F ht⟩) hS.2.2 dX1_catThen_76

set_option maxHeartbeats 40000000 in
set_option maxRecDepth 100000 in
theorem ctX7_catThenN (l : Launch) (D : va_G) (dA : Nat → ClassId) (sz : Nat) (h_m : Nat) (p0 : Int32) (m_thrown : Int32) (m_trouble : Int32) (m_where : Int32) (m_taped : Int32) (m_size : Int32) (m_spot : Int32) (m_sort : Int32) (m_place : Int32) (m_number : Int32) (m_fault : Int32) (m_wrongAt : Int32) (m_word : Int64) (m_askedOf : Int32) (m_acts : Int32) (m_images : Int32) (m_catGets : Int32) (m_whole : Int64) (m_bestSum : Int64) (m_tourHoursNow : Int32) (m_fitsNow : Int32) (m_foundHour : Int32) (m_lookLeft : Int32) (m_firstCatNow : Int32) (m_read : Value) (m_tape : Value) (m_v : Value) (m_x : Value) (m_past : Value) (m_kept : Value) (m_heir : Value) (m_then : Value) (m_come : Value) (m_comeThen : Value) (m_hour : Value) (m_partIn : Value) (m_heirIn : Value) (res : (Int32 × Int32 × Int32 × Int32)) (hM : MX7_catThenN  = some res) : Met l yX7_catThen (ws_ yX7_catThen cX7_catThen 2 (some .int)) ({ frames := 1, cells := 0, slots := 0, locals := 21 }) (pre_ D dA [.ref h_m, .int p0] [(h_m, .inr (11, [.int m_thrown, .int m_trouble, .int m_where, .null, m_read, m_tape, .int m_taped, .int m_size, .int m_spot, .int m_sort, .int m_place, .int m_number, .int m_fault, .int m_wrongAt, .long m_word, .int m_askedOf, m_v, m_x, m_past, m_kept, .int m_acts, .int m_images, m_heir, m_then, .int m_catGets, .long m_whole, .long m_bestSum, m_come, m_comeThen, .int m_tourHoursNow, m_hour, m_partIn, m_heirIn, .int m_fitsNow, .int m_foundHour, .int m_lookLeft, .int m_firstCatNow]))] sz) (qi_ D res.1 (fun (u : Unit) => [(h_m, .inr (11, [.int res.2.1, .int res.2.2.1, .int res.2.2.2, .null, m_read, m_tape, .int m_taped, .int m_size, .int m_spot, .int m_sort, .int m_place, .int m_number, .int m_fault, .int m_wrongAt, .long m_word, .int m_askedOf, m_v, m_x, m_past, m_kept, .int m_acts, .int m_images, m_heir, m_then, .int m_catGets, .long m_whole, .long m_bestSum, m_come, m_comeThen, .int m_tourHoursNow, m_hour, m_partIn, m_heirIn, .int m_fitsNow, .int m_foundHour, .int m_lookLeft, .int m_firstCatNow]))]) (va_A [(h_m, .inr (11, [.int m_thrown, .int m_trouble, .int m_where, .null, m_read, m_tape, .int m_taped, .int m_size, .int m_spot, .int m_sort, .int m_place, .int m_number, .int m_fault, .int m_wrongAt, .long m_word, .int m_askedOf, m_v, m_x, m_past, m_kept, .int m_acts, .int m_images, m_heir, m_then, .int m_catGets, .long m_whole, .long m_bestSum, m_come, m_comeThen, .int m_tourHoursNow, m_hour, m_partIn, m_heirIn, .int m_fitsNow, .int m_foundHour, .int m_lookLeft, .int m_firstCatNow]))] sz)) 0 0 (va_A [(h_m, .inr (11, [.int m_thrown, .int m_trouble, .int m_where, .null, m_read, m_tape, .int m_taped, .int m_size, .int m_spot, .int m_sort, .int m_place, .int m_number, .int m_fault, .int m_wrongAt, .long m_word, .int m_askedOf, m_v, m_x, m_past, m_kept, .int m_acts, .int m_images, m_heir, m_then, .int m_catGets, .long m_whole, .long m_bestSum, m_come, m_comeThen, .int m_tourHoursNow, m_hour, m_partIn, m_heirIn, .int m_fitsNow, .int m_foundHour, .int m_lookLeft, .int m_firstCatNow]))] sz) := by
  refine Met.ofW (cc := cX7_catThen) (maxL := 2) (ret := (some .int)) (by decide) rfl ?_
  intro p e s m args below meth c s₁ B hml hv
  obtain ⟨rfl, hsz, hP, hK, hD0⟩ := hv
  have hx := B.exec
  have hb := B.bytes
  have hr := B.returns
  have hts := atoms_spec (ws := (ws_ yX7_catThen cX7_catThen 2 (some .int))) B.pre
  have hts : ∀ w ∈ lw_all, w.before _ s = true := fun w h => hts w (List.mem_cons_of_mem _ h)
  have hown : s.vm.findClass RX7 = some m.cls := findClass_of_methodNamed B.named
  have hlocks := B.notSynchronized
  subst hsz
  have hD := hD0.self (sz := s.heap.size)
  generalize hAe : va_A [(h_m, .inr (11, [.int m_thrown, .int m_trouble, .int m_where, .null, m_read, m_tape, .int m_taped, .int m_size, .int m_spot, .int m_sort, .int m_place, .int m_number, .int m_fault, .int m_wrongAt, .long m_word, .int m_askedOf, m_v, m_x, m_past, m_kept, .int m_acts, .int m_images, m_heir, m_then, .int m_catGets, .long m_whole, .long m_bestSum, m_come, m_comeThen, .int m_tourHoursNow, m_hour, m_partIn, m_heirIn, .int m_fitsNow, .int m_foundHour, .int m_lookLeft, .int m_firstCatNow]))] s.heap.size = A at hD ⊢
  have hA : ∀ q : Nat, s.heap.size ≤ q → A q := fun q h => by rw [← hAe]; exact Or.inr h
  have hS : va_S A s.heap s.heap [] := va_S.rf
  have hP : va_P D clG [(h_m, .inr (11, [.int m_thrown, .int m_trouble, .int m_where, .null, m_read, m_tape, .int m_taped, .int m_size, .int m_spot, .int m_sort, .int m_place, .int m_number, .int m_fault, .int m_wrongAt, .long m_word, .int m_askedOf, m_v, m_x, m_past, m_kept, .int m_acts, .int m_images, m_heir, m_then, .int m_catGets, .long m_whole, .long m_bestSum, m_come, m_comeThen, .int m_tourHoursNow, m_hour, m_partIn, m_heirIn, .int m_fitsNow, .int m_foundHour, .int m_lookLeft, .int m_firstCatNow]))] s.heap := hP
  have hl := lv_entry ([.ref h_m, .int p0]) (n := 2) (Nat.le_of_ble_eq_true rfl)
  rw [lg_entry_eq]
  generalize (lg_sl ([.ref h_m, .int p0]) ++ List.replicate (2 - (lg_sl ([.ref h_m, .int p0])).length) Slot.unset).toArray = ls at hl ⊢
  have hl : lv_has ls 2 [(0, .ref h_m), (1, .int p0)] := hl
  unfold MX7_catThenN at hM
  refine lv_aload_n hx hb dX7_catThen_0 rfl (lv_at hl 0 rfl) ?_
  refine lv_iconst (v := (0 : Int32)) hx hb dX7_catThen_1 (by decide) ?_
  refine va_put (D := D) (ci := 11) (v := .int (0 : Int32)) (ty := .int) (C := RX7) (T := TX7) (N := 37) hx hb hts in_X7 tyX7 tyX7_ok nmX7 hown hK.1 hP hD hS 0 rfl rfl 0 (by decide) (hts _ q1372) (fun _ h9 => h9) rfl (by decide +kernel) rfl rfl (Nat.le_of_ble_eq_true rfl) dX7_catThen_2 (fun H locs hP hD hS => ?_)
  have hP : va_P D clG [(h_m, .inr (11, [.int (0 : Int32), .int m_trouble, .int m_where, .null, m_read, m_tape, .int m_taped, .int m_size, .int m_spot, .int m_sort, .int m_place, .int m_number, .int m_fault, .int m_wrongAt, .long m_word, .int m_askedOf, m_v, m_x, m_past, m_kept, .int m_acts, .int m_images, m_heir, m_then, .int m_catGets, .long m_whole, .long m_bestSum, m_come, m_comeThen, .int m_tourHoursNow, m_hour, m_partIn, m_heirIn, .int m_fitsNow, .int m_foundHour, .int m_lookLeft, .int m_firstCatNow]))] H := hP
  have hD : va_D A [(h_m, .inr (11, [.int (0 : Int32), .int m_trouble, .int m_where, .null, m_read, m_tape, .int m_taped, .int m_size, .int m_spot, .int m_sort, .int m_place, .int m_number, .int m_fault, .int m_wrongAt, .long m_word, .int m_askedOf, m_v, m_x, m_past, m_kept, .int m_acts, .int m_images, m_heir, m_then, .int m_catGets, .long m_whole, .long m_bestSum, m_come, m_comeThen, .int m_tourHoursNow, m_hour, m_partIn, m_heirIn, .int m_fitsNow, .int m_foundHour, .int m_lookLeft, .int m_firstCatNow]))] := hD
  refine lv_aload_n hx hb dX7_catThen_5 rfl (lv_at hl 0 rfl) ?_
  refine va_get (D := D) (ci := 11) (v := .null) (C := RX7) (T := TX7) (N := 37) hx hb hts in_X7 hown hK.1 hP 0 rfl rfl 3 (by decide) (hts _ q1375) (fun _ h9 => h9) rfl dX7_catThen_6 ?_
  refine lv_ifnonnullN hx hb dX7_catThen_9 ?_
  refine lv_aload_n hx hb dX7_catThen_12 rfl (lv_at hl 0 rfl) ?_
  refine lv_iconst (v := (1 : Int32)) hx hb dX7_catThen_13 (by decide) ?_
  obtain ⟨r1, er1, hM⟩ := b_inv hM
  refine k_i0 [0] (va_runV (As := [.int (1 : Int32)]) (rest := []) ⟨hx, hb, hml, hown, hts⟩ (ctX7_refused l D dA _ h_m (1 : Int32) (0 : Int32) m_trouble m_where m_taped m_size m_spot m_sort m_place m_number m_fault m_wrongAt m_word m_askedOf m_acts m_images m_catGets m_whole m_bestSum m_tourHoursNow m_fitsNow m_foundHour m_lookLeft m_firstCatNow (.null) (m_read) (m_tape) (m_v) (m_x) (m_past) (m_kept) (m_heir) (m_then) (m_come) (m_comeThen) (m_hour) (m_partIn) (m_heirIn) r1 er1) (cwV 1 hts (lw_V q1496 q1498 qs50 q122 q1499) rfl rfl rfl (by decide +kernel) ⟨Nat.le_of_ble_eq_true rfl, Nat.le_of_ble_eq_true rfl⟩) (pre_V (hP.sub [0] rfl) hK (hD.sub [0] (by decide) rfl) (ci := 11) (q0 := 0) rfl rfl) rfl rfl hl.1 rfl (lv_room (Nat.le_of_ble_eq_true rfl)) dX7_catThen_14 ⟨Nat.le_of_ble_eq_true rfl, Nat.le_of_ble_eq_true rfl⟩) hP hD hS hA rfl (fun _ => rfl) (fun u2 H locs hP hD hS => ?_)
  have hP : va_P D clG [(h_m, .inr (11, [.int (0 : Int32), .int r1.2.1, .int r1.2.2, .null, m_read, m_tape, .int m_taped, .int m_size, .int m_spot, .int m_sort, .int m_place, .int m_number, .int m_fault, .int m_wrongAt, .long m_word, .int m_askedOf, m_v, m_x, m_past, m_kept, .int m_acts, .int m_images, m_heir, m_then, .int m_catGets, .long m_whole, .long m_bestSum, m_come, m_comeThen, .int m_tourHoursNow, m_hour, m_partIn, m_heirIn, .int m_fitsNow, .int m_foundHour, .int m_lookLeft, .int m_firstCatNow]))] H := hP
  have hD : va_D A [(h_m, .inr (11, [.int (0 : Int32), .int r1.2.1, .int r1.2.2, .null, m_read, m_tape, .int m_taped, .int m_size, .int m_spot, .int m_sort, .int m_place, .int m_number, .int m_fault, .int m_wrongAt, .long m_word, .int m_askedOf, m_v, m_x, m_past, m_kept, .int m_acts, .int m_images, m_heir, m_then, .int m_catGets, .long m_whole, .long m_bestSum, m_come, m_comeThen, .int m_tourHoursNow, m_hour, m_partIn, m_heirIn, .int m_fitsNow, .int m_foundHour, .int m_lookLeft, .int m_firstCatNow]))] := hD
  have hM := Option.some.inj hM
  subst hM
  exact W.iret (v := r1.1) hx hb hr (fun t ht hW => ⟨⟨r1.1, (), rfl, rfl, by rw [ht]; exact hP, hD⟩, hS.F ht⟩) hS.2.2 dX7_catThen_17

set_option maxHeartbeats 40000000 in
set_option maxRecDepth 100000 in
theorem ctX1_roundsN (l : Launch) (D : va_G) (dA : Nat → ClassId) (sz : Nat) (h_o : Nat) (o_taped : Int32) (o_trouble : Int32) (o_fault : Int32) (o_where : Int32) (o_imageMany : Int32) (o_undoMany : Int32) (o_firstRest : Int32) (o_catAt : Int32) (o_tape : Value) (o_scanner : Value) (o_town : Value) (o_was : Value) (o_trial : Value) (o_night : Value) (o_plans : Value) (o_undone : Value) (o_images : Value) (o_often : Value) (o_next : Value) (res : (Int32 × Int32 × Int32)) (hM : MX1_roundsN  = some res) : Met l yX1_rounds (ws_ yX1_rounds cX1_rounds 3 (some .int)) ({ frames := 1, cells := 0, slots := 0, locals := 21 }) (pre_ D dA [.ref h_o] [(h_o, .inr (0, [o_tape, .int o_taped, o_scanner, .null, .int o_trouble, .int o_fault, .int o_where, .int o_imageMany, .int o_undoMany, o_town, o_was, o_trial, o_night, o_plans, o_undone, o_images, o_often, .int o_firstRest, o_next, .int o_catAt]))] sz) (qi_ D res.1 (fun (u : Unit) => [(h_o, .inr (0, [o_tape, .int o_taped, o_scanner, .null, .int res.2.1, .int o_fault, .int res.2.2, .int o_imageMany, .int o_undoMany, o_town, o_was, o_trial, o_night, o_plans, o_undone, o_images, o_often, .int o_firstRest, o_next, .int o_catAt]))]) (va_A [(h_o, .inr (0, [o_tape, .int o_taped, o_scanner, .null, .int o_trouble, .int o_fault, .int o_where, .int o_imageMany, .int o_undoMany, o_town, o_was, o_trial, o_night, o_plans, o_undone, o_images, o_often, .int o_firstRest, o_next, .int o_catAt]))] sz)) 0 0 (va_A [(h_o, .inr (0, [o_tape, .int o_taped, o_scanner, .null, .int o_trouble, .int o_fault, .int o_where, .int o_imageMany, .int o_undoMany, o_town, o_was, o_trial, o_night, o_plans, o_undone, o_images, o_often, .int o_firstRest, o_next, .int o_catAt]))] sz) := by
  refine Met.ofW (cc := cX1_rounds) (maxL := 3) (ret := (some .int)) (by decide) rfl ?_
  intro p e s m args below meth c s₁ B hml hv
  obtain ⟨rfl, hsz, hP, hK, hD0⟩ := hv
  have hx := B.exec
  have hb := B.bytes
  have hr := B.returns
  have hts := atoms_spec (ws := (ws_ yX1_rounds cX1_rounds 3 (some .int))) B.pre
  have hts : ∀ w ∈ lw_all, w.before _ s = true := fun w h => hts w (List.mem_cons_of_mem _ h)
  have hown : s.vm.findClass RX1 = some m.cls := findClass_of_methodNamed B.named
  have hlocks := B.notSynchronized
  subst hsz
  have hD := hD0.self (sz := s.heap.size)
  generalize hAe : va_A [(h_o, .inr (0, [o_tape, .int o_taped, o_scanner, .null, .int o_trouble, .int o_fault, .int o_where, .int o_imageMany, .int o_undoMany, o_town, o_was, o_trial, o_night, o_plans, o_undone, o_images, o_often, .int o_firstRest, o_next, .int o_catAt]))] s.heap.size = A at hD ⊢
  have hA : ∀ q : Nat, s.heap.size ≤ q → A q := fun q h => by rw [← hAe]; exact Or.inr h
  have hS : va_S A s.heap s.heap [] := va_S.rf
  have hP : va_P D clG [(h_o, .inr (0, [o_tape, .int o_taped, o_scanner, .null, .int o_trouble, .int o_fault, .int o_where, .int o_imageMany, .int o_undoMany, o_town, o_was, o_trial, o_night, o_plans, o_undone, o_images, o_often, .int o_firstRest, o_next, .int o_catAt]))] s.heap := hP
  have hl := lv_entry ([.ref h_o]) (n := 3) (Nat.le_of_ble_eq_true rfl)
  rw [lg_entry_eq]
  generalize (lg_sl ([.ref h_o]) ++ List.replicate (3 - (lg_sl ([.ref h_o])).length) Slot.unset).toArray = ls at hl ⊢
  have hl : lv_has ls 3 [(0, .ref h_o)] := hl
  unfold MX1_roundsN at hM
  refine lv_aload_n hx hb dX1_rounds_0 rfl (lv_at hl 0 rfl) ?_
  obtain ⟨r1, er1, hM⟩ := b_inv hM
  refine k_v0 [0] (va_runV (As := []) (rest := []) ⟨hx, hb, hml, hown, hts⟩ (ctX1_anew l D dA _ h_o o_taped o_trouble o_fault o_where o_imageMany o_undoMany o_firstRest o_catAt (o_tape) (o_scanner) (.null) (o_town) (o_was) (o_trial) (o_night) (o_plans) (o_undone) (o_images) (o_often) (o_next) r1 er1) (cwV 0 hts (lw_V q432 q434 qs2 q113 q435) rfl rfl rfl (by decide +kernel) ⟨Nat.le_of_ble_eq_true rfl, Nat.le_of_ble_eq_true rfl⟩) (pre_V (hP.sub [0] rfl) hK (hD.sub [0] (by decide) rfl) (ci := 0) (q0 := 0) rfl rfl) rfl rfl hl.1 rfl (lv_room (Nat.le_of_ble_eq_true rfl)) dX1_rounds_1 ⟨Nat.le_of_ble_eq_true rfl, Nat.le_of_ble_eq_true rfl⟩) hP hD hS hA rfl (fun _ => rfl) (fun u2 H locs hP hD hS => ?_)
  have hP : va_P D clG [(h_o, .inr (0, [o_tape, .int o_taped, o_scanner, .null, .int r1.1, .int o_fault, .int r1.2, .int o_imageMany, .int o_undoMany, o_town, o_was, o_trial, o_night, o_plans, o_undone, o_images, o_often, .int o_firstRest, o_next, .int o_catAt]))] H := hP
  have hD : va_D A [(h_o, .inr (0, [o_tape, .int o_taped, o_scanner, .null, .int r1.1, .int o_fault, .int r1.2, .int o_imageMany, .int o_undoMany, o_town, o_was, o_trial, o_night, o_plans, o_undone, o_images, o_often, .int o_firstRest, o_next, .int o_catAt]))] := hD
  refine lv_aload_n hx hb dX1_rounds_4 rfl (lv_at hl 0 rfl) ?_
  refine va_get (D := D) (ci := 0) (v := .null) (C := RX1) (T := TX1) (N := 20) hx hb hts in_X1 hown hK.1 hP 0 rfl rfl 3 (by decide) (hts _ q361) (fun _ h9 => h9) rfl dX1_rounds_5 ?_
  refine lv_ifnonnullN hx hb dX1_rounds_8 ?_
  refine lv_aload_n hx hb dX1_rounds_11 rfl (lv_at hl 0 rfl) ?_
  refine lv_iconst (v := (1 : Int32)) hx hb dX1_rounds_12 (by decide) ?_
  obtain ⟨r3, er3, hM⟩ := b_inv hM
  refine k_i0 [0] (va_runV (As := [.int (1 : Int32)]) (rest := []) ⟨hx, hb, hml, hown, hts⟩ (ctX1_no l D dA _ h_o (1 : Int32) o_taped r1.1 o_fault r1.2 o_imageMany o_undoMany o_firstRest o_catAt (o_tape) (o_scanner) (.null) (o_town) (o_was) (o_trial) (o_night) (o_plans) (o_undone) (o_images) (o_often) (o_next) r3 er3) (cwV 1 hts (lw_V q439 q441 qs3 q113 q442) rfl rfl rfl (by decide +kernel) ⟨Nat.le_of_ble_eq_true rfl, Nat.le_of_ble_eq_true rfl⟩) (pre_V (hP.sub [0] rfl) hK (hD.sub [0] (by decide) rfl) (ci := 0) (q0 := 0) rfl rfl) rfl rfl hl.1 rfl (lv_room (Nat.le_of_ble_eq_true rfl)) dX1_rounds_13 ⟨Nat.le_of_ble_eq_true rfl, Nat.le_of_ble_eq_true rfl⟩) hP hD hS hA rfl (fun _ => rfl) (fun u4 H locs hP hD hS => ?_)
  have hP : va_P D clG [(h_o, .inr (0, [o_tape, .int o_taped, o_scanner, .null, .int r3.2, .int o_fault, .int r1.2, .int o_imageMany, .int o_undoMany, o_town, o_was, o_trial, o_night, o_plans, o_undone, o_images, o_often, .int o_firstRest, o_next, .int o_catAt]))] H := hP
  have hD : va_D A [(h_o, .inr (0, [o_tape, .int o_taped, o_scanner, .null, .int r3.2, .int o_fault, .int r1.2, .int o_imageMany, .int o_undoMany, o_town, o_was, o_trial, o_night, o_plans, o_undone, o_images, o_often, .int o_firstRest, o_next, .int o_catAt]))] := hD
  have hM := Option.some.inj hM
  subst hM
  exact W.iret (v := r3.1) hx hb hr (fun t ht hW => ⟨⟨r3.1, (), rfl, rfl, by rw [ht]; exact hP, hD⟩, hS.F ht⟩) hS.2.2 dX1_rounds_16

set_option maxHeartbeats 40000000 in
set_option maxRecDepth 100000 in
theorem ctX7_roundsN (l : Launch) (D : va_G) (dA : Nat → ClassId) (sz : Nat) (h_m : Nat) (m_thrown : Int32) (m_trouble : Int32) (m_where : Int32) (m_taped : Int32) (m_size : Int32) (m_spot : Int32) (m_sort : Int32) (m_place : Int32) (m_number : Int32) (m_fault : Int32) (m_wrongAt : Int32) (m_word : Int64) (m_askedOf : Int32) (m_acts : Int32) (m_images : Int32) (m_catGets : Int32) (m_whole : Int64) (m_bestSum : Int64) (m_tourHoursNow : Int32) (m_fitsNow : Int32) (m_foundHour : Int32) (m_lookLeft : Int32) (m_firstCatNow : Int32) (m_read : Value) (m_tape : Value) (m_v : Value) (m_x : Value) (m_past : Value) (m_kept : Value) (m_heir : Value) (m_then : Value) (m_come : Value) (m_comeThen : Value) (m_hour : Value) (m_partIn : Value) (m_heirIn : Value) (res : (Int32 × Int32 × Int32 × Int32)) (hM : MX7_roundsN  = some res) : Met l yX7_rounds (ws_ yX7_rounds cX7_rounds 5 (some .int)) ({ frames := 1, cells := 0, slots := 0, locals := 21 }) (pre_ D dA [.ref h_m] [(h_m, .inr (11, [.int m_thrown, .int m_trouble, .int m_where, .null, m_read, m_tape, .int m_taped, .int m_size, .int m_spot, .int m_sort, .int m_place, .int m_number, .int m_fault, .int m_wrongAt, .long m_word, .int m_askedOf, m_v, m_x, m_past, m_kept, .int m_acts, .int m_images, m_heir, m_then, .int m_catGets, .long m_whole, .long m_bestSum, m_come, m_comeThen, .int m_tourHoursNow, m_hour, m_partIn, m_heirIn, .int m_fitsNow, .int m_foundHour, .int m_lookLeft, .int m_firstCatNow]))] sz) (qi_ D res.1 (fun (u : Unit) => [(h_m, .inr (11, [.int res.2.1, .int res.2.2.1, .int res.2.2.2, .null, m_read, m_tape, .int m_taped, .int m_size, .int m_spot, .int m_sort, .int m_place, .int m_number, .int m_fault, .int m_wrongAt, .long m_word, .int m_askedOf, m_v, m_x, m_past, m_kept, .int m_acts, .int m_images, m_heir, m_then, .int m_catGets, .long m_whole, .long m_bestSum, m_come, m_comeThen, .int m_tourHoursNow, m_hour, m_partIn, m_heirIn, .int m_fitsNow, .int m_foundHour, .int m_lookLeft, .int m_firstCatNow]))]) (va_A [(h_m, .inr (11, [.int m_thrown, .int m_trouble, .int m_where, .null, m_read, m_tape, .int m_taped, .int m_size, .int m_spot, .int m_sort, .int m_place, .int m_number, .int m_fault, .int m_wrongAt, .long m_word, .int m_askedOf, m_v, m_x, m_past, m_kept, .int m_acts, .int m_images, m_heir, m_then, .int m_catGets, .long m_whole, .long m_bestSum, m_come, m_comeThen, .int m_tourHoursNow, m_hour, m_partIn, m_heirIn, .int m_fitsNow, .int m_foundHour, .int m_lookLeft, .int m_firstCatNow]))] sz)) 0 0 (va_A [(h_m, .inr (11, [.int m_thrown, .int m_trouble, .int m_where, .null, m_read, m_tape, .int m_taped, .int m_size, .int m_spot, .int m_sort, .int m_place, .int m_number, .int m_fault, .int m_wrongAt, .long m_word, .int m_askedOf, m_v, m_x, m_past, m_kept, .int m_acts, .int m_images, m_heir, m_then, .int m_catGets, .long m_whole, .long m_bestSum, m_come, m_comeThen, .int m_tourHoursNow, m_hour, m_partIn, m_heirIn, .int m_fitsNow, .int m_foundHour, .int m_lookLeft, .int m_firstCatNow]))] sz) := by
  refine Met.ofW (cc := cX7_rounds) (maxL := 5) (ret := (some .int)) (by decide) rfl ?_
  intro p e s m args below meth c s₁ B hml hv
  obtain ⟨rfl, hsz, hP, hK, hD0⟩ := hv
  have hx := B.exec
  have hb := B.bytes
  have hr := B.returns
  have hts := atoms_spec (ws := (ws_ yX7_rounds cX7_rounds 5 (some .int))) B.pre
  have hts : ∀ w ∈ lw_all, w.before _ s = true := fun w h => hts w (List.mem_cons_of_mem _ h)
  have hown : s.vm.findClass RX7 = some m.cls := findClass_of_methodNamed B.named
  have hlocks := B.notSynchronized
  subst hsz
  have hD := hD0.self (sz := s.heap.size)
  generalize hAe : va_A [(h_m, .inr (11, [.int m_thrown, .int m_trouble, .int m_where, .null, m_read, m_tape, .int m_taped, .int m_size, .int m_spot, .int m_sort, .int m_place, .int m_number, .int m_fault, .int m_wrongAt, .long m_word, .int m_askedOf, m_v, m_x, m_past, m_kept, .int m_acts, .int m_images, m_heir, m_then, .int m_catGets, .long m_whole, .long m_bestSum, m_come, m_comeThen, .int m_tourHoursNow, m_hour, m_partIn, m_heirIn, .int m_fitsNow, .int m_foundHour, .int m_lookLeft, .int m_firstCatNow]))] s.heap.size = A at hD ⊢
  have hA : ∀ q : Nat, s.heap.size ≤ q → A q := fun q h => by rw [← hAe]; exact Or.inr h
  have hS : va_S A s.heap s.heap [] := va_S.rf
  have hP : va_P D clG [(h_m, .inr (11, [.int m_thrown, .int m_trouble, .int m_where, .null, m_read, m_tape, .int m_taped, .int m_size, .int m_spot, .int m_sort, .int m_place, .int m_number, .int m_fault, .int m_wrongAt, .long m_word, .int m_askedOf, m_v, m_x, m_past, m_kept, .int m_acts, .int m_images, m_heir, m_then, .int m_catGets, .long m_whole, .long m_bestSum, m_come, m_comeThen, .int m_tourHoursNow, m_hour, m_partIn, m_heirIn, .int m_fitsNow, .int m_foundHour, .int m_lookLeft, .int m_firstCatNow]))] s.heap := hP
  have hl := lv_entry ([.ref h_m]) (n := 5) (Nat.le_of_ble_eq_true rfl)
  rw [lg_entry_eq]
  generalize (lg_sl ([.ref h_m]) ++ List.replicate (5 - (lg_sl ([.ref h_m])).length) Slot.unset).toArray = ls at hl ⊢
  have hl : lv_has ls 5 [(0, .ref h_m)] := hl
  unfold MX7_roundsN at hM
  refine lv_aload_n hx hb dX7_rounds_0 rfl (lv_at hl 0 rfl) ?_
  refine lv_iconst (v := (0 : Int32)) hx hb dX7_rounds_1 (by decide) ?_
  refine va_put (D := D) (ci := 11) (v := .int (0 : Int32)) (ty := .int) (C := RX7) (T := TX7) (N := 37) hx hb hts in_X7 tyX7 tyX7_ok nmX7 hown hK.1 hP hD hS 0 rfl rfl 0 (by decide) (hts _ q1372) (fun _ h9 => h9) rfl (by decide +kernel) rfl rfl (Nat.le_of_ble_eq_true rfl) dX7_rounds_2 (fun H locs hP hD hS => ?_)
  have hP : va_P D clG [(h_m, .inr (11, [.int (0 : Int32), .int m_trouble, .int m_where, .null, m_read, m_tape, .int m_taped, .int m_size, .int m_spot, .int m_sort, .int m_place, .int m_number, .int m_fault, .int m_wrongAt, .long m_word, .int m_askedOf, m_v, m_x, m_past, m_kept, .int m_acts, .int m_images, m_heir, m_then, .int m_catGets, .long m_whole, .long m_bestSum, m_come, m_comeThen, .int m_tourHoursNow, m_hour, m_partIn, m_heirIn, .int m_fitsNow, .int m_foundHour, .int m_lookLeft, .int m_firstCatNow]))] H := hP
  have hD : va_D A [(h_m, .inr (11, [.int (0 : Int32), .int m_trouble, .int m_where, .null, m_read, m_tape, .int m_taped, .int m_size, .int m_spot, .int m_sort, .int m_place, .int m_number, .int m_fault, .int m_wrongAt, .long m_word, .int m_askedOf, m_v, m_x, m_past, m_kept, .int m_acts, .int m_images, m_heir, m_then, .int m_catGets, .long m_whole, .long m_bestSum, m_come, m_comeThen, .int m_tourHoursNow, m_hour, m_partIn, m_heirIn, .int m_fitsNow, .int m_foundHour, .int m_lookLeft, .int m_firstCatNow]))] := hD
  refine lv_aload_n hx hb dX7_rounds_5 rfl (lv_at hl 0 rfl) ?_
  refine va_get (D := D) (ci := 11) (v := .null) (C := RX7) (T := TX7) (N := 37) hx hb hts in_X7 hown hK.1 hP 0 rfl rfl 3 (by decide) (hts _ q1375) (fun _ h9 => h9) rfl dX7_rounds_6 ?_
  refine lv_ifnonnullN hx hb dX7_rounds_9 ?_
  refine lv_aload_n hx hb dX7_rounds_12 rfl (lv_at hl 0 rfl) ?_
  refine lv_iconst (v := (1 : Int32)) hx hb dX7_rounds_13 (by decide) ?_
  obtain ⟨r1, er1, hM⟩ := b_inv hM
  refine k_i0 [0] (va_runV (As := [.int (1 : Int32)]) (rest := []) ⟨hx, hb, hml, hown, hts⟩ (ctX7_refused l D dA _ h_m (1 : Int32) (0 : Int32) m_trouble m_where m_taped m_size m_spot m_sort m_place m_number m_fault m_wrongAt m_word m_askedOf m_acts m_images m_catGets m_whole m_bestSum m_tourHoursNow m_fitsNow m_foundHour m_lookLeft m_firstCatNow (.null) (m_read) (m_tape) (m_v) (m_x) (m_past) (m_kept) (m_heir) (m_then) (m_come) (m_comeThen) (m_hour) (m_partIn) (m_heirIn) r1 er1) (cwV 1 hts (lw_V q1496 q1498 qs50 q122 q1499) rfl rfl rfl (by decide +kernel) ⟨Nat.le_of_ble_eq_true rfl, Nat.le_of_ble_eq_true rfl⟩) (pre_V (hP.sub [0] rfl) hK (hD.sub [0] (by decide) rfl) (ci := 11) (q0 := 0) rfl rfl) rfl rfl hl.1 rfl (lv_room (Nat.le_of_ble_eq_true rfl)) dX7_rounds_14 ⟨Nat.le_of_ble_eq_true rfl, Nat.le_of_ble_eq_true rfl⟩) hP hD hS hA rfl (fun _ => rfl) (fun u2 H locs hP hD hS => ?_)
  have hP : va_P D clG [(h_m, .inr (11, [.int (0 : Int32), .int r1.2.1, .int r1.2.2, .null, m_read, m_tape, .int m_taped, .int m_size, .int m_spot, .int m_sort, .int m_place, .int m_number, .int m_fault, .int m_wrongAt, .long m_word, .int m_askedOf, m_v, m_x, m_past, m_kept, .int m_acts, .int m_images, m_heir, m_then, .int m_catGets, .long m_whole, .long m_bestSum, m_come, m_comeThen, .int m_tourHoursNow, m_hour, m_partIn, m_heirIn, .int m_fitsNow, .int m_foundHour, .int m_lookLeft, .int m_firstCatNow]))] H := hP
  have hD : va_D A [(h_m, .inr (11, [.int (0 : Int32), .int r1.2.1, .int r1.2.2, .null, m_read, m_tape, .int m_taped, .int m_size, .int m_spot, .int m_sort, .int m_place, .int m_number, .int m_fault, .int m_wrongAt, .long m_word, .int m_askedOf, m_v, m_x, m_past, m_kept, .int m_acts, .int m_images, m_heir, m_then, .int m_catGets, .long m_whole, .long m_bestSum, m_come, m_comeThen, .int m_tourHoursNow, m_hour, m_partIn, m_heirIn, .int m_fitsNow, .int m_foundHour, .int m_lookLeft, .int m_firstCatNow]))] := hD
  have hM := Option.some.inj hM
  subst hM
  exact W.iret (v := r1.1) hx hb hr (fun t ht hW => ⟨⟨r1.1, (), rfl, rfl, by rw [ht]; exact hP, hD⟩, hS.F ht⟩) hS.2.2 dX7_rounds_17

set_option maxHeartbeats 40000000 in
set_option maxRecDepth 100000 in
theorem ctX1_worthiestN (l : Launch) (D : va_G) (dA : Nat → ClassId) (sz : Nat) (h_o : Nat) (o_taped : Int32) (o_trouble : Int32) (o_fault : Int32) (o_where : Int32) (o_imageMany : Int32) (o_undoMany : Int32) (o_firstRest : Int32) (o_catAt : Int32) (o_tape : Value) (o_scanner : Value) (o_town : Value) (o_was : Value) (o_trial : Value) (o_night : Value) (o_plans : Value) (o_undone : Value) (o_images : Value) (o_often : Value) (o_next : Value) (res : (Int32 × Int32 × Int32)) (hM : MX1_worthiestN  = some res) : Met l yX1_worthiest (ws_ yX1_worthiest cX1_worthiest 3 (some .int)) ({ frames := 1, cells := 0, slots := 0, locals := 21 }) (pre_ D dA [.ref h_o] [(h_o, .inr (0, [o_tape, .int o_taped, o_scanner, .null, .int o_trouble, .int o_fault, .int o_where, .int o_imageMany, .int o_undoMany, o_town, o_was, o_trial, o_night, o_plans, o_undone, o_images, o_often, .int o_firstRest, o_next, .int o_catAt]))] sz) (qi_ D res.1 (fun (u : Unit) => [(h_o, .inr (0, [o_tape, .int o_taped, o_scanner, .null, .int res.2.1, .int o_fault, .int res.2.2, .int o_imageMany, .int o_undoMany, o_town, o_was, o_trial, o_night, o_plans, o_undone, o_images, o_often, .int o_firstRest, o_next, .int o_catAt]))]) (va_A [(h_o, .inr (0, [o_tape, .int o_taped, o_scanner, .null, .int o_trouble, .int o_fault, .int o_where, .int o_imageMany, .int o_undoMany, o_town, o_was, o_trial, o_night, o_plans, o_undone, o_images, o_often, .int o_firstRest, o_next, .int o_catAt]))] sz)) 0 0 (va_A [(h_o, .inr (0, [o_tape, .int o_taped, o_scanner, .null, .int o_trouble, .int o_fault, .int o_where, .int o_imageMany, .int o_undoMany, o_town, o_was, o_trial, o_night, o_plans, o_undone, o_images, o_often, .int o_firstRest, o_next, .int o_catAt]))] sz) := by
  refine Met.ofW (cc := cX1_worthiest) (maxL := 3) (ret := (some .int)) (by decide) rfl ?_
  intro p e s m args below meth c s₁ B hml hv
  obtain ⟨rfl, hsz, hP, hK, hD0⟩ := hv
  have hx := B.exec
  have hb := B.bytes
  have hr := B.returns
  have hts := atoms_spec (ws := (ws_ yX1_worthiest cX1_worthiest 3 (some .int))) B.pre
  have hts : ∀ w ∈ lw_all, w.before _ s = true := fun w h => hts w (List.mem_cons_of_mem _ h)
  have hown : s.vm.findClass RX1 = some m.cls := findClass_of_methodNamed B.named
  have hlocks := B.notSynchronized
  subst hsz
  have hD := hD0.self (sz := s.heap.size)
  generalize hAe : va_A [(h_o, .inr (0, [o_tape, .int o_taped, o_scanner, .null, .int o_trouble, .int o_fault, .int o_where, .int o_imageMany, .int o_undoMany, o_town, o_was, o_trial, o_night, o_plans, o_undone, o_images, o_often, .int o_firstRest, o_next, .int o_catAt]))] s.heap.size = A at hD ⊢
  have hA : ∀ q : Nat, s.heap.size ≤ q → A q := fun q h => by rw [← hAe]; exact Or.inr h
  have hS : va_S A s.heap s.heap [] := va_S.rf
  have hP : va_P D clG [(h_o, .inr (0, [o_tape, .int o_taped, o_scanner, .null, .int o_trouble, .int o_fault, .int o_where, .int o_imageMany, .int o_undoMany, o_town, o_was, o_trial, o_night, o_plans, o_undone, o_images, o_often, .int o_firstRest, o_next, .int o_catAt]))] s.heap := hP
  have hl := lv_entry ([.ref h_o]) (n := 3) (Nat.le_of_ble_eq_true rfl)
  rw [lg_entry_eq]
  generalize (lg_sl ([.ref h_o]) ++ List.replicate (3 - (lg_sl ([.ref h_o])).length) Slot.unset).toArray = ls at hl ⊢
  have hl : lv_has ls 3 [(0, .ref h_o)] := hl
  unfold MX1_worthiestN at hM
  refine lv_aload_n hx hb dX1_worthiest_0 rfl (lv_at hl 0 rfl) ?_
  obtain ⟨r1, er1, hM⟩ := b_inv hM
  refine k_v0 [0] (va_runV (As := []) (rest := []) ⟨hx, hb, hml, hown, hts⟩ (ctX1_anew l D dA _ h_o o_taped o_trouble o_fault o_where o_imageMany o_undoMany o_firstRest o_catAt (o_tape) (o_scanner) (.null) (o_town) (o_was) (o_trial) (o_night) (o_plans) (o_undone) (o_images) (o_often) (o_next) r1 er1) (cwV 0 hts (lw_V q432 q434 qs2 q113 q435) rfl rfl rfl (by decide +kernel) ⟨Nat.le_of_ble_eq_true rfl, Nat.le_of_ble_eq_true rfl⟩) (pre_V (hP.sub [0] rfl) hK (hD.sub [0] (by decide) rfl) (ci := 0) (q0 := 0) rfl rfl) rfl rfl hl.1 rfl (lv_room (Nat.le_of_ble_eq_true rfl)) dX1_worthiest_1 ⟨Nat.le_of_ble_eq_true rfl, Nat.le_of_ble_eq_true rfl⟩) hP hD hS hA rfl (fun _ => rfl) (fun u2 H locs hP hD hS => ?_)
  have hP : va_P D clG [(h_o, .inr (0, [o_tape, .int o_taped, o_scanner, .null, .int r1.1, .int o_fault, .int r1.2, .int o_imageMany, .int o_undoMany, o_town, o_was, o_trial, o_night, o_plans, o_undone, o_images, o_often, .int o_firstRest, o_next, .int o_catAt]))] H := hP
  have hD : va_D A [(h_o, .inr (0, [o_tape, .int o_taped, o_scanner, .null, .int r1.1, .int o_fault, .int r1.2, .int o_imageMany, .int o_undoMany, o_town, o_was, o_trial, o_night, o_plans, o_undone, o_images, o_often, .int o_firstRest, o_next, .int o_catAt]))] := hD
  refine lv_aload_n hx hb dX1_worthiest_4 rfl (lv_at hl 0 rfl) ?_
  refine va_get (D := D) (ci := 0) (v := .null) (C := RX1) (T := TX1) (N := 20) hx hb hts in_X1 hown hK.1 hP 0 rfl rfl 3 (by decide) (hts _ q361) (fun _ h9 => h9) rfl dX1_worthiest_5 ?_
  refine lv_ifnonnullN hx hb dX1_worthiest_8 ?_
  refine lv_aload_n hx hb dX1_worthiest_11 rfl (lv_at hl 0 rfl) ?_
  refine lv_iconst (v := (1 : Int32)) hx hb dX1_worthiest_12 (by decide) ?_
  obtain ⟨r3, er3, hM⟩ := b_inv hM
  refine k_i0 [0] (va_runV (As := [.int (1 : Int32)]) (rest := []) ⟨hx, hb, hml, hown, hts⟩ (ctX1_no l D dA _ h_o (1 : Int32) o_taped r1.1 o_fault r1.2 o_imageMany o_undoMany o_firstRest o_catAt (o_tape) (o_scanner) (.null) (o_town) (o_was) (o_trial) (o_night) (o_plans) (o_undone) (o_images) (o_often) (o_next) r3 er3) (cwV 1 hts (lw_V q439 q441 qs3 q113 q442) rfl rfl rfl (by decide +kernel) ⟨Nat.le_of_ble_eq_true rfl, Nat.le_of_ble_eq_true rfl⟩) (pre_V (hP.sub [0] rfl) hK (hD.sub [0] (by decide) rfl) (ci := 0) (q0 := 0) rfl rfl) rfl rfl hl.1 rfl (lv_room (Nat.le_of_ble_eq_true rfl)) dX1_worthiest_13 ⟨Nat.le_of_ble_eq_true rfl, Nat.le_of_ble_eq_true rfl⟩) hP hD hS hA rfl (fun _ => rfl) (fun u4 H locs hP hD hS => ?_)
  have hP : va_P D clG [(h_o, .inr (0, [o_tape, .int o_taped, o_scanner, .null, .int r3.2, .int o_fault, .int r1.2, .int o_imageMany, .int o_undoMany, o_town, o_was, o_trial, o_night, o_plans, o_undone, o_images, o_often, .int o_firstRest, o_next, .int o_catAt]))] H := hP
  have hD : va_D A [(h_o, .inr (0, [o_tape, .int o_taped, o_scanner, .null, .int r3.2, .int o_fault, .int r1.2, .int o_imageMany, .int o_undoMany, o_town, o_was, o_trial, o_night, o_plans, o_undone, o_images, o_often, .int o_firstRest, o_next, .int o_catAt]))] := hD
  have hM := Option.some.inj hM
  subst hM
  exact W.iret (v := r3.1) hx hb hr (fun t ht hW => ⟨⟨r3.1, (), rfl, rfl, by rw [ht]; exact hP, hD⟩, hS.F ht⟩) hS.2.2 dX1_worthiest_16

set_option maxHeartbeats 40000000 in
set_option maxRecDepth 100000 in
theorem ctX7_worthiestN (l : Launch) (D : va_G) (dA : Nat → ClassId) (sz : Nat) (h_m : Nat) (m_thrown : Int32) (m_trouble : Int32) (m_where : Int32) (m_taped : Int32) (m_size : Int32) (m_spot : Int32) (m_sort : Int32) (m_place : Int32) (m_number : Int32) (m_fault : Int32) (m_wrongAt : Int32) (m_word : Int64) (m_askedOf : Int32) (m_acts : Int32) (m_images : Int32) (m_catGets : Int32) (m_whole : Int64) (m_bestSum : Int64) (m_tourHoursNow : Int32) (m_fitsNow : Int32) (m_foundHour : Int32) (m_lookLeft : Int32) (m_firstCatNow : Int32) (m_read : Value) (m_tape : Value) (m_v : Value) (m_x : Value) (m_past : Value) (m_kept : Value) (m_heir : Value) (m_then : Value) (m_come : Value) (m_comeThen : Value) (m_hour : Value) (m_partIn : Value) (m_heirIn : Value) (res : (Int32 × Int32 × Int32 × Int32)) (hM : MX7_worthiestN  = some res) : Met l yX7_worthiest (ws_ yX7_worthiest cX7_worthiest 4 (some .int)) ({ frames := 1, cells := 0, slots := 0, locals := 21 }) (pre_ D dA [.ref h_m] [(h_m, .inr (11, [.int m_thrown, .int m_trouble, .int m_where, .null, m_read, m_tape, .int m_taped, .int m_size, .int m_spot, .int m_sort, .int m_place, .int m_number, .int m_fault, .int m_wrongAt, .long m_word, .int m_askedOf, m_v, m_x, m_past, m_kept, .int m_acts, .int m_images, m_heir, m_then, .int m_catGets, .long m_whole, .long m_bestSum, m_come, m_comeThen, .int m_tourHoursNow, m_hour, m_partIn, m_heirIn, .int m_fitsNow, .int m_foundHour, .int m_lookLeft, .int m_firstCatNow]))] sz) (qi_ D res.1 (fun (u : Unit) => [(h_m, .inr (11, [.int res.2.1, .int res.2.2.1, .int res.2.2.2, .null, m_read, m_tape, .int m_taped, .int m_size, .int m_spot, .int m_sort, .int m_place, .int m_number, .int m_fault, .int m_wrongAt, .long m_word, .int m_askedOf, m_v, m_x, m_past, m_kept, .int m_acts, .int m_images, m_heir, m_then, .int m_catGets, .long m_whole, .long m_bestSum, m_come, m_comeThen, .int m_tourHoursNow, m_hour, m_partIn, m_heirIn, .int m_fitsNow, .int m_foundHour, .int m_lookLeft, .int m_firstCatNow]))]) (va_A [(h_m, .inr (11, [.int m_thrown, .int m_trouble, .int m_where, .null, m_read, m_tape, .int m_taped, .int m_size, .int m_spot, .int m_sort, .int m_place, .int m_number, .int m_fault, .int m_wrongAt, .long m_word, .int m_askedOf, m_v, m_x, m_past, m_kept, .int m_acts, .int m_images, m_heir, m_then, .int m_catGets, .long m_whole, .long m_bestSum, m_come, m_comeThen, .int m_tourHoursNow, m_hour, m_partIn, m_heirIn, .int m_fitsNow, .int m_foundHour, .int m_lookLeft, .int m_firstCatNow]))] sz)) 0 0 (va_A [(h_m, .inr (11, [.int m_thrown, .int m_trouble, .int m_where, .null, m_read, m_tape, .int m_taped, .int m_size, .int m_spot, .int m_sort, .int m_place, .int m_number, .int m_fault, .int m_wrongAt, .long m_word, .int m_askedOf, m_v, m_x, m_past, m_kept, .int m_acts, .int m_images, m_heir, m_then, .int m_catGets, .long m_whole, .long m_bestSum, m_come, m_comeThen, .int m_tourHoursNow, m_hour, m_partIn, m_heirIn, .int m_fitsNow, .int m_foundHour, .int m_lookLeft, .int m_firstCatNow]))] sz) := by
  refine Met.ofW (cc := cX7_worthiest) (maxL := 4) (ret := (some .int)) (by decide) rfl ?_
  intro p e s m args below meth c s₁ B hml hv
  obtain ⟨rfl, hsz, hP, hK, hD0⟩ := hv
  have hx := B.exec
  have hb := B.bytes
  have hr := B.returns
  have hts := atoms_spec (ws := (ws_ yX7_worthiest cX7_worthiest 4 (some .int))) B.pre
  have hts : ∀ w ∈ lw_all, w.before _ s = true := fun w h => hts w (List.mem_cons_of_mem _ h)
  have hown : s.vm.findClass RX7 = some m.cls := findClass_of_methodNamed B.named
  have hlocks := B.notSynchronized
  subst hsz
  have hD := hD0.self (sz := s.heap.size)
  generalize hAe : va_A [(h_m, .inr (11, [.int m_thrown, .int m_trouble, .int m_where, .null, m_read, m_tape, .int m_taped, .int m_size, .int m_spot, .int m_sort, .int m_place, .int m_number, .int m_fault, .int m_wrongAt, .long m_word, .int m_askedOf, m_v, m_x, m_past, m_kept, .int m_acts, .int m_images, m_heir, m_then, .int m_catGets, .long m_whole, .long m_bestSum, m_come, m_comeThen, .int m_tourHoursNow, m_hour, m_partIn, m_heirIn, .int m_fitsNow, .int m_foundHour, .int m_lookLeft, .int m_firstCatNow]))] s.heap.size = A at hD ⊢
  have hA : ∀ q : Nat, s.heap.size ≤ q → A q := fun q h => by rw [← hAe]; exact Or.inr h
  have hS : va_S A s.heap s.heap [] := va_S.rf
  have hP : va_P D clG [(h_m, .inr (11, [.int m_thrown, .int m_trouble, .int m_where, .null, m_read, m_tape, .int m_taped, .int m_size, .int m_spot, .int m_sort, .int m_place, .int m_number, .int m_fault, .int m_wrongAt, .long m_word, .int m_askedOf, m_v, m_x, m_past, m_kept, .int m_acts, .int m_images, m_heir, m_then, .int m_catGets, .long m_whole, .long m_bestSum, m_come, m_comeThen, .int m_tourHoursNow, m_hour, m_partIn, m_heirIn, .int m_fitsNow, .int m_foundHour, .int m_lookLeft, .int m_firstCatNow]))] s.heap := hP
  have hl := lv_entry ([.ref h_m]) (n := 4) (Nat.le_of_ble_eq_true rfl)
  rw [lg_entry_eq]
  generalize (lg_sl ([.ref h_m]) ++ List.replicate (4 - (lg_sl ([.ref h_m])).length) Slot.unset).toArray = ls at hl ⊢
  have hl : lv_has ls 4 [(0, .ref h_m)] := hl
  unfold MX7_worthiestN at hM
  refine lv_aload_n hx hb dX7_worthiest_0 rfl (lv_at hl 0 rfl) ?_
  refine lv_iconst (v := (0 : Int32)) hx hb dX7_worthiest_1 (by decide) ?_
  refine va_put (D := D) (ci := 11) (v := .int (0 : Int32)) (ty := .int) (C := RX7) (T := TX7) (N := 37) hx hb hts in_X7 tyX7 tyX7_ok nmX7 hown hK.1 hP hD hS 0 rfl rfl 0 (by decide) (hts _ q1372) (fun _ h9 => h9) rfl (by decide +kernel) rfl rfl (Nat.le_of_ble_eq_true rfl) dX7_worthiest_2 (fun H locs hP hD hS => ?_)
  have hP : va_P D clG [(h_m, .inr (11, [.int (0 : Int32), .int m_trouble, .int m_where, .null, m_read, m_tape, .int m_taped, .int m_size, .int m_spot, .int m_sort, .int m_place, .int m_number, .int m_fault, .int m_wrongAt, .long m_word, .int m_askedOf, m_v, m_x, m_past, m_kept, .int m_acts, .int m_images, m_heir, m_then, .int m_catGets, .long m_whole, .long m_bestSum, m_come, m_comeThen, .int m_tourHoursNow, m_hour, m_partIn, m_heirIn, .int m_fitsNow, .int m_foundHour, .int m_lookLeft, .int m_firstCatNow]))] H := hP
  have hD : va_D A [(h_m, .inr (11, [.int (0 : Int32), .int m_trouble, .int m_where, .null, m_read, m_tape, .int m_taped, .int m_size, .int m_spot, .int m_sort, .int m_place, .int m_number, .int m_fault, .int m_wrongAt, .long m_word, .int m_askedOf, m_v, m_x, m_past, m_kept, .int m_acts, .int m_images, m_heir, m_then, .int m_catGets, .long m_whole, .long m_bestSum, m_come, m_comeThen, .int m_tourHoursNow, m_hour, m_partIn, m_heirIn, .int m_fitsNow, .int m_foundHour, .int m_lookLeft, .int m_firstCatNow]))] := hD
  refine lv_aload_n hx hb dX7_worthiest_5 rfl (lv_at hl 0 rfl) ?_
  refine va_get (D := D) (ci := 11) (v := .null) (C := RX7) (T := TX7) (N := 37) hx hb hts in_X7 hown hK.1 hP 0 rfl rfl 3 (by decide) (hts _ q1375) (fun _ h9 => h9) rfl dX7_worthiest_6 ?_
  refine lv_ifnonnullN hx hb dX7_worthiest_9 ?_
  refine lv_aload_n hx hb dX7_worthiest_12 rfl (lv_at hl 0 rfl) ?_
  refine lv_iconst (v := (1 : Int32)) hx hb dX7_worthiest_13 (by decide) ?_
  obtain ⟨r1, er1, hM⟩ := b_inv hM
  refine k_i0 [0] (va_runV (As := [.int (1 : Int32)]) (rest := []) ⟨hx, hb, hml, hown, hts⟩ (ctX7_refused l D dA _ h_m (1 : Int32) (0 : Int32) m_trouble m_where m_taped m_size m_spot m_sort m_place m_number m_fault m_wrongAt m_word m_askedOf m_acts m_images m_catGets m_whole m_bestSum m_tourHoursNow m_fitsNow m_foundHour m_lookLeft m_firstCatNow (.null) (m_read) (m_tape) (m_v) (m_x) (m_past) (m_kept) (m_heir) (m_then) (m_come) (m_comeThen) (m_hour) (m_partIn) (m_heirIn) r1 er1) (cwV 1 hts (lw_V q1496 q1498 qs50 q122 q1499) rfl rfl rfl (by decide +kernel) ⟨Nat.le_of_ble_eq_true rfl, Nat.le_of_ble_eq_true rfl⟩) (pre_V (hP.sub [0] rfl) hK (hD.sub [0] (by decide) rfl) (ci := 11) (q0 := 0) rfl rfl) rfl rfl hl.1 rfl (lv_room (Nat.le_of_ble_eq_true rfl)) dX7_worthiest_14 ⟨Nat.le_of_ble_eq_true rfl, Nat.le_of_ble_eq_true rfl⟩) hP hD hS hA rfl (fun _ => rfl) (fun u2 H locs hP hD hS => ?_)
  have hP : va_P D clG [(h_m, .inr (11, [.int (0 : Int32), .int r1.2.1, .int r1.2.2, .null, m_read, m_tape, .int m_taped, .int m_size, .int m_spot, .int m_sort, .int m_place, .int m_number, .int m_fault, .int m_wrongAt, .long m_word, .int m_askedOf, m_v, m_x, m_past, m_kept, .int m_acts, .int m_images, m_heir, m_then, .int m_catGets, .long m_whole, .long m_bestSum, m_come, m_comeThen, .int m_tourHoursNow, m_hour, m_partIn, m_heirIn, .int m_fitsNow, .int m_foundHour, .int m_lookLeft, .int m_firstCatNow]))] H := hP
  have hD : va_D A [(h_m, .inr (11, [.int (0 : Int32), .int r1.2.1, .int r1.2.2, .null, m_read, m_tape, .int m_taped, .int m_size, .int m_spot, .int m_sort, .int m_place, .int m_number, .int m_fault, .int m_wrongAt, .long m_word, .int m_askedOf, m_v, m_x, m_past, m_kept, .int m_acts, .int m_images, m_heir, m_then, .int m_catGets, .long m_whole, .long m_bestSum, m_come, m_comeThen, .int m_tourHoursNow, m_hour, m_partIn, m_heirIn, .int m_fitsNow, .int m_foundHour, .int m_lookLeft, .int m_firstCatNow]))] := hD
  have hM := Option.some.inj hM
  subst hM
  exact W.iret (v := r1.1) hx hb hr (fun t ht hW => ⟨⟨r1.1, (), rfl, rfl, by rw [ht]; exact hP, hD⟩, hS.F ht⟩) hS.2.2 dX7_worthiest_17

set_option maxHeartbeats 40000000 in
set_option maxRecDepth 100000 in
theorem ctX1_plotN (l : Launch) (D : va_G) (dA : Nat → ClassId) (sz : Nat) (h_o : Nat) (p0 : Int32) (p1 : Int32) (o_taped : Int32) (o_trouble : Int32) (o_fault : Int32) (o_where : Int32) (o_imageMany : Int32) (o_undoMany : Int32) (o_firstRest : Int32) (o_catAt : Int32) (o_tape : Value) (o_scanner : Value) (o_town : Value) (o_was : Value) (o_trial : Value) (o_night : Value) (o_plans : Value) (o_undone : Value) (o_images : Value) (o_often : Value) (o_next : Value) (res : (Int32 × Int32 × Int32)) (hM : MX1_plotN  = some res) : Met l yX1_plot (ws_ yX1_plot cX1_plot 5 (some .int)) ({ frames := 2, cells := 0, slots := 0, locals := 43 }) (pre_ D dA [.ref h_o, .int p0, .int p1] [(h_o, .inr (0, [o_tape, .int o_taped, o_scanner, .null, .int o_trouble, .int o_fault, .int o_where, .int o_imageMany, .int o_undoMany, o_town, o_was, o_trial, o_night, o_plans, o_undone, o_images, o_often, .int o_firstRest, o_next, .int o_catAt]))] sz) (qi_ D res.1 (fun (u : Unit) => [(h_o, .inr (0, [o_tape, .int o_taped, o_scanner, .null, .int res.2.1, .int o_fault, .int res.2.2, .int o_imageMany, .int o_undoMany, o_town, o_was, o_trial, o_night, o_plans, o_undone, o_images, o_often, .int o_firstRest, o_next, .int o_catAt]))]) (va_A [(h_o, .inr (0, [o_tape, .int o_taped, o_scanner, .null, .int o_trouble, .int o_fault, .int o_where, .int o_imageMany, .int o_undoMany, o_town, o_was, o_trial, o_night, o_plans, o_undone, o_images, o_often, .int o_firstRest, o_next, .int o_catAt]))] sz)) 0 0 (va_A [(h_o, .inr (0, [o_tape, .int o_taped, o_scanner, .null, .int o_trouble, .int o_fault, .int o_where, .int o_imageMany, .int o_undoMany, o_town, o_was, o_trial, o_night, o_plans, o_undone, o_images, o_often, .int o_firstRest, o_next, .int o_catAt]))] sz) := by
  refine Met.ofW (cc := cX1_plot) (maxL := 5) (ret := (some .int)) (by decide) rfl ?_
  intro p e s m args below meth c s₁ B hml hv
  obtain ⟨rfl, hsz, hP, hK, hD0⟩ := hv
  have hx := B.exec
  have hb := B.bytes
  have hr := B.returns
  have hts := atoms_spec (ws := (ws_ yX1_plot cX1_plot 5 (some .int))) B.pre
  have hts : ∀ w ∈ lw_all, w.before _ s = true := fun w h => hts w (List.mem_cons_of_mem _ h)
  have hown : s.vm.findClass RX1 = some m.cls := findClass_of_methodNamed B.named
  have hlocks := B.notSynchronized
  subst hsz
  have hD := hD0.self (sz := s.heap.size)
  generalize hAe : va_A [(h_o, .inr (0, [o_tape, .int o_taped, o_scanner, .null, .int o_trouble, .int o_fault, .int o_where, .int o_imageMany, .int o_undoMany, o_town, o_was, o_trial, o_night, o_plans, o_undone, o_images, o_often, .int o_firstRest, o_next, .int o_catAt]))] s.heap.size = A at hD ⊢
  have hA : ∀ q : Nat, s.heap.size ≤ q → A q := fun q h => by rw [← hAe]; exact Or.inr h
  have hS : va_S A s.heap s.heap [] := va_S.rf
  have hP : va_P D clG [(h_o, .inr (0, [o_tape, .int o_taped, o_scanner, .null, .int o_trouble, .int o_fault, .int o_where, .int o_imageMany, .int o_undoMany, o_town, o_was, o_trial, o_night, o_plans, o_undone, o_images, o_often, .int o_firstRest, o_next, .int o_catAt]))] s.heap := hP
  have hl := lv_entry ([.ref h_o, .int p0, .int p1]) (n := 5) (Nat.le_of_ble_eq_true rfl)
  rw [lg_entry_eq]
  generalize (lg_sl ([.ref h_o, .int p0, .int p1]) ++ List.replicate (5 - (lg_sl ([.ref h_o, .int p0, .int p1])).length) Slot.unset).toArray = ls at hl ⊢
  have hl : lv_has ls 5 [(0, .ref h_o), (1, .int p0), (2, .int p1)] := hl
  unfold MX1_plotN at hM
  refine lv_aload_n hx hb dX1_plot_0 rfl (lv_at hl 0 rfl) ?_
  obtain ⟨r1, er1, hM⟩ := b_inv hM
  refine k_v0 [0] (va_runV (As := []) (rest := []) ⟨hx, hb, hml, hown, hts⟩ (ctX1_anew l D dA _ h_o o_taped o_trouble o_fault o_where o_imageMany o_undoMany o_firstRest o_catAt (o_tape) (o_scanner) (.null) (o_town) (o_was) (o_trial) (o_night) (o_plans) (o_undone) (o_images) (o_often) (o_next) r1 er1) (cwV 0 hts (lw_V q432 q434 qs2 q113 q435) rfl rfl rfl (by decide +kernel) ⟨Nat.le_of_ble_eq_true rfl, Nat.le_of_ble_eq_true rfl⟩) (pre_V (hP.sub [0] rfl) hK (hD.sub [0] (by decide) rfl) (ci := 0) (q0 := 0) rfl rfl) rfl rfl hl.1 rfl (lv_room (Nat.le_of_ble_eq_true rfl)) dX1_plot_1 ⟨Nat.le_of_ble_eq_true rfl, Nat.le_of_ble_eq_true rfl⟩) hP hD hS hA rfl (fun _ => rfl) (fun u2 H locs hP hD hS => ?_)
  have hP : va_P D clG [(h_o, .inr (0, [o_tape, .int o_taped, o_scanner, .null, .int r1.1, .int o_fault, .int r1.2, .int o_imageMany, .int o_undoMany, o_town, o_was, o_trial, o_night, o_plans, o_undone, o_images, o_often, .int o_firstRest, o_next, .int o_catAt]))] H := hP
  have hD : va_D A [(h_o, .inr (0, [o_tape, .int o_taped, o_scanner, .null, .int r1.1, .int o_fault, .int r1.2, .int o_imageMany, .int o_undoMany, o_town, o_was, o_trial, o_night, o_plans, o_undone, o_images, o_often, .int o_firstRest, o_next, .int o_catAt]))] := hD
  refine lv_aload_n hx hb dX1_plot_4 rfl (lv_at hl 0 rfl) ?_
  refine lv_iload_n hx hb dX1_plot_5 rfl (lv_at hl 1 rfl) ?_
  refine lv_iload_n hx hb dX1_plot_6 rfl (lv_at hl 2 rfl) ?_
  obtain ⟨r3, er3, hM⟩ := b_inv hM
  refine k_i0 [0] (va_runV (As := [.int p0, .int p1]) (rest := []) ⟨hx, hb, hml, hown, hts⟩ (ctX1_areTwoN l D dA _ h_o p0 p1 o_taped r1.1 o_fault r1.2 o_imageMany o_undoMany o_firstRest o_catAt (o_tape) (o_scanner) (o_town) (o_was) (o_trial) (o_night) (o_plans) (o_undone) (o_images) (o_often) (o_next) r3 er3) (cwV 2 hts (lw_V q958 q960 qs27 q113 q961) rfl rfl rfl (by decide +kernel) ⟨Nat.le_of_ble_eq_true rfl, Nat.le_of_ble_eq_true rfl⟩) (pre_V (hP.sub [0] rfl) hK (hD.sub [0] (by decide) rfl) (ci := 0) (q0 := 0) rfl rfl) rfl rfl hl.1 rfl (lv_room (Nat.le_of_ble_eq_true rfl)) dX1_plot_7 ⟨Nat.le_of_ble_eq_true rfl, Nat.le_of_ble_eq_true rfl⟩) hP hD hS hA rfl (fun _ => rfl) (fun u4 H locs hP hD hS => ?_)
  have hP : va_P D clG [(h_o, .inr (0, [o_tape, .int o_taped, o_scanner, .null, .int r1.1, .int o_fault, .int r1.2, .int o_imageMany, .int o_undoMany, o_town, o_was, o_trial, o_night, o_plans, o_undone, o_images, o_often, .int o_firstRest, o_next, .int o_catAt]))] H := hP
  have hD : va_D A [(h_o, .inr (0, [o_tape, .int o_taped, o_scanner, .null, .int r1.1, .int o_fault, .int r1.2, .int o_imageMany, .int o_undoMany, o_town, o_was, o_trial, o_night, o_plans, o_undone, o_images, o_often, .int o_firstRest, o_next, .int o_catAt]))] := hD
  have kr3 := krX1_areTwoN _ er3
  refine lv_toi (v := (0 : Int32)) (by rw [kr3]; rfl) ?_
  refine lv_if_eq (tgt := 35) hx hb dX1_plot_10 (by decide) (fun _ => ?_) (fun c5 => absurd c5 (by decide))
  refine lv_aload_n hx hb dX1_plot_35 rfl (lv_at hl 0 rfl) ?_
  refine lv_iconst (v := (1 : Int32)) hx hb dX1_plot_36 (by decide) ?_
  obtain ⟨r6, er6, hM⟩ := b_inv hM
  refine k_i0 [0] (va_runV (As := [.int (1 : Int32)]) (rest := []) ⟨hx, hb, hml, hown, hts⟩ (ctX1_no l D dA _ h_o (1 : Int32) o_taped r1.1 o_fault r1.2 o_imageMany o_undoMany o_firstRest o_catAt (o_tape) (o_scanner) (.null) (o_town) (o_was) (o_trial) (o_night) (o_plans) (o_undone) (o_images) (o_often) (o_next) r6 er6) (cwV 1 hts (lw_V q439 q441 qs3 q113 q442) rfl rfl rfl (by decide +kernel) ⟨Nat.le_of_ble_eq_true rfl, Nat.le_of_ble_eq_true rfl⟩) (pre_V (hP.sub [0] rfl) hK (hD.sub [0] (by decide) rfl) (ci := 0) (q0 := 0) rfl rfl) rfl rfl hl.1 rfl (lv_room (Nat.le_of_ble_eq_true rfl)) dX1_plot_37 ⟨Nat.le_of_ble_eq_true rfl, Nat.le_of_ble_eq_true rfl⟩) hP hD hS hA rfl (fun _ => rfl) (fun u7 H locs hP hD hS => ?_)
  have hP : va_P D clG [(h_o, .inr (0, [o_tape, .int o_taped, o_scanner, .null, .int r6.2, .int o_fault, .int r1.2, .int o_imageMany, .int o_undoMany, o_town, o_was, o_trial, o_night, o_plans, o_undone, o_images, o_often, .int o_firstRest, o_next, .int o_catAt]))] H := hP
  have hD : va_D A [(h_o, .inr (0, [o_tape, .int o_taped, o_scanner, .null, .int r6.2, .int o_fault, .int r1.2, .int o_imageMany, .int o_undoMany, o_town, o_was, o_trial, o_night, o_plans, o_undone, o_images, o_often, .int o_firstRest, o_next, .int o_catAt]))] := hD
  have hM := Option.some.inj hM
  subst hM
  exact W.iret (v := r6.1) hx hb hr (fun t ht hW => ⟨⟨r6.1, (), rfl, rfl, by rw [ht]; exact hP, hD⟩, hS.F ht⟩) hS.2.2 dX1_plot_40

set_option maxHeartbeats 40000000 in
set_option maxRecDepth 100000 in
theorem ctX7_plotN (l : Launch) (D : va_G) (dA : Nat → ClassId) (sz : Nat) (h_m : Nat) (p0 : Int32) (p1 : Int32) (m_thrown : Int32) (m_trouble : Int32) (m_where : Int32) (m_taped : Int32) (m_size : Int32) (m_spot : Int32) (m_sort : Int32) (m_place : Int32) (m_number : Int32) (m_fault : Int32) (m_wrongAt : Int32) (m_word : Int64) (m_askedOf : Int32) (m_acts : Int32) (m_images : Int32) (m_catGets : Int32) (m_whole : Int64) (m_bestSum : Int64) (m_tourHoursNow : Int32) (m_fitsNow : Int32) (m_foundHour : Int32) (m_lookLeft : Int32) (m_firstCatNow : Int32) (m_read : Value) (m_tape : Value) (m_v : Value) (m_x : Value) (m_past : Value) (m_kept : Value) (m_heir : Value) (m_then : Value) (m_come : Value) (m_comeThen : Value) (m_hour : Value) (m_partIn : Value) (m_heirIn : Value) (res : (Int32 × Int32 × Int32 × Int32)) (hM : MX7_plotN  = some res) : Met l yX7_plot (ws_ yX7_plot cX7_plot 5 (some .int)) ({ frames := 2, cells := 0, slots := 0, locals := 43 }) (pre_ D dA [.ref h_m, .int p0, .int p1] [(h_m, .inr (11, [.int m_thrown, .int m_trouble, .int m_where, .null, m_read, m_tape, .int m_taped, .int m_size, .int m_spot, .int m_sort, .int m_place, .int m_number, .int m_fault, .int m_wrongAt, .long m_word, .int m_askedOf, m_v, m_x, m_past, m_kept, .int m_acts, .int m_images, m_heir, m_then, .int m_catGets, .long m_whole, .long m_bestSum, m_come, m_comeThen, .int m_tourHoursNow, m_hour, m_partIn, m_heirIn, .int m_fitsNow, .int m_foundHour, .int m_lookLeft, .int m_firstCatNow]))] sz) (qi_ D res.1 (fun (u : Unit) => [(h_m, .inr (11, [.int res.2.1, .int res.2.2.1, .int res.2.2.2, .null, m_read, m_tape, .int m_taped, .int m_size, .int m_spot, .int m_sort, .int m_place, .int m_number, .int m_fault, .int m_wrongAt, .long m_word, .int m_askedOf, m_v, m_x, m_past, m_kept, .int m_acts, .int m_images, m_heir, m_then, .int m_catGets, .long m_whole, .long m_bestSum, m_come, m_comeThen, .int m_tourHoursNow, m_hour, m_partIn, m_heirIn, .int m_fitsNow, .int m_foundHour, .int m_lookLeft, .int m_firstCatNow]))]) (va_A [(h_m, .inr (11, [.int m_thrown, .int m_trouble, .int m_where, .null, m_read, m_tape, .int m_taped, .int m_size, .int m_spot, .int m_sort, .int m_place, .int m_number, .int m_fault, .int m_wrongAt, .long m_word, .int m_askedOf, m_v, m_x, m_past, m_kept, .int m_acts, .int m_images, m_heir, m_then, .int m_catGets, .long m_whole, .long m_bestSum, m_come, m_comeThen, .int m_tourHoursNow, m_hour, m_partIn, m_heirIn, .int m_fitsNow, .int m_foundHour, .int m_lookLeft, .int m_firstCatNow]))] sz)) 0 0 (va_A [(h_m, .inr (11, [.int m_thrown, .int m_trouble, .int m_where, .null, m_read, m_tape, .int m_taped, .int m_size, .int m_spot, .int m_sort, .int m_place, .int m_number, .int m_fault, .int m_wrongAt, .long m_word, .int m_askedOf, m_v, m_x, m_past, m_kept, .int m_acts, .int m_images, m_heir, m_then, .int m_catGets, .long m_whole, .long m_bestSum, m_come, m_comeThen, .int m_tourHoursNow, m_hour, m_partIn, m_heirIn, .int m_fitsNow, .int m_foundHour, .int m_lookLeft, .int m_firstCatNow]))] sz) := by
  refine Met.ofW (cc := cX7_plot) (maxL := 5) (ret := (some .int)) (by decide) rfl ?_
  intro p e s m args below meth c s₁ B hml hv
  obtain ⟨rfl, hsz, hP, hK, hD0⟩ := hv
  have hx := B.exec
  have hb := B.bytes
  have hr := B.returns
  have hts := atoms_spec (ws := (ws_ yX7_plot cX7_plot 5 (some .int))) B.pre
  have hts : ∀ w ∈ lw_all, w.before _ s = true := fun w h => hts w (List.mem_cons_of_mem _ h)
  have hown : s.vm.findClass RX7 = some m.cls := findClass_of_methodNamed B.named
  have hlocks := B.notSynchronized
  subst hsz
  have hD := hD0.self (sz := s.heap.size)
  generalize hAe : va_A [(h_m, .inr (11, [.int m_thrown, .int m_trouble, .int m_where, .null, m_read, m_tape, .int m_taped, .int m_size, .int m_spot, .int m_sort, .int m_place, .int m_number, .int m_fault, .int m_wrongAt, .long m_word, .int m_askedOf, m_v, m_x, m_past, m_kept, .int m_acts, .int m_images, m_heir, m_then, .int m_catGets, .long m_whole, .long m_bestSum, m_come, m_comeThen, .int m_tourHoursNow, m_hour, m_partIn, m_heirIn, .int m_fitsNow, .int m_foundHour, .int m_lookLeft, .int m_firstCatNow]))] s.heap.size = A at hD ⊢
  have hA : ∀ q : Nat, s.heap.size ≤ q → A q := fun q h => by rw [← hAe]; exact Or.inr h
  have hS : va_S A s.heap s.heap [] := va_S.rf
  have hP : va_P D clG [(h_m, .inr (11, [.int m_thrown, .int m_trouble, .int m_where, .null, m_read, m_tape, .int m_taped, .int m_size, .int m_spot, .int m_sort, .int m_place, .int m_number, .int m_fault, .int m_wrongAt, .long m_word, .int m_askedOf, m_v, m_x, m_past, m_kept, .int m_acts, .int m_images, m_heir, m_then, .int m_catGets, .long m_whole, .long m_bestSum, m_come, m_comeThen, .int m_tourHoursNow, m_hour, m_partIn, m_heirIn, .int m_fitsNow, .int m_foundHour, .int m_lookLeft, .int m_firstCatNow]))] s.heap := hP
  have hl := lv_entry ([.ref h_m, .int p0, .int p1]) (n := 5) (Nat.le_of_ble_eq_true rfl)
  rw [lg_entry_eq]
  generalize (lg_sl ([.ref h_m, .int p0, .int p1]) ++ List.replicate (5 - (lg_sl ([.ref h_m, .int p0, .int p1])).length) Slot.unset).toArray = ls at hl ⊢
  have hl : lv_has ls 5 [(0, .ref h_m), (1, .int p0), (2, .int p1)] := hl
  unfold MX7_plotN at hM
  refine lv_aload_n hx hb dX7_plot_0 rfl (lv_at hl 0 rfl) ?_
  refine lv_iconst (v := (0 : Int32)) hx hb dX7_plot_1 (by decide) ?_
  refine va_put (D := D) (ci := 11) (v := .int (0 : Int32)) (ty := .int) (C := RX7) (T := TX7) (N := 37) hx hb hts in_X7 tyX7 tyX7_ok nmX7 hown hK.1 hP hD hS 0 rfl rfl 0 (by decide) (hts _ q1372) (fun _ h9 => h9) rfl (by decide +kernel) rfl rfl (Nat.le_of_ble_eq_true rfl) dX7_plot_2 (fun H locs hP hD hS => ?_)
  have hP : va_P D clG [(h_m, .inr (11, [.int (0 : Int32), .int m_trouble, .int m_where, .null, m_read, m_tape, .int m_taped, .int m_size, .int m_spot, .int m_sort, .int m_place, .int m_number, .int m_fault, .int m_wrongAt, .long m_word, .int m_askedOf, m_v, m_x, m_past, m_kept, .int m_acts, .int m_images, m_heir, m_then, .int m_catGets, .long m_whole, .long m_bestSum, m_come, m_comeThen, .int m_tourHoursNow, m_hour, m_partIn, m_heirIn, .int m_fitsNow, .int m_foundHour, .int m_lookLeft, .int m_firstCatNow]))] H := hP
  have hD : va_D A [(h_m, .inr (11, [.int (0 : Int32), .int m_trouble, .int m_where, .null, m_read, m_tape, .int m_taped, .int m_size, .int m_spot, .int m_sort, .int m_place, .int m_number, .int m_fault, .int m_wrongAt, .long m_word, .int m_askedOf, m_v, m_x, m_past, m_kept, .int m_acts, .int m_images, m_heir, m_then, .int m_catGets, .long m_whole, .long m_bestSum, m_come, m_comeThen, .int m_tourHoursNow, m_hour, m_partIn, m_heirIn, .int m_fitsNow, .int m_foundHour, .int m_lookLeft, .int m_firstCatNow]))] := hD
  refine lv_aload_n hx hb dX7_plot_5 rfl (lv_at hl 0 rfl) ?_
  refine lv_iload_n hx hb dX7_plot_6 rfl (lv_at hl 1 rfl) ?_
  refine lv_iload_n hx hb dX7_plot_7 rfl (lv_at hl 2 rfl) ?_
  obtain ⟨r1, er1, hM⟩ := b_inv hM
  refine k_i0 [0] (va_runV (As := [.int p0, .int p1]) (rest := []) ⟨hx, hb, hml, hown, hts⟩ (ctX7_areTwoN l D dA _ h_m p0 p1 (0 : Int32) m_trouble m_where m_taped m_size m_spot m_sort m_place m_number m_fault m_wrongAt m_word m_askedOf m_acts m_images m_catGets m_whole m_bestSum m_tourHoursNow m_fitsNow m_foundHour m_lookLeft m_firstCatNow (m_read) (m_tape) (m_v) (m_x) (m_past) (m_kept) (m_heir) (m_then) (m_come) (m_comeThen) (m_hour) (m_partIn) (m_heirIn) r1 er1) (cwV 2 hts (lw_V q1753 q1755 qs75 q122 q1756) rfl rfl rfl (by decide +kernel) ⟨Nat.le_of_ble_eq_true rfl, Nat.le_of_ble_eq_true rfl⟩) (pre_V (hP.sub [0] rfl) hK (hD.sub [0] (by decide) rfl) (ci := 11) (q0 := 0) rfl rfl) rfl rfl hl.1 rfl (lv_room (Nat.le_of_ble_eq_true rfl)) dX7_plot_8 ⟨Nat.le_of_ble_eq_true rfl, Nat.le_of_ble_eq_true rfl⟩) hP hD hS hA rfl (fun _ => rfl) (fun u2 H locs hP hD hS => ?_)
  have hP : va_P D clG [(h_m, .inr (11, [.int (0 : Int32), .int m_trouble, .int m_where, .null, m_read, m_tape, .int m_taped, .int m_size, .int m_spot, .int m_sort, .int m_place, .int m_number, .int m_fault, .int m_wrongAt, .long m_word, .int m_askedOf, m_v, m_x, m_past, m_kept, .int m_acts, .int m_images, m_heir, m_then, .int m_catGets, .long m_whole, .long m_bestSum, m_come, m_comeThen, .int m_tourHoursNow, m_hour, m_partIn, m_heirIn, .int m_fitsNow, .int m_foundHour, .int m_lookLeft, .int m_firstCatNow]))] H := hP
  have hD : va_D A [(h_m, .inr (11, [.int (0 : Int32), .int m_trouble, .int m_where, .null, m_read, m_tape, .int m_taped, .int m_size, .int m_spot, .int m_sort, .int m_place, .int m_number, .int m_fault, .int m_wrongAt, .long m_word, .int m_askedOf, m_v, m_x, m_past, m_kept, .int m_acts, .int m_images, m_heir, m_then, .int m_catGets, .long m_whole, .long m_bestSum, m_come, m_comeThen, .int m_tourHoursNow, m_hour, m_partIn, m_heirIn, .int m_fitsNow, .int m_foundHour, .int m_lookLeft, .int m_firstCatNow]))] := hD
  have kr1 := krX7_areTwoN _ er1
  refine lv_toi (v := (0 : Int32)) (by rw [kr1]; rfl) ?_
  refine lv_if_eq (tgt := 42) hx hb dX7_plot_11 (by decide) (fun _ => ?_) (fun c3 => absurd c3 (by decide))
  refine lv_aload_n hx hb dX7_plot_42 rfl (lv_at hl 0 rfl) ?_
  refine lv_iconst (v := (1 : Int32)) hx hb dX7_plot_43 (by decide) ?_
  obtain ⟨r4, er4, hM⟩ := b_inv hM
  refine k_i0 [0] (va_runV (As := [.int (1 : Int32)]) (rest := []) ⟨hx, hb, hml, hown, hts⟩ (ctX7_refused l D dA _ h_m (1 : Int32) (0 : Int32) m_trouble m_where m_taped m_size m_spot m_sort m_place m_number m_fault m_wrongAt m_word m_askedOf m_acts m_images m_catGets m_whole m_bestSum m_tourHoursNow m_fitsNow m_foundHour m_lookLeft m_firstCatNow (.null) (m_read) (m_tape) (m_v) (m_x) (m_past) (m_kept) (m_heir) (m_then) (m_come) (m_comeThen) (m_hour) (m_partIn) (m_heirIn) r4 er4) (cwV 1 hts (lw_V q1496 q1498 qs50 q122 q1499) rfl rfl rfl (by decide +kernel) ⟨Nat.le_of_ble_eq_true rfl, Nat.le_of_ble_eq_true rfl⟩) (pre_V (hP.sub [0] rfl) hK (hD.sub [0] (by decide) rfl) (ci := 11) (q0 := 0) rfl rfl) rfl rfl hl.1 rfl (lv_room (Nat.le_of_ble_eq_true rfl)) dX7_plot_44 ⟨Nat.le_of_ble_eq_true rfl, Nat.le_of_ble_eq_true rfl⟩) hP hD hS hA rfl (fun _ => rfl) (fun u5 H locs hP hD hS => ?_)
  have hP : va_P D clG [(h_m, .inr (11, [.int (0 : Int32), .int r4.2.1, .int r4.2.2, .null, m_read, m_tape, .int m_taped, .int m_size, .int m_spot, .int m_sort, .int m_place, .int m_number, .int m_fault, .int m_wrongAt, .long m_word, .int m_askedOf, m_v, m_x, m_past, m_kept, .int m_acts, .int m_images, m_heir, m_then, .int m_catGets, .long m_whole, .long m_bestSum, m_come, m_comeThen, .int m_tourHoursNow, m_hour, m_partIn, m_heirIn, .int m_fitsNow, .int m_foundHour, .int m_lookLeft, .int m_firstCatNow]))] H := hP
  have hD : va_D A [(h_m, .inr (11, [.int (0 : Int32), .int r4.2.1, .int r4.2.2, .null, m_read, m_tape, .int m_taped, .int m_size, .int m_spot, .int m_sort, .int m_place, .int m_number, .int m_fault, .int m_wrongAt, .long m_word, .int m_askedOf, m_v, m_x, m_past, m_kept, .int m_acts, .int m_images, m_heir, m_then, .int m_catGets, .long m_whole, .long m_bestSum, m_come, m_comeThen, .int m_tourHoursNow, m_hour, m_partIn, m_heirIn, .int m_fitsNow, .int m_foundHour, .int m_lookLeft, .int m_firstCatNow]))] := hD
  have hM := Option.some.inj hM
  subst hM
  exact W.iret (v := r4.1) hx hb hr (fun t ht hW => ⟨⟨r4.1, (), rfl, rfl, by rw [ht]; exact hP, hD⟩, hS.F ht⟩) hS.2.2 dX7_plot_47

set_option maxHeartbeats 40000000 in
set_option maxRecDepth 100000 in
theorem ctX1_meanN (l : Launch) (D : va_G) (dA : Nat → ClassId) (sz : Nat) (h_o : Nat) (p0 : Int32) (p1 : Bool) (o_taped : Int32) (o_trouble : Int32) (o_fault : Int32) (o_where : Int32) (o_imageMany : Int32) (o_undoMany : Int32) (o_firstRest : Int32) (o_catAt : Int32) (o_tape : Value) (o_scanner : Value) (o_town : Value) (o_was : Value) (o_trial : Value) (o_night : Value) (o_plans : Value) (o_undone : Value) (o_images : Value) (o_often : Value) (o_next : Value) (res : (Int64 × Int32 × Int32)) (hM : MX1_meanN  = some res) : Met l yX1_mean (ws_ yX1_mean cX1_mean 5 (some .long)) ({ frames := 1, cells := 0, slots := 0, locals := 21 }) (pre_ D dA [.ref h_o, .int p0, .int (b2i p1)] [(h_o, .inr (0, [o_tape, .int o_taped, o_scanner, .null, .int o_trouble, .int o_fault, .int o_where, .int o_imageMany, .int o_undoMany, o_town, o_was, o_trial, o_night, o_plans, o_undone, o_images, o_often, .int o_firstRest, o_next, .int o_catAt]))] sz) (ql_ D res.1 (fun (u : Unit) => [(h_o, .inr (0, [o_tape, .int o_taped, o_scanner, .null, .int res.2.1, .int o_fault, .int res.2.2, .int o_imageMany, .int o_undoMany, o_town, o_was, o_trial, o_night, o_plans, o_undone, o_images, o_often, .int o_firstRest, o_next, .int o_catAt]))]) (va_A [(h_o, .inr (0, [o_tape, .int o_taped, o_scanner, .null, .int o_trouble, .int o_fault, .int o_where, .int o_imageMany, .int o_undoMany, o_town, o_was, o_trial, o_night, o_plans, o_undone, o_images, o_often, .int o_firstRest, o_next, .int o_catAt]))] sz)) 0 0 (va_A [(h_o, .inr (0, [o_tape, .int o_taped, o_scanner, .null, .int o_trouble, .int o_fault, .int o_where, .int o_imageMany, .int o_undoMany, o_town, o_was, o_trial, o_night, o_plans, o_undone, o_images, o_often, .int o_firstRest, o_next, .int o_catAt]))] sz) := by
  refine Met.ofW (cc := cX1_mean) (maxL := 5) (ret := (some .long)) (by decide) rfl ?_
  intro p e s m args below meth c s₁ B hml hv
  obtain ⟨rfl, hsz, hP, hK, hD0⟩ := hv
  have hx := B.exec
  have hb := B.bytes
  have hr := B.returns
  have hts := atoms_spec (ws := (ws_ yX1_mean cX1_mean 5 (some .long))) B.pre
  have hts : ∀ w ∈ lw_all, w.before _ s = true := fun w h => hts w (List.mem_cons_of_mem _ h)
  have hown : s.vm.findClass RX1 = some m.cls := findClass_of_methodNamed B.named
  have hlocks := B.notSynchronized
  subst hsz
  have hD := hD0.self (sz := s.heap.size)
  generalize hAe : va_A [(h_o, .inr (0, [o_tape, .int o_taped, o_scanner, .null, .int o_trouble, .int o_fault, .int o_where, .int o_imageMany, .int o_undoMany, o_town, o_was, o_trial, o_night, o_plans, o_undone, o_images, o_often, .int o_firstRest, o_next, .int o_catAt]))] s.heap.size = A at hD ⊢
  have hA : ∀ q : Nat, s.heap.size ≤ q → A q := fun q h => by rw [← hAe]; exact Or.inr h
  have hS : va_S A s.heap s.heap [] := va_S.rf
  have hP : va_P D clG [(h_o, .inr (0, [o_tape, .int o_taped, o_scanner, .null, .int o_trouble, .int o_fault, .int o_where, .int o_imageMany, .int o_undoMany, o_town, o_was, o_trial, o_night, o_plans, o_undone, o_images, o_often, .int o_firstRest, o_next, .int o_catAt]))] s.heap := hP
  have hl := lv_entry ([.ref h_o, .int p0, .int (b2i p1)]) (n := 5) (Nat.le_of_ble_eq_true rfl)
  rw [lg_entry_eq]
  generalize (lg_sl ([.ref h_o, .int p0, .int (b2i p1)]) ++ List.replicate (5 - (lg_sl ([.ref h_o, .int p0, .int (b2i p1)])).length) Slot.unset).toArray = ls at hl ⊢
  have hl : lv_has ls 5 [(0, .ref h_o), (1, .int p0), (2, .int (b2i p1))] := hl
  unfold MX1_meanN at hM
  refine lv_aload_n hx hb dX1_mean_0 rfl (lv_at hl 0 rfl) ?_
  obtain ⟨r1, er1, hM⟩ := b_inv hM
  refine k_v0 [0] (va_runV (As := []) (rest := []) ⟨hx, hb, hml, hown, hts⟩ (ctX1_anew l D dA _ h_o o_taped o_trouble o_fault o_where o_imageMany o_undoMany o_firstRest o_catAt (o_tape) (o_scanner) (.null) (o_town) (o_was) (o_trial) (o_night) (o_plans) (o_undone) (o_images) (o_often) (o_next) r1 er1) (cwV 0 hts (lw_V q432 q434 qs2 q113 q435) rfl rfl rfl (by decide +kernel) ⟨Nat.le_of_ble_eq_true rfl, Nat.le_of_ble_eq_true rfl⟩) (pre_V (hP.sub [0] rfl) hK (hD.sub [0] (by decide) rfl) (ci := 0) (q0 := 0) rfl rfl) rfl rfl hl.1 rfl (lv_room (Nat.le_of_ble_eq_true rfl)) dX1_mean_1 ⟨Nat.le_of_ble_eq_true rfl, Nat.le_of_ble_eq_true rfl⟩) hP hD hS hA rfl (fun _ => rfl) (fun u2 H locs hP hD hS => ?_)
  have hP : va_P D clG [(h_o, .inr (0, [o_tape, .int o_taped, o_scanner, .null, .int r1.1, .int o_fault, .int r1.2, .int o_imageMany, .int o_undoMany, o_town, o_was, o_trial, o_night, o_plans, o_undone, o_images, o_often, .int o_firstRest, o_next, .int o_catAt]))] H := hP
  have hD : va_D A [(h_o, .inr (0, [o_tape, .int o_taped, o_scanner, .null, .int r1.1, .int o_fault, .int r1.2, .int o_imageMany, .int o_undoMany, o_town, o_was, o_trial, o_night, o_plans, o_undone, o_images, o_often, .int o_firstRest, o_next, .int o_catAt]))] := hD
  refine lv_aload_n hx hb dX1_mean_4 rfl (lv_at hl 0 rfl) ?_
  refine lv_iload_n hx hb dX1_mean_5 rfl (lv_at hl 1 rfl) ?_
  obtain ⟨r3, er3, hM⟩ := b_inv hM
  refine k_i0 [0] (va_runV (As := [.int p0]) (rest := []) ⟨hx, hb, hml, hown, hts⟩ (ctX1_isPersonN l D dA _ h_o p0 o_taped r1.1 o_fault r1.2 o_imageMany o_undoMany o_firstRest o_catAt (o_tape) (o_scanner) (o_town) (o_was) (o_trial) (o_night) (o_plans) (o_undone) (o_images) (o_often) (o_next) r3 er3) (cwV 1 hts (lw_V q913 q915 qs24 q113 q916) rfl rfl rfl (by decide +kernel) ⟨Nat.le_of_ble_eq_true rfl, Nat.le_of_ble_eq_true rfl⟩) (pre_V (hP.sub [0] rfl) hK (hD.sub [0] (by decide) rfl) (ci := 0) (q0 := 0) rfl rfl) rfl rfl hl.1 rfl (lv_room (Nat.le_of_ble_eq_true rfl)) dX1_mean_6 ⟨Nat.le_of_ble_eq_true rfl, Nat.le_of_ble_eq_true rfl⟩) hP hD hS hA rfl (fun _ => rfl) (fun u4 H locs hP hD hS => ?_)
  have hP : va_P D clG [(h_o, .inr (0, [o_tape, .int o_taped, o_scanner, .null, .int r1.1, .int o_fault, .int r1.2, .int o_imageMany, .int o_undoMany, o_town, o_was, o_trial, o_night, o_plans, o_undone, o_images, o_often, .int o_firstRest, o_next, .int o_catAt]))] H := hP
  have hD : va_D A [(h_o, .inr (0, [o_tape, .int o_taped, o_scanner, .null, .int r1.1, .int o_fault, .int r1.2, .int o_imageMany, .int o_undoMany, o_town, o_was, o_trial, o_night, o_plans, o_undone, o_images, o_often, .int o_firstRest, o_next, .int o_catAt]))] := hD
  have kr3 := krX1_isPersonN _ er3
  refine lv_toi (v := (0 : Int32)) (by rw [kr3]; rfl) ?_
  refine lv_if_ne (tgt := 19) hx hb dX1_mean_9 (by decide) (fun c5 => absurd c5 (by decide)) (fun _ => ?_)
  refine lv_aload_n hx hb dX1_mean_12 rfl (lv_at hl 0 rfl) ?_
  refine lv_iconst (v := (1 : Int32)) hx hb dX1_mean_13 (by decide) ?_
  obtain ⟨r6, er6, hM⟩ := b_inv hM
  refine k_i0 [0] (va_runV (As := [.int (1 : Int32)]) (rest := []) ⟨hx, hb, hml, hown, hts⟩ (ctX1_no l D dA _ h_o (1 : Int32) o_taped r1.1 o_fault r1.2 o_imageMany o_undoMany o_firstRest o_catAt (o_tape) (o_scanner) (.null) (o_town) (o_was) (o_trial) (o_night) (o_plans) (o_undone) (o_images) (o_often) (o_next) r6 er6) (cwV 1 hts (lw_V q439 q441 qs3 q113 q442) rfl rfl rfl (by decide +kernel) ⟨Nat.le_of_ble_eq_true rfl, Nat.le_of_ble_eq_true rfl⟩) (pre_V (hP.sub [0] rfl) hK (hD.sub [0] (by decide) rfl) (ci := 0) (q0 := 0) rfl rfl) rfl rfl hl.1 rfl (lv_room (Nat.le_of_ble_eq_true rfl)) dX1_mean_14 ⟨Nat.le_of_ble_eq_true rfl, Nat.le_of_ble_eq_true rfl⟩) hP hD hS hA rfl (fun _ => rfl) (fun u7 H locs hP hD hS => ?_)
  have hP : va_P D clG [(h_o, .inr (0, [o_tape, .int o_taped, o_scanner, .null, .int r6.2, .int o_fault, .int r1.2, .int o_imageMany, .int o_undoMany, o_town, o_was, o_trial, o_night, o_plans, o_undone, o_images, o_often, .int o_firstRest, o_next, .int o_catAt]))] H := hP
  have hD : va_D A [(h_o, .inr (0, [o_tape, .int o_taped, o_scanner, .null, .int r6.2, .int o_fault, .int r1.2, .int o_imageMany, .int o_undoMany, o_town, o_was, o_trial, o_night, o_plans, o_undone, o_images, o_often, .int o_firstRest, o_next, .int o_catAt]))] := hD
  refine lv_i2l (v := (Int32.toInt64 r6.1)) hx hb dX1_mean_17 rfl ?_
  have hM := Option.some.inj hM
  subst hM
  exact W.lret (v := (Int32.toInt64 r6.1)) hx hb hr (fun t ht hW => ⟨⟨(Int32.toInt64 r6.1), (), rfl, rfl, by rw [ht]; exact hP, hD⟩, hS.F ht⟩) hS.2.2 dX1_mean_18

set_option maxHeartbeats 40000000 in
set_option maxRecDepth 100000 in
theorem ctX7_meanN (l : Launch) (D : va_G) (dA : Nat → ClassId) (sz : Nat) (h_m : Nat) (p0 : Int32) (p1 : Bool) (m_thrown : Int32) (m_trouble : Int32) (m_where : Int32) (m_taped : Int32) (m_size : Int32) (m_spot : Int32) (m_sort : Int32) (m_place : Int32) (m_number : Int32) (m_fault : Int32) (m_wrongAt : Int32) (m_word : Int64) (m_askedOf : Int32) (m_acts : Int32) (m_images : Int32) (m_catGets : Int32) (m_whole : Int64) (m_bestSum : Int64) (m_tourHoursNow : Int32) (m_fitsNow : Int32) (m_foundHour : Int32) (m_lookLeft : Int32) (m_firstCatNow : Int32) (m_read : Value) (m_tape : Value) (m_v : Value) (m_x : Value) (m_past : Value) (m_kept : Value) (m_heir : Value) (m_then : Value) (m_come : Value) (m_comeThen : Value) (m_hour : Value) (m_partIn : Value) (m_heirIn : Value) (res : (Int64 × Int32 × Int32 × Int32)) (hM : MX7_meanN  = some res) : Met l yX7_mean (ws_ yX7_mean cX7_mean 5 (some .long)) ({ frames := 1, cells := 0, slots := 0, locals := 21 }) (pre_ D dA [.ref h_m, .int p0, .int (b2i p1)] [(h_m, .inr (11, [.int m_thrown, .int m_trouble, .int m_where, .null, m_read, m_tape, .int m_taped, .int m_size, .int m_spot, .int m_sort, .int m_place, .int m_number, .int m_fault, .int m_wrongAt, .long m_word, .int m_askedOf, m_v, m_x, m_past, m_kept, .int m_acts, .int m_images, m_heir, m_then, .int m_catGets, .long m_whole, .long m_bestSum, m_come, m_comeThen, .int m_tourHoursNow, m_hour, m_partIn, m_heirIn, .int m_fitsNow, .int m_foundHour, .int m_lookLeft, .int m_firstCatNow]))] sz) (ql_ D res.1 (fun (u : Unit) => [(h_m, .inr (11, [.int res.2.1, .int res.2.2.1, .int res.2.2.2, .null, m_read, m_tape, .int m_taped, .int m_size, .int m_spot, .int m_sort, .int m_place, .int m_number, .int m_fault, .int m_wrongAt, .long m_word, .int m_askedOf, m_v, m_x, m_past, m_kept, .int m_acts, .int m_images, m_heir, m_then, .int m_catGets, .long m_whole, .long m_bestSum, m_come, m_comeThen, .int m_tourHoursNow, m_hour, m_partIn, m_heirIn, .int m_fitsNow, .int m_foundHour, .int m_lookLeft, .int m_firstCatNow]))]) (va_A [(h_m, .inr (11, [.int m_thrown, .int m_trouble, .int m_where, .null, m_read, m_tape, .int m_taped, .int m_size, .int m_spot, .int m_sort, .int m_place, .int m_number, .int m_fault, .int m_wrongAt, .long m_word, .int m_askedOf, m_v, m_x, m_past, m_kept, .int m_acts, .int m_images, m_heir, m_then, .int m_catGets, .long m_whole, .long m_bestSum, m_come, m_comeThen, .int m_tourHoursNow, m_hour, m_partIn, m_heirIn, .int m_fitsNow, .int m_foundHour, .int m_lookLeft, .int m_firstCatNow]))] sz)) 0 0 (va_A [(h_m, .inr (11, [.int m_thrown, .int m_trouble, .int m_where, .null, m_read, m_tape, .int m_taped, .int m_size, .int m_spot, .int m_sort, .int m_place, .int m_number, .int m_fault, .int m_wrongAt, .long m_word, .int m_askedOf, m_v, m_x, m_past, m_kept, .int m_acts, .int m_images, m_heir, m_then, .int m_catGets, .long m_whole, .long m_bestSum, m_come, m_comeThen, .int m_tourHoursNow, m_hour, m_partIn, m_heirIn, .int m_fitsNow, .int m_foundHour, .int m_lookLeft, .int m_firstCatNow]))] sz) := by
  refine Met.ofW (cc := cX7_mean) (maxL := 5) (ret := (some .long)) (by decide) rfl ?_
  intro p e s m args below meth c s₁ B hml hv
  obtain ⟨rfl, hsz, hP, hK, hD0⟩ := hv
  have hx := B.exec
  have hb := B.bytes
  have hr := B.returns
  have hts := atoms_spec (ws := (ws_ yX7_mean cX7_mean 5 (some .long))) B.pre
  have hts : ∀ w ∈ lw_all, w.before _ s = true := fun w h => hts w (List.mem_cons_of_mem _ h)
  have hown : s.vm.findClass RX7 = some m.cls := findClass_of_methodNamed B.named
  have hlocks := B.notSynchronized
  subst hsz
  have hD := hD0.self (sz := s.heap.size)
  generalize hAe : va_A [(h_m, .inr (11, [.int m_thrown, .int m_trouble, .int m_where, .null, m_read, m_tape, .int m_taped, .int m_size, .int m_spot, .int m_sort, .int m_place, .int m_number, .int m_fault, .int m_wrongAt, .long m_word, .int m_askedOf, m_v, m_x, m_past, m_kept, .int m_acts, .int m_images, m_heir, m_then, .int m_catGets, .long m_whole, .long m_bestSum, m_come, m_comeThen, .int m_tourHoursNow, m_hour, m_partIn, m_heirIn, .int m_fitsNow, .int m_foundHour, .int m_lookLeft, .int m_firstCatNow]))] s.heap.size = A at hD ⊢
  have hA : ∀ q : Nat, s.heap.size ≤ q → A q := fun q h => by rw [← hAe]; exact Or.inr h
  have hS : va_S A s.heap s.heap [] := va_S.rf
  have hP : va_P D clG [(h_m, .inr (11, [.int m_thrown, .int m_trouble, .int m_where, .null, m_read, m_tape, .int m_taped, .int m_size, .int m_spot, .int m_sort, .int m_place, .int m_number, .int m_fault, .int m_wrongAt, .long m_word, .int m_askedOf, m_v, m_x, m_past, m_kept, .int m_acts, .int m_images, m_heir, m_then, .int m_catGets, .long m_whole, .long m_bestSum, m_come, m_comeThen, .int m_tourHoursNow, m_hour, m_partIn, m_heirIn, .int m_fitsNow, .int m_foundHour, .int m_lookLeft, .int m_firstCatNow]))] s.heap := hP
  have hl := lv_entry ([.ref h_m, .int p0, .int (b2i p1)]) (n := 5) (Nat.le_of_ble_eq_true rfl)
  rw [lg_entry_eq]
  generalize (lg_sl ([.ref h_m, .int p0, .int (b2i p1)]) ++ List.replicate (5 - (lg_sl ([.ref h_m, .int p0, .int (b2i p1)])).length) Slot.unset).toArray = ls at hl ⊢
  have hl : lv_has ls 5 [(0, .ref h_m), (1, .int p0), (2, .int (b2i p1))] := hl
  unfold MX7_meanN at hM
  refine lv_aload_n hx hb dX7_mean_0 rfl (lv_at hl 0 rfl) ?_
  refine lv_iconst (v := (0 : Int32)) hx hb dX7_mean_1 (by decide) ?_
  refine va_put (D := D) (ci := 11) (v := .int (0 : Int32)) (ty := .int) (C := RX7) (T := TX7) (N := 37) hx hb hts in_X7 tyX7 tyX7_ok nmX7 hown hK.1 hP hD hS 0 rfl rfl 0 (by decide) (hts _ q1372) (fun _ h9 => h9) rfl (by decide +kernel) rfl rfl (Nat.le_of_ble_eq_true rfl) dX7_mean_2 (fun H locs hP hD hS => ?_)
  have hP : va_P D clG [(h_m, .inr (11, [.int (0 : Int32), .int m_trouble, .int m_where, .null, m_read, m_tape, .int m_taped, .int m_size, .int m_spot, .int m_sort, .int m_place, .int m_number, .int m_fault, .int m_wrongAt, .long m_word, .int m_askedOf, m_v, m_x, m_past, m_kept, .int m_acts, .int m_images, m_heir, m_then, .int m_catGets, .long m_whole, .long m_bestSum, m_come, m_comeThen, .int m_tourHoursNow, m_hour, m_partIn, m_heirIn, .int m_fitsNow, .int m_foundHour, .int m_lookLeft, .int m_firstCatNow]))] H := hP
  have hD : va_D A [(h_m, .inr (11, [.int (0 : Int32), .int m_trouble, .int m_where, .null, m_read, m_tape, .int m_taped, .int m_size, .int m_spot, .int m_sort, .int m_place, .int m_number, .int m_fault, .int m_wrongAt, .long m_word, .int m_askedOf, m_v, m_x, m_past, m_kept, .int m_acts, .int m_images, m_heir, m_then, .int m_catGets, .long m_whole, .long m_bestSum, m_come, m_comeThen, .int m_tourHoursNow, m_hour, m_partIn, m_heirIn, .int m_fitsNow, .int m_foundHour, .int m_lookLeft, .int m_firstCatNow]))] := hD
  refine lv_aload_n hx hb dX7_mean_5 rfl (lv_at hl 0 rfl) ?_
  refine lv_iload_n hx hb dX7_mean_6 rfl (lv_at hl 1 rfl) ?_
  obtain ⟨r1, er1, hM⟩ := b_inv hM
  refine k_i0 [0] (va_runV (As := [.int p0]) (rest := []) ⟨hx, hb, hml, hown, hts⟩ (ctX7_isPersonN l D dA _ h_m p0 (0 : Int32) m_trouble m_where m_taped m_size m_spot m_sort m_place m_number m_fault m_wrongAt m_word m_askedOf m_acts m_images m_catGets m_whole m_bestSum m_tourHoursNow m_fitsNow m_foundHour m_lookLeft m_firstCatNow (m_read) (m_tape) (m_v) (m_x) (m_past) (m_kept) (m_heir) (m_then) (m_come) (m_comeThen) (m_hour) (m_partIn) (m_heirIn) r1 er1) (cwV 1 hts (lw_V q1733 q1735 qs71 q122 q1736) rfl rfl rfl (by decide +kernel) ⟨Nat.le_of_ble_eq_true rfl, Nat.le_of_ble_eq_true rfl⟩) (pre_V (hP.sub [0] rfl) hK (hD.sub [0] (by decide) rfl) (ci := 11) (q0 := 0) rfl rfl) rfl rfl hl.1 rfl (lv_room (Nat.le_of_ble_eq_true rfl)) dX7_mean_7 ⟨Nat.le_of_ble_eq_true rfl, Nat.le_of_ble_eq_true rfl⟩) hP hD hS hA rfl (fun _ => rfl) (fun u2 H locs hP hD hS => ?_)
  have hP : va_P D clG [(h_m, .inr (11, [.int (0 : Int32), .int m_trouble, .int m_where, .null, m_read, m_tape, .int m_taped, .int m_size, .int m_spot, .int m_sort, .int m_place, .int m_number, .int m_fault, .int m_wrongAt, .long m_word, .int m_askedOf, m_v, m_x, m_past, m_kept, .int m_acts, .int m_images, m_heir, m_then, .int m_catGets, .long m_whole, .long m_bestSum, m_come, m_comeThen, .int m_tourHoursNow, m_hour, m_partIn, m_heirIn, .int m_fitsNow, .int m_foundHour, .int m_lookLeft, .int m_firstCatNow]))] H := hP
  have hD : va_D A [(h_m, .inr (11, [.int (0 : Int32), .int m_trouble, .int m_where, .null, m_read, m_tape, .int m_taped, .int m_size, .int m_spot, .int m_sort, .int m_place, .int m_number, .int m_fault, .int m_wrongAt, .long m_word, .int m_askedOf, m_v, m_x, m_past, m_kept, .int m_acts, .int m_images, m_heir, m_then, .int m_catGets, .long m_whole, .long m_bestSum, m_come, m_comeThen, .int m_tourHoursNow, m_hour, m_partIn, m_heirIn, .int m_fitsNow, .int m_foundHour, .int m_lookLeft, .int m_firstCatNow]))] := hD
  have kr1 := krX7_isPersonN _ er1
  refine lv_toi (v := (0 : Int32)) (by rw [kr1]; rfl) ?_
  refine lv_if_ne (tgt := 20) hx hb dX7_mean_10 (by decide) (fun c3 => absurd c3 (by decide)) (fun _ => ?_)
  refine lv_aload_n hx hb dX7_mean_13 rfl (lv_at hl 0 rfl) ?_
  refine lv_iconst (v := (1 : Int32)) hx hb dX7_mean_14 (by decide) ?_
  obtain ⟨r4, er4, hM⟩ := b_inv hM
  refine k_i0 [0] (va_runV (As := [.int (1 : Int32)]) (rest := []) ⟨hx, hb, hml, hown, hts⟩ (ctX7_refused l D dA _ h_m (1 : Int32) (0 : Int32) m_trouble m_where m_taped m_size m_spot m_sort m_place m_number m_fault m_wrongAt m_word m_askedOf m_acts m_images m_catGets m_whole m_bestSum m_tourHoursNow m_fitsNow m_foundHour m_lookLeft m_firstCatNow (.null) (m_read) (m_tape) (m_v) (m_x) (m_past) (m_kept) (m_heir) (m_then) (m_come) (m_comeThen) (m_hour) (m_partIn) (m_heirIn) r4 er4) (cwV 1 hts (lw_V q1496 q1498 qs50 q122 q1499) rfl rfl rfl (by decide +kernel) ⟨Nat.le_of_ble_eq_true rfl, Nat.le_of_ble_eq_true rfl⟩) (pre_V (hP.sub [0] rfl) hK (hD.sub [0] (by decide) rfl) (ci := 11) (q0 := 0) rfl rfl) rfl rfl hl.1 rfl (lv_room (Nat.le_of_ble_eq_true rfl)) dX7_mean_15 ⟨Nat.le_of_ble_eq_true rfl, Nat.le_of_ble_eq_true rfl⟩) hP hD hS hA rfl (fun _ => rfl) (fun u5 H locs hP hD hS => ?_)
  have hP : va_P D clG [(h_m, .inr (11, [.int (0 : Int32), .int r4.2.1, .int r4.2.2, .null, m_read, m_tape, .int m_taped, .int m_size, .int m_spot, .int m_sort, .int m_place, .int m_number, .int m_fault, .int m_wrongAt, .long m_word, .int m_askedOf, m_v, m_x, m_past, m_kept, .int m_acts, .int m_images, m_heir, m_then, .int m_catGets, .long m_whole, .long m_bestSum, m_come, m_comeThen, .int m_tourHoursNow, m_hour, m_partIn, m_heirIn, .int m_fitsNow, .int m_foundHour, .int m_lookLeft, .int m_firstCatNow]))] H := hP
  have hD : va_D A [(h_m, .inr (11, [.int (0 : Int32), .int r4.2.1, .int r4.2.2, .null, m_read, m_tape, .int m_taped, .int m_size, .int m_spot, .int m_sort, .int m_place, .int m_number, .int m_fault, .int m_wrongAt, .long m_word, .int m_askedOf, m_v, m_x, m_past, m_kept, .int m_acts, .int m_images, m_heir, m_then, .int m_catGets, .long m_whole, .long m_bestSum, m_come, m_comeThen, .int m_tourHoursNow, m_hour, m_partIn, m_heirIn, .int m_fitsNow, .int m_foundHour, .int m_lookLeft, .int m_firstCatNow]))] := hD
  refine lv_i2l (v := (Int32.toInt64 r4.1)) hx hb dX7_mean_18 rfl ?_
  have hM := Option.some.inj hM
  subst hM
  exact W.lret (v := (Int32.toInt64 r4.1)) hx hb hr (fun t ht hW => ⟨⟨(Int32.toInt64 r4.1), (), rfl, rfl, by rw [ht]; exact hP, hD⟩, hS.F ht⟩) hS.2.2 dX7_mean_19

set_option maxHeartbeats 40000000 in
set_option maxRecDepth 100000 in
theorem ctX1_oddsN (l : Launch) (D : va_G) (dA : Nat → ClassId) (sz : Nat) (h_o : Nat) (p0 : Int32) (p1 : Int32) (p2 : Bool) (o_taped : Int32) (o_trouble : Int32) (o_fault : Int32) (o_where : Int32) (o_imageMany : Int32) (o_undoMany : Int32) (o_firstRest : Int32) (o_catAt : Int32) (o_tape : Value) (o_scanner : Value) (o_town : Value) (o_was : Value) (o_trial : Value) (o_night : Value) (o_plans : Value) (o_undone : Value) (o_images : Value) (o_often : Value) (o_next : Value) (res : (Int64 × Int32 × Int32)) (hM : MX1_oddsN p1 = some res) : Met l yX1_odds (ws_ yX1_odds cX1_odds 7 (some .long)) ({ frames := 1, cells := 0, slots := 0, locals := 22 }) (pre_ D dA [.ref h_o, .int p0, .int p1, .int (b2i p2)] [(h_o, .inr (0, [o_tape, .int o_taped, o_scanner, .null, .int o_trouble, .int o_fault, .int o_where, .int o_imageMany, .int o_undoMany, o_town, o_was, o_trial, o_night, o_plans, o_undone, o_images, o_often, .int o_firstRest, o_next, .int o_catAt]))] sz) (ql_ D res.1 (fun (u : Unit) => [(h_o, .inr (0, [o_tape, .int o_taped, o_scanner, .null, .int res.2.1, .int o_fault, .int res.2.2, .int o_imageMany, .int o_undoMany, o_town, o_was, o_trial, o_night, o_plans, o_undone, o_images, o_often, .int o_firstRest, o_next, .int o_catAt]))]) (va_A [(h_o, .inr (0, [o_tape, .int o_taped, o_scanner, .null, .int o_trouble, .int o_fault, .int o_where, .int o_imageMany, .int o_undoMany, o_town, o_was, o_trial, o_night, o_plans, o_undone, o_images, o_often, .int o_firstRest, o_next, .int o_catAt]))] sz)) 0 0 (va_A [(h_o, .inr (0, [o_tape, .int o_taped, o_scanner, .null, .int o_trouble, .int o_fault, .int o_where, .int o_imageMany, .int o_undoMany, o_town, o_was, o_trial, o_night, o_plans, o_undone, o_images, o_often, .int o_firstRest, o_next, .int o_catAt]))] sz) := by
  refine Met.ofW (cc := cX1_odds) (maxL := 7) (ret := (some .long)) (by decide) rfl ?_
  intro p e s m args below meth c s₁ B hml hv
  obtain ⟨rfl, hsz, hP, hK, hD0⟩ := hv
  have hx := B.exec
  have hb := B.bytes
  have hr := B.returns
  have hts := atoms_spec (ws := (ws_ yX1_odds cX1_odds 7 (some .long))) B.pre
  have hts : ∀ w ∈ lw_all, w.before _ s = true := fun w h => hts w (List.mem_cons_of_mem _ h)
  have hown : s.vm.findClass RX1 = some m.cls := findClass_of_methodNamed B.named
  have hlocks := B.notSynchronized
  subst hsz
  have hD := hD0.self (sz := s.heap.size)
  generalize hAe : va_A [(h_o, .inr (0, [o_tape, .int o_taped, o_scanner, .null, .int o_trouble, .int o_fault, .int o_where, .int o_imageMany, .int o_undoMany, o_town, o_was, o_trial, o_night, o_plans, o_undone, o_images, o_often, .int o_firstRest, o_next, .int o_catAt]))] s.heap.size = A at hD ⊢
  have hA : ∀ q : Nat, s.heap.size ≤ q → A q := fun q h => by rw [← hAe]; exact Or.inr h
  have hS : va_S A s.heap s.heap [] := va_S.rf
  have hP : va_P D clG [(h_o, .inr (0, [o_tape, .int o_taped, o_scanner, .null, .int o_trouble, .int o_fault, .int o_where, .int o_imageMany, .int o_undoMany, o_town, o_was, o_trial, o_night, o_plans, o_undone, o_images, o_often, .int o_firstRest, o_next, .int o_catAt]))] s.heap := hP
  have hl := lv_entry ([.ref h_o, .int p0, .int p1, .int (b2i p2)]) (n := 7) (Nat.le_of_ble_eq_true rfl)
  rw [lg_entry_eq]
  generalize (lg_sl ([.ref h_o, .int p0, .int p1, .int (b2i p2)]) ++ List.replicate (7 - (lg_sl ([.ref h_o, .int p0, .int p1, .int (b2i p2)])).length) Slot.unset).toArray = ls at hl ⊢
  have hl : lv_has ls 7 [(0, .ref h_o), (1, .int p0), (2, .int p1), (3, .int (b2i p2))] := hl
  unfold MX1_oddsN at hM
  refine lv_aload_n hx hb dX1_odds_0 rfl (lv_at hl 0 rfl) ?_
  obtain ⟨r1, er1, hM⟩ := b_inv hM
  refine k_v0 [0] (va_runV (As := []) (rest := []) ⟨hx, hb, hml, hown, hts⟩ (ctX1_anew l D dA _ h_o o_taped o_trouble o_fault o_where o_imageMany o_undoMany o_firstRest o_catAt (o_tape) (o_scanner) (.null) (o_town) (o_was) (o_trial) (o_night) (o_plans) (o_undone) (o_images) (o_often) (o_next) r1 er1) (cwV 0 hts (lw_V q432 q434 qs2 q113 q435) rfl rfl rfl (by decide +kernel) ⟨Nat.le_of_ble_eq_true rfl, Nat.le_of_ble_eq_true rfl⟩) (pre_V (hP.sub [0] rfl) hK (hD.sub [0] (by decide) rfl) (ci := 0) (q0 := 0) rfl rfl) rfl rfl hl.1 rfl (lv_room (Nat.le_of_ble_eq_true rfl)) dX1_odds_1 ⟨Nat.le_of_ble_eq_true rfl, Nat.le_of_ble_eq_true rfl⟩) hP hD hS hA rfl (fun _ => rfl) (fun u2 H locs hP hD hS => ?_)
  have hP : va_P D clG [(h_o, .inr (0, [o_tape, .int o_taped, o_scanner, .null, .int r1.1, .int o_fault, .int r1.2, .int o_imageMany, .int o_undoMany, o_town, o_was, o_trial, o_night, o_plans, o_undone, o_images, o_often, .int o_firstRest, o_next, .int o_catAt]))] H := hP
  have hD : va_D A [(h_o, .inr (0, [o_tape, .int o_taped, o_scanner, .null, .int r1.1, .int o_fault, .int r1.2, .int o_imageMany, .int o_undoMany, o_town, o_was, o_trial, o_night, o_plans, o_undone, o_images, o_often, .int o_firstRest, o_next, .int o_catAt]))] := hD
  refine lv_aload_n hx hb dX1_odds_4 rfl (lv_at hl 0 rfl) ?_
  refine lv_aload_n hx hb dX1_odds_5 rfl (lv_at hl 0 rfl) ?_
  refine lv_iload_n hx hb dX1_odds_6 rfl (lv_at hl 1 rfl) ?_
  obtain ⟨r3, er3, hM⟩ := b_inv hM
  refine k_i0 [0] (va_runV (As := [.int p0]) (rest := [.ref h_o]) ⟨hx, hb, hml, hown, hts⟩ (ctX1_isPersonN l D dA _ h_o p0 o_taped r1.1 o_fault r1.2 o_imageMany o_undoMany o_firstRest o_catAt (o_tape) (o_scanner) (o_town) (o_was) (o_trial) (o_night) (o_plans) (o_undone) (o_images) (o_often) (o_next) r3 er3) (cwV 1 hts (lw_V q913 q915 qs24 q113 q916) rfl rfl rfl (by decide +kernel) ⟨Nat.le_of_ble_eq_true rfl, Nat.le_of_ble_eq_true rfl⟩) (pre_V (hP.sub [0] rfl) hK (hD.sub [0] (by decide) rfl) (ci := 0) (q0 := 0) rfl rfl) rfl rfl hl.1 rfl (lv_room (Nat.le_of_ble_eq_true rfl)) dX1_odds_7 ⟨Nat.le_of_ble_eq_true rfl, Nat.le_of_ble_eq_true rfl⟩) hP hD hS hA rfl (fun _ => rfl) (fun u4 H locs hP hD hS => ?_)
  have hP : va_P D clG [(h_o, .inr (0, [o_tape, .int o_taped, o_scanner, .null, .int r1.1, .int o_fault, .int r1.2, .int o_imageMany, .int o_undoMany, o_town, o_was, o_trial, o_night, o_plans, o_undone, o_images, o_often, .int o_firstRest, o_next, .int o_catAt]))] H := hP
  have hD : va_D A [(h_o, .inr (0, [o_tape, .int o_taped, o_scanner, .null, .int r1.1, .int o_fault, .int r1.2, .int o_imageMany, .int o_undoMany, o_town, o_was, o_trial, o_night, o_plans, o_undone, o_images, o_often, .int o_firstRest, o_next, .int o_catAt]))] := hD
  have kr3 := krX1_isPersonN _ er3
  refine lv_toi (v := (0 : Int32)) (by rw [kr3]; rfl) ?_
  refine lv_iload_n hx hb dX1_odds_10 rfl (lv_at hl 2 rfl) ?_
  refine lv_iconst (v := (0 : Int32)) hx hb dX1_odds_11 (by decide) ?_
  refine lv_sipush (v := (594 : Int32)) hx hb dX1_odds_12 (by decide) ?_
  obtain ⟨r5, er5, hM⟩ := b_inv hM
  refine k_i0 [] (va_runS (As := [.int p1, .int (0 : Int32), .int (594 : Int32)]) (rest := [.int (0 : Int32), .ref h_o]) ⟨hx, hb, hml, hown, hts⟩ (ctX1_in l D dA _ p1 (0 : Int32) (594 : Int32) r5 er5) (va_cwS 3 hts (lw_S q436 q437 q113 q438) rfl rfl rfl (by decide +kernel) ⟨Nat.le_of_ble_eq_true rfl, Nat.le_of_ble_eq_true rfl⟩) (pre_S (hP.sub [] rfl) hK (hD.sub [] (by decide) rfl)) rfl rfl hl.1 rfl (lv_room (Nat.le_of_ble_eq_true rfl)) dX1_odds_15 ⟨Nat.le_of_ble_eq_true rfl, Nat.le_of_ble_eq_true rfl⟩) hP hD hS hA rfl (fun _ => rfl) (fun u6 H locs hP hD hS => ?_)
  have hP : va_P D clG [(h_o, .inr (0, [o_tape, .int o_taped, o_scanner, .null, .int r1.1, .int o_fault, .int r1.2, .int o_imageMany, .int o_undoMany, o_town, o_was, o_trial, o_night, o_plans, o_undone, o_images, o_often, .int o_firstRest, o_next, .int o_catAt]))] H := hP
  have hD : va_D A [(h_o, .inr (0, [o_tape, .int o_taped, o_scanner, .null, .int r1.1, .int o_fault, .int r1.2, .int o_imageMany, .int o_undoMany, o_town, o_was, o_trial, o_night, o_plans, o_undone, o_images, o_often, .int o_firstRest, o_next, .int o_catAt]))] := hD
  obtain ⟨r7, er7, hM⟩ := b_inv hM
  refine k_i0 [0] (va_runV (As := [.int (0 : Int32), .int (b2i r5)]) (rest := []) ⟨hx, hb, hml, hown, hts⟩ (ctX1_numberWhy l D dA _ h_o false r5 o_taped r1.1 o_fault r1.2 o_imageMany o_undoMany o_firstRest o_catAt (o_tape) (o_scanner) (.null) (o_town) (o_was) (o_trial) (o_night) (o_plans) (o_undone) (o_images) (o_often) (o_next) r7 er7) (cwV 2 hts (lw_V q1022 q1024 qs31 q113 q1025) rfl rfl rfl (by decide +kernel) ⟨Nat.le_of_ble_eq_true rfl, Nat.le_of_ble_eq_true rfl⟩) (pre_V (hP.sub [0] rfl) hK (hD.sub [0] (by decide) rfl) (ci := 0) (q0 := 0) rfl rfl) rfl rfl hl.1 rfl (lv_room (Nat.le_of_ble_eq_true rfl)) dX1_odds_18 ⟨Nat.le_of_ble_eq_true rfl, Nat.le_of_ble_eq_true rfl⟩) hP hD hS hA rfl (fun _ => rfl) (fun u8 H locs hP hD hS => ?_)
  have hP : va_P D clG [(h_o, .inr (0, [o_tape, .int o_taped, o_scanner, .null, .int r1.1, .int o_fault, .int r1.2, .int o_imageMany, .int o_undoMany, o_town, o_was, o_trial, o_night, o_plans, o_undone, o_images, o_often, .int o_firstRest, o_next, .int o_catAt]))] H := hP
  have hD : va_D A [(h_o, .inr (0, [o_tape, .int o_taped, o_scanner, .null, .int r1.1, .int o_fault, .int r1.2, .int o_imageMany, .int o_undoMany, o_town, o_was, o_trial, o_night, o_plans, o_undone, o_images, o_often, .int o_firstRest, o_next, .int o_catAt]))] := hD
  have kr7 := knw er7
  refine lv_toi (v := (1 : Int32)) (by rw [kr7]) ?_
  refine lv_istore (lv' := [(4, .int (1 : Int32)), (0, .ref h_o), (1, .int p0), (2, .int p1), (3, .int (b2i p2))]) hx hb dX1_odds_21 hl (by decide) rfl (fun ls hl => ?_)
  refine lv_iload hx hb dX1_odds_23 (lv_at hl 0 rfl) ?_
  refine lv_if_eq (tgt := 36) hx hb dX1_odds_25 (by decide) (fun c9 => absurd c9 (by decide)) (fun _ => ?_)
  refine lv_aload_n hx hb dX1_odds_28 rfl (lv_at hl 1 rfl) ?_
  refine lv_iload hx hb dX1_odds_29 (lv_at hl 0 rfl) ?_
  obtain ⟨r10, er10, hM⟩ := b_inv hM
  refine k_i0 [0] (va_runV (As := [.int (1 : Int32)]) (rest := []) ⟨hx, hb, hml, hown, hts⟩ (ctX1_no l D dA _ h_o (1 : Int32) o_taped r1.1 o_fault r1.2 o_imageMany o_undoMany o_firstRest o_catAt (o_tape) (o_scanner) (.null) (o_town) (o_was) (o_trial) (o_night) (o_plans) (o_undone) (o_images) (o_often) (o_next) r10 er10) (cwV 1 hts (lw_V q439 q441 qs3 q113 q442) rfl rfl rfl (by decide +kernel) ⟨Nat.le_of_ble_eq_true rfl, Nat.le_of_ble_eq_true rfl⟩) (pre_V (hP.sub [0] rfl) hK (hD.sub [0] (by decide) rfl) (ci := 0) (q0 := 0) rfl rfl) rfl rfl hl.1 rfl (lv_room (Nat.le_of_ble_eq_true rfl)) dX1_odds_31 ⟨Nat.le_of_ble_eq_true rfl, Nat.le_of_ble_eq_true rfl⟩) hP hD hS hA rfl (fun _ => rfl) (fun u11 H locs hP hD hS => ?_)
  have hP : va_P D clG [(h_o, .inr (0, [o_tape, .int o_taped, o_scanner, .null, .int r10.2, .int o_fault, .int r1.2, .int o_imageMany, .int o_undoMany, o_town, o_was, o_trial, o_night, o_plans, o_undone, o_images, o_often, .int o_firstRest, o_next, .int o_catAt]))] H := hP
  have hD : va_D A [(h_o, .inr (0, [o_tape, .int o_taped, o_scanner, .null, .int r10.2, .int o_fault, .int r1.2, .int o_imageMany, .int o_undoMany, o_town, o_was, o_trial, o_night, o_plans, o_undone, o_images, o_often, .int o_firstRest, o_next, .int o_catAt]))] := hD
  refine lv_i2l (v := (Int32.toInt64 r10.1)) hx hb dX1_odds_34 rfl ?_
  have hM := Option.some.inj hM
  subst hM
  exact W.lret (v := (Int32.toInt64 r10.1)) hx hb hr (fun t ht hW => ⟨⟨(Int32.toInt64 r10.1), (), rfl, rfl, by rw [ht]; exact hP, hD⟩, hS.F ht⟩) hS.2.2 dX1_odds_35
