set_option maxRecDepth 100000
set_option maxHeartbeats 40000000 in
set_option maxRecDepth 100000 in
theorem ctX7_apartN (l : Launch) (D : va_G) (dA : Nat → ClassId) (sz : Nat) (h_m : Nat) (p0 : Int32) (p1 : Int32) (m_thrown : Int32) (m_trouble : Int32) (m_where : Int32) (m_taped : Int32) (m_size : Int32) (m_spot : Int32) (m_sort : Int32) (m_place : Int32) (m_number : Int32) (m_fault : Int32) (m_wrongAt : Int32) (m_word : Int64) (m_askedOf : Int32) (m_acts : Int32) (m_images : Int32) (m_catGets : Int32) (m_whole : Int64) (m_bestSum : Int64) (m_tourHoursNow : Int32) (m_fitsNow : Int32) (m_foundHour : Int32) (m_lookLeft : Int32) (m_firstCatNow : Int32) (m_read : Value) (m_tape : Value) (m_v : Value) (m_x : Value) (m_past : Value) (m_kept : Value) (m_heir : Value) (m_then : Value) (m_come : Value) (m_comeThen : Value) (m_hour : Value) (m_partIn : Value) (m_heirIn : Value) (res : (Int32 × Int32 × Int32 × Int32)) (hM : MX7_apartN  = some res) : Met l yX7_apart (ws_ yX7_apart cX7_apart 4 (some .int)) ({ frames := 1, cells := 0, slots := 0, locals := 21 }) (pre_ D dA [.ref h_m, .int p0, .int p1] [(h_m, .inr (11, [.int m_thrown, .int m_trouble, .int m_where, .null, m_read, m_tape, .int m_taped, .int m_size, .int m_spot, .int m_sort, .int m_place, .int m_number, .int m_fault, .int m_wrongAt, .long m_word, .int m_askedOf, m_v, m_x, m_past, m_kept, .int m_acts, .int m_images, m_heir, m_then, .int m_catGets, .long m_whole, .long m_bestSum, m_come, m_comeThen, .int m_tourHoursNow, m_hour, m_partIn, m_heirIn, .int m_fitsNow, .int m_foundHour, .int m_lookLeft, .int m_firstCatNow]))] sz) (qi_ D res.1 (fun (u : Unit) => [(h_m, .inr (11, [.int res.2.1, .int res.2.2.1, .int res.2.2.2, .null, m_read, m_tape, .int m_taped, .int m_size, .int m_spot, .int m_sort, .int m_place, .int m_number, .int m_fault, .int m_wrongAt, .long m_word, .int m_askedOf, m_v, m_x, m_past, m_kept, .int m_acts, .int m_images, m_heir, m_then, .int m_catGets, .long m_whole, .long m_bestSum, m_come, m_comeThen, .int m_tourHoursNow, m_hour, m_partIn, m_heirIn, .int m_fitsNow, .int m_foundHour, .int m_lookLeft, .int m_firstCatNow]))]) (va_A [(h_m, .inr (11, [.int m_thrown, .int m_trouble, .int m_where, .null, m_read, m_tape, .int m_taped, .int m_size, .int m_spot, .int m_sort, .int m_place, .int m_number, .int m_fault, .int m_wrongAt, .long m_word, .int m_askedOf, m_v, m_x, m_past, m_kept, .int m_acts, .int m_images, m_heir, m_then, .int m_catGets, .long m_whole, .long m_bestSum, m_come, m_comeThen, .int m_tourHoursNow, m_hour, m_partIn, m_heirIn, .int m_fitsNow, .int m_foundHour, .int m_lookLeft, .int m_firstCatNow]))] sz)) 0 0 (va_A [(h_m, .inr (11, [.int m_thrown, .int m_trouble, .int m_where, .null, m_read, m_tape, .int m_taped, .int m_size, .int m_spot, .int m_sort, .int m_place, .int m_number, .int m_fault, .int m_wrongAt, .long m_word, .int m_askedOf, m_v, m_x, m_past, m_kept, .int m_acts, .int m_images, m_heir, m_then, .int m_catGets, .long m_whole, .long m_bestSum, m_come, m_comeThen, .int m_tourHoursNow, m_hour, m_partIn, m_heirIn, .int m_fitsNow, .int m_foundHour, .int m_lookLeft, .int m_firstCatNow]))] sz) := by
  refine Met.ofW (cc := cX7_apart) (maxL := 4) (ret := (some .int)) (by decide) rfl ?_
  intro p e s m args below meth c s₁ B hml hv
  obtain ⟨rfl, hsz, hP, hK, hD0⟩ := hv
  have hx := B.exec
  have hb := B.bytes
  have hr := B.returns
  have hts := atoms_spec (ws := (ws_ yX7_apart cX7_apart 4 (some .int))) B.pre
  have hts : ∀ w ∈ lw_all, w.before _ s = true := fun w h => hts w (List.mem_cons_of_mem _ h)
  have hown : s.vm.findClass RX7 = some m.cls := findClass_of_methodNamed B.named
  have hlocks := B.notSynchronized
  subst hsz
  have hD := hD0.self (sz := s.heap.size)
  generalize hAe : va_A [(h_m, .inr (11, [.int m_thrown, .int m_trouble, .int m_where, .null, m_read, m_tape, .int m_taped, .int m_size, .int m_spot, .int m_sort, .int m_place, .int m_number, .int m_fault, .int m_wrongAt, .long m_word, .int m_askedOf, m_v, m_x, m_past, m_kept, .int m_acts, .int m_images, m_heir, m_then, .int m_catGets, .long m_whole, .long m_bestSum, m_come, m_comeThen, .int m_tourHoursNow, m_hour, m_partIn, m_heirIn, .int m_fitsNow, .int m_foundHour, .int m_lookLeft, .int m_firstCatNow]))] s.heap.size = A at hD ⊢
  have hA : ∀ q : Nat, s.heap.size ≤ q → A q := fun q h => by rw [← hAe]; exact Or.inr h
  have hS : va_S A s.heap s.heap [] := va_S.rf
  have hP : va_P D clG [(h_m, .inr (11, [.int m_thrown, .int m_trouble, .int m_where, .null, m_read, m_tape, .int m_taped, .int m_size, .int m_spot, .int m_sort, .int m_place, .int m_number, .int m_fault, .int m_wrongAt, .long m_word, .int m_askedOf, m_v, m_x, m_past, m_kept, .int m_acts, .int m_images, m_heir, m_then, .int m_catGets, .long m_whole, .long m_bestSum, m_come, m_comeThen, .int m_tourHoursNow, m_hour, m_partIn, m_heirIn, .int m_fitsNow, .int m_foundHour, .int m_lookLeft, .int m_firstCatNow]))] s.heap := hP
  have hl := lv_entry ([.ref h_m, .int p0, .int p1]) (n := 4) (Nat.le_of_ble_eq_true rfl)
  rw [lg_entry_eq]
  generalize (lg_sl ([.ref h_m, .int p0, .int p1]) ++ List.replicate (4 - (lg_sl ([.ref h_m, .int p0, .int p1])).length) Slot.unset).toArray = ls at hl ⊢
  have hl : lv_has ls 4 [(0, .ref h_m), (1, .int p0), (2, .int p1)] := hl
  unfold MX7_apartN at hM
  refine lv_aload_n hx hb dX7_apart_0 rfl (lv_at hl 0 rfl) ?_
  refine lv_iconst (v := (0 : Int32)) hx hb dX7_apart_1 (by decide) ?_
  refine va_put (D := D) (ci := 11) (v := .int (0 : Int32)) (ty := .int) (C := RX7) (T := TX7) (N := 37) hx hb hts in_X7 tyX7 tyX7_ok nmX7 hown hK.1 hP hD hS 0 rfl rfl 0 (by decide) (hts _ q1372) (fun _ h9 => h9) rfl (by decide +kernel) rfl rfl (Nat.le_of_ble_eq_true rfl) dX7_apart_2 (fun H locs hP hD hS => ?_)
  have hP : va_P D clG [(h_m, .inr (11, [.int (0 : Int32), .int m_trouble, .int m_where, .null, m_read, m_tape, .int m_taped, .int m_size, .int m_spot, .int m_sort, .int m_place, .int m_number, .int m_fault, .int m_wrongAt, .long m_word, .int m_askedOf, m_v, m_x, m_past, m_kept, .int m_acts, .int m_images, m_heir, m_then, .int m_catGets, .long m_whole, .long m_bestSum, m_come, m_comeThen, .int m_tourHoursNow, m_hour, m_partIn, m_heirIn, .int m_fitsNow, .int m_foundHour, .int m_lookLeft, .int m_firstCatNow]))] H := hP
  have hD : va_D A [(h_m, .inr (11, [.int (0 : Int32), .int m_trouble, .int m_where, .null, m_read, m_tape, .int m_taped, .int m_size, .int m_spot, .int m_sort, .int m_place, .int m_number, .int m_fault, .int m_wrongAt, .long m_word, .int m_askedOf, m_v, m_x, m_past, m_kept, .int m_acts, .int m_images, m_heir, m_then, .int m_catGets, .long m_whole, .long m_bestSum, m_come, m_comeThen, .int m_tourHoursNow, m_hour, m_partIn, m_heirIn, .int m_fitsNow, .int m_foundHour, .int m_lookLeft, .int m_firstCatNow]))] := hD
  refine lv_aload_n hx hb dX7_apart_5 rfl (lv_at hl 0 rfl) ?_
  refine lv_iload_n hx hb dX7_apart_6 rfl (lv_at hl 1 rfl) ?_
  obtain ⟨r1, er1, hM⟩ := b_inv hM
  refine k_i0 [0] (va_runV (As := [.int p0]) (rest := []) ⟨hx, hb, hml, hown, hts⟩ (ctX7_isPersonN l D dA _ h_m p0 (0 : Int32) m_trouble m_where m_taped m_size m_spot m_sort m_place m_number m_fault m_wrongAt m_word m_askedOf m_acts m_images m_catGets m_whole m_bestSum m_tourHoursNow m_fitsNow m_foundHour m_lookLeft m_firstCatNow (m_read) (m_tape) (m_v) (m_x) (m_past) (m_kept) (m_heir) (m_then) (m_come) (m_comeThen) (m_hour) (m_partIn) (m_heirIn) r1 er1) (cwV 1 hts (lw_V q1733 q1735 qs71 q122 q1736) rfl rfl rfl (by decide +kernel) ⟨Nat.le_of_ble_eq_true rfl, Nat.le_of_ble_eq_true rfl⟩) (pre_V (hP.sub [0] rfl) hK (hD.sub [0] (by decide) rfl) (ci := 11) (q0 := 0) rfl rfl) rfl rfl hl.1 rfl (lv_room (Nat.le_of_ble_eq_true rfl)) dX7_apart_7 ⟨Nat.le_of_ble_eq_true rfl, Nat.le_of_ble_eq_true rfl⟩) hP hD hS hA rfl (fun _ => rfl) (fun u2 H locs hP hD hS => ?_)
  have hP : va_P D clG [(h_m, .inr (11, [.int (0 : Int32), .int m_trouble, .int m_where, .null, m_read, m_tape, .int m_taped, .int m_size, .int m_spot, .int m_sort, .int m_place, .int m_number, .int m_fault, .int m_wrongAt, .long m_word, .int m_askedOf, m_v, m_x, m_past, m_kept, .int m_acts, .int m_images, m_heir, m_then, .int m_catGets, .long m_whole, .long m_bestSum, m_come, m_comeThen, .int m_tourHoursNow, m_hour, m_partIn, m_heirIn, .int m_fitsNow, .int m_foundHour, .int m_lookLeft, .int m_firstCatNow]))] H := hP
  have hD : va_D A [(h_m, .inr (11, [.int (0 : Int32), .int m_trouble, .int m_where, .null, m_read, m_tape, .int m_taped, .int m_size, .int m_spot, .int m_sort, .int m_place, .int m_number, .int m_fault, .int m_wrongAt, .long m_word, .int m_askedOf, m_v, m_x, m_past, m_kept, .int m_acts, .int m_images, m_heir, m_then, .int m_catGets, .long m_whole, .long m_bestSum, m_come, m_comeThen, .int m_tourHoursNow, m_hour, m_partIn, m_heirIn, .int m_fitsNow, .int m_foundHour, .int m_lookLeft, .int m_firstCatNow]))] := hD
  have kr1 := krX7_isPersonN _ er1
  refine lv_toi (v := (0 : Int32)) (by rw [kr1]; rfl) ?_
  refine lv_if_eq (tgt := 21) hx hb dX7_apart_10 (by decide) (fun _ => ?_) (fun c3 => absurd c3 (by decide))
  refine lv_aload_n hx hb dX7_apart_21 rfl (lv_at hl 0 rfl) ?_
  refine lv_iconst (v := (1 : Int32)) hx hb dX7_apart_22 (by decide) ?_
  obtain ⟨r4, er4, hM⟩ := b_inv hM
  refine k_i0 [0] (va_runV (As := [.int (1 : Int32)]) (rest := []) ⟨hx, hb, hml, hown, hts⟩ (ctX7_refused l D dA _ h_m (1 : Int32) (0 : Int32) m_trouble m_where m_taped m_size m_spot m_sort m_place m_number m_fault m_wrongAt m_word m_askedOf m_acts m_images m_catGets m_whole m_bestSum m_tourHoursNow m_fitsNow m_foundHour m_lookLeft m_firstCatNow (.null) (m_read) (m_tape) (m_v) (m_x) (m_past) (m_kept) (m_heir) (m_then) (m_come) (m_comeThen) (m_hour) (m_partIn) (m_heirIn) r4 er4) (cwV 1 hts (lw_V q1496 q1498 qs50 q122 q1499) rfl rfl rfl (by decide +kernel) ⟨Nat.le_of_ble_eq_true rfl, Nat.le_of_ble_eq_true rfl⟩) (pre_V (hP.sub [0] rfl) hK (hD.sub [0] (by decide) rfl) (ci := 11) (q0 := 0) rfl rfl) rfl rfl hl.1 rfl (lv_room (Nat.le_of_ble_eq_true rfl)) dX7_apart_23 ⟨Nat.le_of_ble_eq_true rfl, Nat.le_of_ble_eq_true rfl⟩) hP hD hS hA rfl (fun _ => rfl) (fun u5 H locs hP hD hS => ?_)
  have hP : va_P D clG [(h_m, .inr (11, [.int (0 : Int32), .int r4.2.1, .int r4.2.2, .null, m_read, m_tape, .int m_taped, .int m_size, .int m_spot, .int m_sort, .int m_place, .int m_number, .int m_fault, .int m_wrongAt, .long m_word, .int m_askedOf, m_v, m_x, m_past, m_kept, .int m_acts, .int m_images, m_heir, m_then, .int m_catGets, .long m_whole, .long m_bestSum, m_come, m_comeThen, .int m_tourHoursNow, m_hour, m_partIn, m_heirIn, .int m_fitsNow, .int m_foundHour, .int m_lookLeft, .int m_firstCatNow]))] H := hP
  have hD : va_D A [(h_m, .inr (11, [.int (0 : Int32), .int r4.2.1, .int r4.2.2, .null, m_read, m_tape, .int m_taped, .int m_size, .int m_spot, .int m_sort, .int m_place, .int m_number, .int m_fault, .int m_wrongAt, .long m_word, .int m_askedOf, m_v, m_x, m_past, m_kept, .int m_acts, .int m_images, m_heir, m_then, .int m_catGets, .long m_whole, .long m_bestSum, m_come, m_comeThen, .int m_tourHoursNow, m_hour, m_partIn, m_heirIn, .int m_fitsNow, .int m_foundHour, .int m_lookLeft, .int m_firstCatNow]))] := hD
  have hM := Option.some.inj hM
  subst hM
  exact W.iret (v := r4.1) hx hb hr (fun t ht hW => ⟨⟨r4.1, (), rfl, rfl, by rw [ht]; exact hP, hD⟩, hS.F ht⟩) hS.2.2 dX7_apart_26

set_option maxHeartbeats 40000000 in
set_option maxRecDepth 100000 in
theorem ctX1_toAskN (l : Launch) (D : va_G) (dA : Nat → ClassId) (sz : Nat) (h_o : Nat) (p0 : Int32) (o_taped : Int32) (o_trouble : Int32) (o_fault : Int32) (o_where : Int32) (o_imageMany : Int32) (o_undoMany : Int32) (o_firstRest : Int32) (o_catAt : Int32) (o_tape : Value) (o_scanner : Value) (o_town : Value) (o_was : Value) (o_trial : Value) (o_night : Value) (o_plans : Value) (o_undone : Value) (o_images : Value) (o_often : Value) (o_next : Value) (res : (Int32 × Int32 × Int32)) (hM : MX1_toAskN  = some res) : Met l yX1_toAsk (ws_ yX1_toAsk cX1_toAsk 5 (some .int)) ({ frames := 1, cells := 0, slots := 0, locals := 21 }) (pre_ D dA [.ref h_o, .int p0] [(h_o, .inr (0, [o_tape, .int o_taped, o_scanner, .null, .int o_trouble, .int o_fault, .int o_where, .int o_imageMany, .int o_undoMany, o_town, o_was, o_trial, o_night, o_plans, o_undone, o_images, o_often, .int o_firstRest, o_next, .int o_catAt]))] sz) (qi_ D res.1 (fun (u : Unit) => [(h_o, .inr (0, [o_tape, .int o_taped, o_scanner, .null, .int res.2.1, .int o_fault, .int res.2.2, .int o_imageMany, .int o_undoMany, o_town, o_was, o_trial, o_night, o_plans, o_undone, o_images, o_often, .int o_firstRest, o_next, .int o_catAt]))]) (va_A [(h_o, .inr (0, [o_tape, .int o_taped, o_scanner, .null, .int o_trouble, .int o_fault, .int o_where, .int o_imageMany, .int o_undoMany, o_town, o_was, o_trial, o_night, o_plans, o_undone, o_images, o_often, .int o_firstRest, o_next, .int o_catAt]))] sz)) 0 0 (va_A [(h_o, .inr (0, [o_tape, .int o_taped, o_scanner, .null, .int o_trouble, .int o_fault, .int o_where, .int o_imageMany, .int o_undoMany, o_town, o_was, o_trial, o_night, o_plans, o_undone, o_images, o_often, .int o_firstRest, o_next, .int o_catAt]))] sz) := by
  refine Met.ofW (cc := cX1_toAsk) (maxL := 5) (ret := (some .int)) (by decide) rfl ?_
  intro p e s m args below meth c s₁ B hml hv
  obtain ⟨rfl, hsz, hP, hK, hD0⟩ := hv
  have hx := B.exec
  have hb := B.bytes
  have hr := B.returns
  have hts := atoms_spec (ws := (ws_ yX1_toAsk cX1_toAsk 5 (some .int))) B.pre
  have hts : ∀ w ∈ lw_all, w.before _ s = true := fun w h => hts w (List.mem_cons_of_mem _ h)
  have hown : s.vm.findClass RX1 = some m.cls := findClass_of_methodNamed B.named
  have hlocks := B.notSynchronized
  subst hsz
  have hD := hD0.self (sz := s.heap.size)
  generalize hAe : va_A [(h_o, .inr (0, [o_tape, .int o_taped, o_scanner, .null, .int o_trouble, .int o_fault, .int o_where, .int o_imageMany, .int o_undoMany, o_town, o_was, o_trial, o_night, o_plans, o_undone, o_images, o_often, .int o_firstRest, o_next, .int o_catAt]))] s.heap.size = A at hD ⊢
  have hA : ∀ q : Nat, s.heap.size ≤ q → A q := fun q h => by rw [← hAe]; exact Or.inr h
  have hS : va_S A s.heap s.heap [] := va_S.rf
  have hP : va_P D clG [(h_o, .inr (0, [o_tape, .int o_taped, o_scanner, .null, .int o_trouble, .int o_fault, .int o_where, .int o_imageMany, .int o_undoMany, o_town, o_was, o_trial, o_night, o_plans, o_undone, o_images, o_often, .int o_firstRest, o_next, .int o_catAt]))] s.heap := hP
  have hl := lv_entry ([.ref h_o, .int p0]) (n := 5) (Nat.le_of_ble_eq_true rfl)
  rw [lg_entry_eq]
  generalize (lg_sl ([.ref h_o, .int p0]) ++ List.replicate (5 - (lg_sl ([.ref h_o, .int p0])).length) Slot.unset).toArray = ls at hl ⊢
  have hl : lv_has ls 5 [(0, .ref h_o), (1, .int p0)] := hl
  unfold MX1_toAskN at hM
  refine lv_aload_n hx hb dX1_toAsk_0 rfl (lv_at hl 0 rfl) ?_
  obtain ⟨r1, er1, hM⟩ := b_inv hM
  refine k_v0 [0] (va_runV (As := []) (rest := []) ⟨hx, hb, hml, hown, hts⟩ (ctX1_anew l D dA _ h_o o_taped o_trouble o_fault o_where o_imageMany o_undoMany o_firstRest o_catAt (o_tape) (o_scanner) (.null) (o_town) (o_was) (o_trial) (o_night) (o_plans) (o_undone) (o_images) (o_often) (o_next) r1 er1) (cwV 0 hts (lw_V q432 q434 qs2 q113 q435) rfl rfl rfl (by decide +kernel) ⟨Nat.le_of_ble_eq_true rfl, Nat.le_of_ble_eq_true rfl⟩) (pre_V (hP.sub [0] rfl) hK (hD.sub [0] (by decide) rfl) (ci := 0) (q0 := 0) rfl rfl) rfl rfl hl.1 rfl (lv_room (Nat.le_of_ble_eq_true rfl)) dX1_toAsk_1 ⟨Nat.le_of_ble_eq_true rfl, Nat.le_of_ble_eq_true rfl⟩) hP hD hS hA rfl (fun _ => rfl) (fun u2 H locs hP hD hS => ?_)
  have hP : va_P D clG [(h_o, .inr (0, [o_tape, .int o_taped, o_scanner, .null, .int r1.1, .int o_fault, .int r1.2, .int o_imageMany, .int o_undoMany, o_town, o_was, o_trial, o_night, o_plans, o_undone, o_images, o_often, .int o_firstRest, o_next, .int o_catAt]))] H := hP
  have hD : va_D A [(h_o, .inr (0, [o_tape, .int o_taped, o_scanner, .null, .int r1.1, .int o_fault, .int r1.2, .int o_imageMany, .int o_undoMany, o_town, o_was, o_trial, o_night, o_plans, o_undone, o_images, o_often, .int o_firstRest, o_next, .int o_catAt]))] := hD
  refine lv_aload_n hx hb dX1_toAsk_4 rfl (lv_at hl 0 rfl) ?_
  refine lv_iload_n hx hb dX1_toAsk_5 rfl (lv_at hl 1 rfl) ?_
  obtain ⟨r3, er3, hM⟩ := b_inv hM
  refine k_i0 [0] (va_runV (As := [.int p0]) (rest := []) ⟨hx, hb, hml, hown, hts⟩ (ctX1_isPersonN l D dA _ h_o p0 o_taped r1.1 o_fault r1.2 o_imageMany o_undoMany o_firstRest o_catAt (o_tape) (o_scanner) (o_town) (o_was) (o_trial) (o_night) (o_plans) (o_undone) (o_images) (o_often) (o_next) r3 er3) (cwV 1 hts (lw_V q913 q915 qs24 q113 q916) rfl rfl rfl (by decide +kernel) ⟨Nat.le_of_ble_eq_true rfl, Nat.le_of_ble_eq_true rfl⟩) (pre_V (hP.sub [0] rfl) hK (hD.sub [0] (by decide) rfl) (ci := 0) (q0 := 0) rfl rfl) rfl rfl hl.1 rfl (lv_room (Nat.le_of_ble_eq_true rfl)) dX1_toAsk_6 ⟨Nat.le_of_ble_eq_true rfl, Nat.le_of_ble_eq_true rfl⟩) hP hD hS hA rfl (fun _ => rfl) (fun u4 H locs hP hD hS => ?_)
  have hP : va_P D clG [(h_o, .inr (0, [o_tape, .int o_taped, o_scanner, .null, .int r1.1, .int o_fault, .int r1.2, .int o_imageMany, .int o_undoMany, o_town, o_was, o_trial, o_night, o_plans, o_undone, o_images, o_often, .int o_firstRest, o_next, .int o_catAt]))] H := hP
  have hD : va_D A [(h_o, .inr (0, [o_tape, .int o_taped, o_scanner, .null, .int r1.1, .int o_fault, .int r1.2, .int o_imageMany, .int o_undoMany, o_town, o_was, o_trial, o_night, o_plans, o_undone, o_images, o_often, .int o_firstRest, o_next, .int o_catAt]))] := hD
  have kr3 := krX1_isPersonN _ er3
  refine lv_toi (v := (0 : Int32)) (by rw [kr3]; rfl) ?_
  refine lv_if_ne (tgt := 18) hx hb dX1_toAsk_9 (by decide) (fun c5 => absurd c5 (by decide)) (fun _ => ?_)
  refine lv_aload_n hx hb dX1_toAsk_12 rfl (lv_at hl 0 rfl) ?_
  refine lv_iconst (v := (1 : Int32)) hx hb dX1_toAsk_13 (by decide) ?_
  obtain ⟨r6, er6, hM⟩ := b_inv hM
  refine k_i0 [0] (va_runV (As := [.int (1 : Int32)]) (rest := []) ⟨hx, hb, hml, hown, hts⟩ (ctX1_no l D dA _ h_o (1 : Int32) o_taped r1.1 o_fault r1.2 o_imageMany o_undoMany o_firstRest o_catAt (o_tape) (o_scanner) (.null) (o_town) (o_was) (o_trial) (o_night) (o_plans) (o_undone) (o_images) (o_often) (o_next) r6 er6) (cwV 1 hts (lw_V q439 q441 qs3 q113 q442) rfl rfl rfl (by decide +kernel) ⟨Nat.le_of_ble_eq_true rfl, Nat.le_of_ble_eq_true rfl⟩) (pre_V (hP.sub [0] rfl) hK (hD.sub [0] (by decide) rfl) (ci := 0) (q0 := 0) rfl rfl) rfl rfl hl.1 rfl (lv_room (Nat.le_of_ble_eq_true rfl)) dX1_toAsk_14 ⟨Nat.le_of_ble_eq_true rfl, Nat.le_of_ble_eq_true rfl⟩) hP hD hS hA rfl (fun _ => rfl) (fun u7 H locs hP hD hS => ?_)
  have hP : va_P D clG [(h_o, .inr (0, [o_tape, .int o_taped, o_scanner, .null, .int r6.2, .int o_fault, .int r1.2, .int o_imageMany, .int o_undoMany, o_town, o_was, o_trial, o_night, o_plans, o_undone, o_images, o_often, .int o_firstRest, o_next, .int o_catAt]))] H := hP
  have hD : va_D A [(h_o, .inr (0, [o_tape, .int o_taped, o_scanner, .null, .int r6.2, .int o_fault, .int r1.2, .int o_imageMany, .int o_undoMany, o_town, o_was, o_trial, o_night, o_plans, o_undone, o_images, o_often, .int o_firstRest, o_next, .int o_catAt]))] := hD
  have hM := Option.some.inj hM
  subst hM
  exact W.iret (v := r6.1) hx hb hr (fun t ht hW => ⟨⟨r6.1, (), rfl, rfl, by rw [ht]; exact hP, hD⟩, hS.F ht⟩) hS.2.2 dX1_toAsk_17

set_option maxHeartbeats 40000000 in
set_option maxRecDepth 100000 in
theorem ctX7_toAskN (l : Launch) (D : va_G) (dA : Nat → ClassId) (sz : Nat) (h_m : Nat) (p0 : Int32) (m_thrown : Int32) (m_trouble : Int32) (m_where : Int32) (m_taped : Int32) (m_size : Int32) (m_spot : Int32) (m_sort : Int32) (m_place : Int32) (m_number : Int32) (m_fault : Int32) (m_wrongAt : Int32) (m_word : Int64) (m_askedOf : Int32) (m_acts : Int32) (m_images : Int32) (m_catGets : Int32) (m_whole : Int64) (m_bestSum : Int64) (m_tourHoursNow : Int32) (m_fitsNow : Int32) (m_foundHour : Int32) (m_lookLeft : Int32) (m_firstCatNow : Int32) (m_read : Value) (m_tape : Value) (m_v : Value) (m_x : Value) (m_past : Value) (m_kept : Value) (m_heir : Value) (m_then : Value) (m_come : Value) (m_comeThen : Value) (m_hour : Value) (m_partIn : Value) (m_heirIn : Value) (res : (Int32 × Int32 × Int32 × Int32)) (hM : MX7_toAskN  = some res) : Met l yX7_toAsk (ws_ yX7_toAsk cX7_toAsk 5 (some .int)) ({ frames := 1, cells := 0, slots := 0, locals := 21 }) (pre_ D dA [.ref h_m, .int p0] [(h_m, .inr (11, [.int m_thrown, .int m_trouble, .int m_where, .null, m_read, m_tape, .int m_taped, .int m_size, .int m_spot, .int m_sort, .int m_place, .int m_number, .int m_fault, .int m_wrongAt, .long m_word, .int m_askedOf, m_v, m_x, m_past, m_kept, .int m_acts, .int m_images, m_heir, m_then, .int m_catGets, .long m_whole, .long m_bestSum, m_come, m_comeThen, .int m_tourHoursNow, m_hour, m_partIn, m_heirIn, .int m_fitsNow, .int m_foundHour, .int m_lookLeft, .int m_firstCatNow]))] sz) (qi_ D res.1 (fun (u : Unit) => [(h_m, .inr (11, [.int res.2.1, .int res.2.2.1, .int res.2.2.2, .null, m_read, m_tape, .int m_taped, .int m_size, .int m_spot, .int m_sort, .int m_place, .int m_number, .int m_fault, .int m_wrongAt, .long m_word, .int m_askedOf, m_v, m_x, m_past, m_kept, .int m_acts, .int m_images, m_heir, m_then, .int m_catGets, .long m_whole, .long m_bestSum, m_come, m_comeThen, .int m_tourHoursNow, m_hour, m_partIn, m_heirIn, .int m_fitsNow, .int m_foundHour, .int m_lookLeft, .int m_firstCatNow]))]) (va_A [(h_m, .inr (11, [.int m_thrown, .int m_trouble, .int m_where, .null, m_read, m_tape, .int m_taped, .int m_size, .int m_spot, .int m_sort, .int m_place, .int m_number, .int m_fault, .int m_wrongAt, .long m_word, .int m_askedOf, m_v, m_x, m_past, m_kept, .int m_acts, .int m_images, m_heir, m_then, .int m_catGets, .long m_whole, .long m_bestSum, m_come, m_comeThen, .int m_tourHoursNow, m_hour, m_partIn, m_heirIn, .int m_fitsNow, .int m_foundHour, .int m_lookLeft, .int m_firstCatNow]))] sz)) 0 0 (va_A [(h_m, .inr (11, [.int m_thrown, .int m_trouble, .int m_where, .null, m_read, m_tape, .int m_taped, .int m_size, .int m_spot, .int m_sort, .int m_place, .int m_number, .int m_fault, .int m_wrongAt, .long m_word, .int m_askedOf, m_v, m_x, m_past, m_kept, .int m_acts, .int m_images, m_heir, m_then, .int m_catGets, .long m_whole, .long m_bestSum, m_come, m_comeThen, .int m_tourHoursNow, m_hour, m_partIn, m_heirIn, .int m_fitsNow, .int m_foundHour, .int m_lookLeft, .int m_firstCatNow]))] sz) := by
  refine Met.ofW (cc := cX7_toAsk) (maxL := 5) (ret := (some .int)) (by decide) rfl ?_
  intro p e s m args below meth c s₁ B hml hv
  obtain ⟨rfl, hsz, hP, hK, hD0⟩ := hv
  have hx := B.exec
  have hb := B.bytes
  have hr := B.returns
  have hts := atoms_spec (ws := (ws_ yX7_toAsk cX7_toAsk 5 (some .int))) B.pre
  have hts : ∀ w ∈ lw_all, w.before _ s = true := fun w h => hts w (List.mem_cons_of_mem _ h)
  have hown : s.vm.findClass RX7 = some m.cls := findClass_of_methodNamed B.named
  have hlocks := B.notSynchronized
  subst hsz
  have hD := hD0.self (sz := s.heap.size)
  generalize hAe : va_A [(h_m, .inr (11, [.int m_thrown, .int m_trouble, .int m_where, .null, m_read, m_tape, .int m_taped, .int m_size, .int m_spot, .int m_sort, .int m_place, .int m_number, .int m_fault, .int m_wrongAt, .long m_word, .int m_askedOf, m_v, m_x, m_past, m_kept, .int m_acts, .int m_images, m_heir, m_then, .int m_catGets, .long m_whole, .long m_bestSum, m_come, m_comeThen, .int m_tourHoursNow, m_hour, m_partIn, m_heirIn, .int m_fitsNow, .int m_foundHour, .int m_lookLeft, .int m_firstCatNow]))] s.heap.size = A at hD ⊢
  have hA : ∀ q : Nat, s.heap.size ≤ q → A q := fun q h => by rw [← hAe]; exact Or.inr h
  have hS : va_S A s.heap s.heap [] := va_S.rf
  have hP : va_P D clG [(h_m, .inr (11, [.int m_thrown, .int m_trouble, .int m_where, .null, m_read, m_tape, .int m_taped, .int m_size, .int m_spot, .int m_sort, .int m_place, .int m_number, .int m_fault, .int m_wrongAt, .long m_word, .int m_askedOf, m_v, m_x, m_past, m_kept, .int m_acts, .int m_images, m_heir, m_then, .int m_catGets, .long m_whole, .long m_bestSum, m_come, m_comeThen, .int m_tourHoursNow, m_hour, m_partIn, m_heirIn, .int m_fitsNow, .int m_foundHour, .int m_lookLeft, .int m_firstCatNow]))] s.heap := hP
  have hl := lv_entry ([.ref h_m, .int p0]) (n := 5) (Nat.le_of_ble_eq_true rfl)
  rw [lg_entry_eq]
  generalize (lg_sl ([.ref h_m, .int p0]) ++ List.replicate (5 - (lg_sl ([.ref h_m, .int p0])).length) Slot.unset).toArray = ls at hl ⊢
  have hl : lv_has ls 5 [(0, .ref h_m), (1, .int p0)] := hl
  unfold MX7_toAskN at hM
  refine lv_aload_n hx hb dX7_toAsk_0 rfl (lv_at hl 0 rfl) ?_
  refine lv_iconst (v := (0 : Int32)) hx hb dX7_toAsk_1 (by decide) ?_
  refine va_put (D := D) (ci := 11) (v := .int (0 : Int32)) (ty := .int) (C := RX7) (T := TX7) (N := 37) hx hb hts in_X7 tyX7 tyX7_ok nmX7 hown hK.1 hP hD hS 0 rfl rfl 0 (by decide) (hts _ q1372) (fun _ h9 => h9) rfl (by decide +kernel) rfl rfl (Nat.le_of_ble_eq_true rfl) dX7_toAsk_2 (fun H locs hP hD hS => ?_)
  have hP : va_P D clG [(h_m, .inr (11, [.int (0 : Int32), .int m_trouble, .int m_where, .null, m_read, m_tape, .int m_taped, .int m_size, .int m_spot, .int m_sort, .int m_place, .int m_number, .int m_fault, .int m_wrongAt, .long m_word, .int m_askedOf, m_v, m_x, m_past, m_kept, .int m_acts, .int m_images, m_heir, m_then, .int m_catGets, .long m_whole, .long m_bestSum, m_come, m_comeThen, .int m_tourHoursNow, m_hour, m_partIn, m_heirIn, .int m_fitsNow, .int m_foundHour, .int m_lookLeft, .int m_firstCatNow]))] H := hP
  have hD : va_D A [(h_m, .inr (11, [.int (0 : Int32), .int m_trouble, .int m_where, .null, m_read, m_tape, .int m_taped, .int m_size, .int m_spot, .int m_sort, .int m_place, .int m_number, .int m_fault, .int m_wrongAt, .long m_word, .int m_askedOf, m_v, m_x, m_past, m_kept, .int m_acts, .int m_images, m_heir, m_then, .int m_catGets, .long m_whole, .long m_bestSum, m_come, m_comeThen, .int m_tourHoursNow, m_hour, m_partIn, m_heirIn, .int m_fitsNow, .int m_foundHour, .int m_lookLeft, .int m_firstCatNow]))] := hD
  refine lv_aload_n hx hb dX7_toAsk_5 rfl (lv_at hl 0 rfl) ?_
  refine lv_iload_n hx hb dX7_toAsk_6 rfl (lv_at hl 1 rfl) ?_
  obtain ⟨r1, er1, hM⟩ := b_inv hM
  refine k_i0 [0] (va_runV (As := [.int p0]) (rest := []) ⟨hx, hb, hml, hown, hts⟩ (ctX7_isPersonN l D dA _ h_m p0 (0 : Int32) m_trouble m_where m_taped m_size m_spot m_sort m_place m_number m_fault m_wrongAt m_word m_askedOf m_acts m_images m_catGets m_whole m_bestSum m_tourHoursNow m_fitsNow m_foundHour m_lookLeft m_firstCatNow (m_read) (m_tape) (m_v) (m_x) (m_past) (m_kept) (m_heir) (m_then) (m_come) (m_comeThen) (m_hour) (m_partIn) (m_heirIn) r1 er1) (cwV 1 hts (lw_V q1733 q1735 qs71 q122 q1736) rfl rfl rfl (by decide +kernel) ⟨Nat.le_of_ble_eq_true rfl, Nat.le_of_ble_eq_true rfl⟩) (pre_V (hP.sub [0] rfl) hK (hD.sub [0] (by decide) rfl) (ci := 11) (q0 := 0) rfl rfl) rfl rfl hl.1 rfl (lv_room (Nat.le_of_ble_eq_true rfl)) dX7_toAsk_7 ⟨Nat.le_of_ble_eq_true rfl, Nat.le_of_ble_eq_true rfl⟩) hP hD hS hA rfl (fun _ => rfl) (fun u2 H locs hP hD hS => ?_)
  have hP : va_P D clG [(h_m, .inr (11, [.int (0 : Int32), .int m_trouble, .int m_where, .null, m_read, m_tape, .int m_taped, .int m_size, .int m_spot, .int m_sort, .int m_place, .int m_number, .int m_fault, .int m_wrongAt, .long m_word, .int m_askedOf, m_v, m_x, m_past, m_kept, .int m_acts, .int m_images, m_heir, m_then, .int m_catGets, .long m_whole, .long m_bestSum, m_come, m_comeThen, .int m_tourHoursNow, m_hour, m_partIn, m_heirIn, .int m_fitsNow, .int m_foundHour, .int m_lookLeft, .int m_firstCatNow]))] H := hP
  have hD : va_D A [(h_m, .inr (11, [.int (0 : Int32), .int m_trouble, .int m_where, .null, m_read, m_tape, .int m_taped, .int m_size, .int m_spot, .int m_sort, .int m_place, .int m_number, .int m_fault, .int m_wrongAt, .long m_word, .int m_askedOf, m_v, m_x, m_past, m_kept, .int m_acts, .int m_images, m_heir, m_then, .int m_catGets, .long m_whole, .long m_bestSum, m_come, m_comeThen, .int m_tourHoursNow, m_hour, m_partIn, m_heirIn, .int m_fitsNow, .int m_foundHour, .int m_lookLeft, .int m_firstCatNow]))] := hD
  have kr1 := krX7_isPersonN _ er1
  refine lv_toi (v := (0 : Int32)) (by rw [kr1]; rfl) ?_
  refine lv_if_ne (tgt := 19) hx hb dX7_toAsk_10 (by decide) (fun c3 => absurd c3 (by decide)) (fun _ => ?_)
  refine lv_aload_n hx hb dX7_toAsk_13 rfl (lv_at hl 0 rfl) ?_
  refine lv_iconst (v := (1 : Int32)) hx hb dX7_toAsk_14 (by decide) ?_
  obtain ⟨r4, er4, hM⟩ := b_inv hM
  refine k_i0 [0] (va_runV (As := [.int (1 : Int32)]) (rest := []) ⟨hx, hb, hml, hown, hts⟩ (ctX7_refused l D dA _ h_m (1 : Int32) (0 : Int32) m_trouble m_where m_taped m_size m_spot m_sort m_place m_number m_fault m_wrongAt m_word m_askedOf m_acts m_images m_catGets m_whole m_bestSum m_tourHoursNow m_fitsNow m_foundHour m_lookLeft m_firstCatNow (.null) (m_read) (m_tape) (m_v) (m_x) (m_past) (m_kept) (m_heir) (m_then) (m_come) (m_comeThen) (m_hour) (m_partIn) (m_heirIn) r4 er4) (cwV 1 hts (lw_V q1496 q1498 qs50 q122 q1499) rfl rfl rfl (by decide +kernel) ⟨Nat.le_of_ble_eq_true rfl, Nat.le_of_ble_eq_true rfl⟩) (pre_V (hP.sub [0] rfl) hK (hD.sub [0] (by decide) rfl) (ci := 11) (q0 := 0) rfl rfl) rfl rfl hl.1 rfl (lv_room (Nat.le_of_ble_eq_true rfl)) dX7_toAsk_15 ⟨Nat.le_of_ble_eq_true rfl, Nat.le_of_ble_eq_true rfl⟩) hP hD hS hA rfl (fun _ => rfl) (fun u5 H locs hP hD hS => ?_)
  have hP : va_P D clG [(h_m, .inr (11, [.int (0 : Int32), .int r4.2.1, .int r4.2.2, .null, m_read, m_tape, .int m_taped, .int m_size, .int m_spot, .int m_sort, .int m_place, .int m_number, .int m_fault, .int m_wrongAt, .long m_word, .int m_askedOf, m_v, m_x, m_past, m_kept, .int m_acts, .int m_images, m_heir, m_then, .int m_catGets, .long m_whole, .long m_bestSum, m_come, m_comeThen, .int m_tourHoursNow, m_hour, m_partIn, m_heirIn, .int m_fitsNow, .int m_foundHour, .int m_lookLeft, .int m_firstCatNow]))] H := hP
  have hD : va_D A [(h_m, .inr (11, [.int (0 : Int32), .int r4.2.1, .int r4.2.2, .null, m_read, m_tape, .int m_taped, .int m_size, .int m_spot, .int m_sort, .int m_place, .int m_number, .int m_fault, .int m_wrongAt, .long m_word, .int m_askedOf, m_v, m_x, m_past, m_kept, .int m_acts, .int m_images, m_heir, m_then, .int m_catGets, .long m_whole, .long m_bestSum, m_come, m_comeThen, .int m_tourHoursNow, m_hour, m_partIn, m_heirIn, .int m_fitsNow, .int m_foundHour, .int m_lookLeft, .int m_firstCatNow]))] := hD
  have hM := Option.some.inj hM
  subst hM
  exact W.iret (v := r4.1) hx hb hr (fun t ht hW => ⟨⟨r4.1, (), rfl, rfl, by rw [ht]; exact hP, hD⟩, hS.F ht⟩) hS.2.2 dX7_toAsk_18

set_option maxHeartbeats 40000000 in
set_option maxRecDepth 100000 in
theorem ctX1_rivalsN (l : Launch) (D : va_G) (dA : Nat → ClassId) (sz : Nat) (h_o : Nat) (p0 : Int32) (p1 : Int32) (o_taped : Int32) (o_trouble : Int32) (o_fault : Int32) (o_where : Int32) (o_imageMany : Int32) (o_undoMany : Int32) (o_firstRest : Int32) (o_catAt : Int32) (o_tape : Value) (o_scanner : Value) (o_town : Value) (o_was : Value) (o_trial : Value) (o_night : Value) (o_plans : Value) (o_undone : Value) (o_images : Value) (o_often : Value) (o_next : Value) (res : (Int32 × Int32 × Int32)) (hM : MX1_rivalsN  = some res) : Met l yX1_rivals (ws_ yX1_rivals cX1_rivals 5 (some .int)) ({ frames := 2, cells := 0, slots := 0, locals := 43 }) (pre_ D dA [.ref h_o, .int p0, .int p1] [(h_o, .inr (0, [o_tape, .int o_taped, o_scanner, .null, .int o_trouble, .int o_fault, .int o_where, .int o_imageMany, .int o_undoMany, o_town, o_was, o_trial, o_night, o_plans, o_undone, o_images, o_often, .int o_firstRest, o_next, .int o_catAt]))] sz) (qi_ D res.1 (fun (u : Unit) => [(h_o, .inr (0, [o_tape, .int o_taped, o_scanner, .null, .int res.2.1, .int o_fault, .int res.2.2, .int o_imageMany, .int o_undoMany, o_town, o_was, o_trial, o_night, o_plans, o_undone, o_images, o_often, .int o_firstRest, o_next, .int o_catAt]))]) (va_A [(h_o, .inr (0, [o_tape, .int o_taped, o_scanner, .null, .int o_trouble, .int o_fault, .int o_where, .int o_imageMany, .int o_undoMany, o_town, o_was, o_trial, o_night, o_plans, o_undone, o_images, o_often, .int o_firstRest, o_next, .int o_catAt]))] sz)) 0 0 (va_A [(h_o, .inr (0, [o_tape, .int o_taped, o_scanner, .null, .int o_trouble, .int o_fault, .int o_where, .int o_imageMany, .int o_undoMany, o_town, o_was, o_trial, o_night, o_plans, o_undone, o_images, o_often, .int o_firstRest, o_next, .int o_catAt]))] sz) := by
  refine Met.ofW (cc := cX1_rivals) (maxL := 5) (ret := (some .int)) (by decide) rfl ?_
  intro p e s m args below meth c s₁ B hml hv
  obtain ⟨rfl, hsz, hP, hK, hD0⟩ := hv
  have hx := B.exec
  have hb := B.bytes
  have hr := B.returns
  have hts := atoms_spec (ws := (ws_ yX1_rivals cX1_rivals 5 (some .int))) B.pre
  have hts : ∀ w ∈ lw_all, w.before _ s = true := fun w h => hts w (List.mem_cons_of_mem _ h)
  have hown : s.vm.findClass RX1 = some m.cls := findClass_of_methodNamed B.named
  have hlocks := B.notSynchronized
  subst hsz
  have hD := hD0.self (sz := s.heap.size)
  generalize hAe : va_A [(h_o, .inr (0, [o_tape, .int o_taped, o_scanner, .null, .int o_trouble, .int o_fault, .int o_where, .int o_imageMany, .int o_undoMany, o_town, o_was, o_trial, o_night, o_plans, o_undone, o_images, o_often, .int o_firstRest, o_next, .int o_catAt]))] s.heap.size = A at hD ⊢
  have hA : ∀ q : Nat, s.heap.size ≤ q → A q := fun q h => by rw [← hAe]; exact Or.inr h
  have hS : va_S A s.heap s.heap [] := va_S.rf
  have hP : va_P D clG [(h_o, .inr (0, [o_tape, .int o_taped, o_scanner, .null, .int o_trouble, .int o_fault, .int o_where, .int o_imageMany, .int o_undoMany, o_town, o_was, o_trial, o_night, o_plans, o_undone, o_images, o_often, .int o_firstRest, o_next, .int o_catAt]))] s.heap := hP
  have hl := lv_entry ([.ref h_o, .int p0, .int p1]) (n := 5) (Nat.le_of_ble_eq_true rfl)
  rw [lg_entry_eq]
  generalize (lg_sl ([.ref h_o, .int p0, .int p1]) ++ List.replicate (5 - (lg_sl ([.ref h_o, .int p0, .int p1])).length) Slot.unset).toArray = ls at hl ⊢
  have hl : lv_has ls 5 [(0, .ref h_o), (1, .int p0), (2, .int p1)] := hl
  unfold MX1_rivalsN at hM
  refine lv_aload_n hx hb dX1_rivals_0 rfl (lv_at hl 0 rfl) ?_
  obtain ⟨r1, er1, hM⟩ := b_inv hM
  refine k_v0 [0] (va_runV (As := []) (rest := []) ⟨hx, hb, hml, hown, hts⟩ (ctX1_anew l D dA _ h_o o_taped o_trouble o_fault o_where o_imageMany o_undoMany o_firstRest o_catAt (o_tape) (o_scanner) (.null) (o_town) (o_was) (o_trial) (o_night) (o_plans) (o_undone) (o_images) (o_often) (o_next) r1 er1) (cwV 0 hts (lw_V q432 q434 qs2 q113 q435) rfl rfl rfl (by decide +kernel) ⟨Nat.le_of_ble_eq_true rfl, Nat.le_of_ble_eq_true rfl⟩) (pre_V (hP.sub [0] rfl) hK (hD.sub [0] (by decide) rfl) (ci := 0) (q0 := 0) rfl rfl) rfl rfl hl.1 rfl (lv_room (Nat.le_of_ble_eq_true rfl)) dX1_rivals_1 ⟨Nat.le_of_ble_eq_true rfl, Nat.le_of_ble_eq_true rfl⟩) hP hD hS hA rfl (fun _ => rfl) (fun u2 H locs hP hD hS => ?_)
  have hP : va_P D clG [(h_o, .inr (0, [o_tape, .int o_taped, o_scanner, .null, .int r1.1, .int o_fault, .int r1.2, .int o_imageMany, .int o_undoMany, o_town, o_was, o_trial, o_night, o_plans, o_undone, o_images, o_often, .int o_firstRest, o_next, .int o_catAt]))] H := hP
  have hD : va_D A [(h_o, .inr (0, [o_tape, .int o_taped, o_scanner, .null, .int r1.1, .int o_fault, .int r1.2, .int o_imageMany, .int o_undoMany, o_town, o_was, o_trial, o_night, o_plans, o_undone, o_images, o_often, .int o_firstRest, o_next, .int o_catAt]))] := hD
  refine lv_aload_n hx hb dX1_rivals_4 rfl (lv_at hl 0 rfl) ?_
  refine lv_iload_n hx hb dX1_rivals_5 rfl (lv_at hl 1 rfl) ?_
  refine lv_iload_n hx hb dX1_rivals_6 rfl (lv_at hl 2 rfl) ?_
  obtain ⟨r3, er3, hM⟩ := b_inv hM
  refine k_i0 [0] (va_runV (As := [.int p0, .int p1]) (rest := []) ⟨hx, hb, hml, hown, hts⟩ (ctX1_areTwoN l D dA _ h_o p0 p1 o_taped r1.1 o_fault r1.2 o_imageMany o_undoMany o_firstRest o_catAt (o_tape) (o_scanner) (o_town) (o_was) (o_trial) (o_night) (o_plans) (o_undone) (o_images) (o_often) (o_next) r3 er3) (cwV 2 hts (lw_V q958 q960 qs27 q113 q961) rfl rfl rfl (by decide +kernel) ⟨Nat.le_of_ble_eq_true rfl, Nat.le_of_ble_eq_true rfl⟩) (pre_V (hP.sub [0] rfl) hK (hD.sub [0] (by decide) rfl) (ci := 0) (q0 := 0) rfl rfl) rfl rfl hl.1 rfl (lv_room (Nat.le_of_ble_eq_true rfl)) dX1_rivals_7 ⟨Nat.le_of_ble_eq_true rfl, Nat.le_of_ble_eq_true rfl⟩) hP hD hS hA rfl (fun _ => rfl) (fun u4 H locs hP hD hS => ?_)
  have hP : va_P D clG [(h_o, .inr (0, [o_tape, .int o_taped, o_scanner, .null, .int r1.1, .int o_fault, .int r1.2, .int o_imageMany, .int o_undoMany, o_town, o_was, o_trial, o_night, o_plans, o_undone, o_images, o_often, .int o_firstRest, o_next, .int o_catAt]))] H := hP
  have hD : va_D A [(h_o, .inr (0, [o_tape, .int o_taped, o_scanner, .null, .int r1.1, .int o_fault, .int r1.2, .int o_imageMany, .int o_undoMany, o_town, o_was, o_trial, o_night, o_plans, o_undone, o_images, o_often, .int o_firstRest, o_next, .int o_catAt]))] := hD
  have kr3 := krX1_areTwoN _ er3
  refine lv_toi (v := (0 : Int32)) (by rw [kr3]; rfl) ?_
  refine lv_if_ne (tgt := 19) hx hb dX1_rivals_10 (by decide) (fun c5 => absurd c5 (by decide)) (fun _ => ?_)
  refine lv_aload_n hx hb dX1_rivals_13 rfl (lv_at hl 0 rfl) ?_
  refine lv_iconst (v := (1 : Int32)) hx hb dX1_rivals_14 (by decide) ?_
  obtain ⟨r6, er6, hM⟩ := b_inv hM
  refine k_i0 [0] (va_runV (As := [.int (1 : Int32)]) (rest := []) ⟨hx, hb, hml, hown, hts⟩ (ctX1_no l D dA _ h_o (1 : Int32) o_taped r1.1 o_fault r1.2 o_imageMany o_undoMany o_firstRest o_catAt (o_tape) (o_scanner) (.null) (o_town) (o_was) (o_trial) (o_night) (o_plans) (o_undone) (o_images) (o_often) (o_next) r6 er6) (cwV 1 hts (lw_V q439 q441 qs3 q113 q442) rfl rfl rfl (by decide +kernel) ⟨Nat.le_of_ble_eq_true rfl, Nat.le_of_ble_eq_true rfl⟩) (pre_V (hP.sub [0] rfl) hK (hD.sub [0] (by decide) rfl) (ci := 0) (q0 := 0) rfl rfl) rfl rfl hl.1 rfl (lv_room (Nat.le_of_ble_eq_true rfl)) dX1_rivals_15 ⟨Nat.le_of_ble_eq_true rfl, Nat.le_of_ble_eq_true rfl⟩) hP hD hS hA rfl (fun _ => rfl) (fun u7 H locs hP hD hS => ?_)
  have hP : va_P D clG [(h_o, .inr (0, [o_tape, .int o_taped, o_scanner, .null, .int r6.2, .int o_fault, .int r1.2, .int o_imageMany, .int o_undoMany, o_town, o_was, o_trial, o_night, o_plans, o_undone, o_images, o_often, .int o_firstRest, o_next, .int o_catAt]))] H := hP
  have hD : va_D A [(h_o, .inr (0, [o_tape, .int o_taped, o_scanner, .null, .int r6.2, .int o_fault, .int r1.2, .int o_imageMany, .int o_undoMany, o_town, o_was, o_trial, o_night, o_plans, o_undone, o_images, o_often, .int o_firstRest, o_next, .int o_catAt]))] := hD
  have hM := Option.some.inj hM
  subst hM
  exact W.iret (v := r6.1) hx hb hr (fun t ht hW => ⟨⟨r6.1, (), rfl, rfl, by rw [ht]; exact hP, hD⟩, hS.F ht⟩) hS.2.2 dX1_rivals_18

set_option maxHeartbeats 40000000 in
set_option maxRecDepth 100000 in
theorem ctX7_rivalsN (l : Launch) (D : va_G) (dA : Nat → ClassId) (sz : Nat) (h_m : Nat) (p0 : Int32) (p1 : Int32) (m_thrown : Int32) (m_trouble : Int32) (m_where : Int32) (m_taped : Int32) (m_size : Int32) (m_spot : Int32) (m_sort : Int32) (m_place : Int32) (m_number : Int32) (m_fault : Int32) (m_wrongAt : Int32) (m_word : Int64) (m_askedOf : Int32) (m_acts : Int32) (m_images : Int32) (m_catGets : Int32) (m_whole : Int64) (m_bestSum : Int64) (m_tourHoursNow : Int32) (m_fitsNow : Int32) (m_foundHour : Int32) (m_lookLeft : Int32) (m_firstCatNow : Int32) (m_read : Value) (m_tape : Value) (m_v : Value) (m_x : Value) (m_past : Value) (m_kept : Value) (m_heir : Value) (m_then : Value) (m_come : Value) (m_comeThen : Value) (m_hour : Value) (m_partIn : Value) (m_heirIn : Value) (res : (Int32 × Int32 × Int32 × Int32)) (hM : MX7_rivalsN  = some res) : Met l yX7_rivals (ws_ yX7_rivals cX7_rivals 5 (some .int)) ({ frames := 2, cells := 0, slots := 0, locals := 43 }) (pre_ D dA [.ref h_m, .int p0, .int p1] [(h_m, .inr (11, [.int m_thrown, .int m_trouble, .int m_where, .null, m_read, m_tape, .int m_taped, .int m_size, .int m_spot, .int m_sort, .int m_place, .int m_number, .int m_fault, .int m_wrongAt, .long m_word, .int m_askedOf, m_v, m_x, m_past, m_kept, .int m_acts, .int m_images, m_heir, m_then, .int m_catGets, .long m_whole, .long m_bestSum, m_come, m_comeThen, .int m_tourHoursNow, m_hour, m_partIn, m_heirIn, .int m_fitsNow, .int m_foundHour, .int m_lookLeft, .int m_firstCatNow]))] sz) (qi_ D res.1 (fun (u : Unit) => [(h_m, .inr (11, [.int res.2.1, .int res.2.2.1, .int res.2.2.2, .null, m_read, m_tape, .int m_taped, .int m_size, .int m_spot, .int m_sort, .int m_place, .int m_number, .int m_fault, .int m_wrongAt, .long m_word, .int m_askedOf, m_v, m_x, m_past, m_kept, .int m_acts, .int m_images, m_heir, m_then, .int m_catGets, .long m_whole, .long m_bestSum, m_come, m_comeThen, .int m_tourHoursNow, m_hour, m_partIn, m_heirIn, .int m_fitsNow, .int m_foundHour, .int m_lookLeft, .int m_firstCatNow]))]) (va_A [(h_m, .inr (11, [.int m_thrown, .int m_trouble, .int m_where, .null, m_read, m_tape, .int m_taped, .int m_size, .int m_spot, .int m_sort, .int m_place, .int m_number, .int m_fault, .int m_wrongAt, .long m_word, .int m_askedOf, m_v, m_x, m_past, m_kept, .int m_acts, .int m_images, m_heir, m_then, .int m_catGets, .long m_whole, .long m_bestSum, m_come, m_comeThen, .int m_tourHoursNow, m_hour, m_partIn, m_heirIn, .int m_fitsNow, .int m_foundHour, .int m_lookLeft, .int m_firstCatNow]))] sz)) 0 0 (va_A [(h_m, .inr (11, [.int m_thrown, .int m_trouble, .int m_where, .null, m_read, m_tape, .int m_taped, .int m_size, .int m_spot, .int m_sort, .int m_place, .int m_number, .int m_fault, .int m_wrongAt, .long m_word, .int m_askedOf, m_v, m_x, m_past, m_kept, .int m_acts, .int m_images, m_heir, m_then, .int m_catGets, .long m_whole, .long m_bestSum, m_come, m_comeThen, .int m_tourHoursNow, m_hour, m_partIn, m_heirIn, .int m_fitsNow, .int m_foundHour, .int m_lookLeft, .int m_firstCatNow]))] sz) := by
  refine Met.ofW (cc := cX7_rivals) (maxL := 5) (ret := (some .int)) (by decide) rfl ?_
  intro p e s m args below meth c s₁ B hml hv
  obtain ⟨rfl, hsz, hP, hK, hD0⟩ := hv
  have hx := B.exec
  have hb := B.bytes
  have hr := B.returns
  have hts := atoms_spec (ws := (ws_ yX7_rivals cX7_rivals 5 (some .int))) B.pre
  have hts : ∀ w ∈ lw_all, w.before _ s = true := fun w h => hts w (List.mem_cons_of_mem _ h)
  have hown : s.vm.findClass RX7 = some m.cls := findClass_of_methodNamed B.named
  have hlocks := B.notSynchronized
  subst hsz
  have hD := hD0.self (sz := s.heap.size)
  generalize hAe : va_A [(h_m, .inr (11, [.int m_thrown, .int m_trouble, .int m_where, .null, m_read, m_tape, .int m_taped, .int m_size, .int m_spot, .int m_sort, .int m_place, .int m_number, .int m_fault, .int m_wrongAt, .long m_word, .int m_askedOf, m_v, m_x, m_past, m_kept, .int m_acts, .int m_images, m_heir, m_then, .int m_catGets, .long m_whole, .long m_bestSum, m_come, m_comeThen, .int m_tourHoursNow, m_hour, m_partIn, m_heirIn, .int m_fitsNow, .int m_foundHour, .int m_lookLeft, .int m_firstCatNow]))] s.heap.size = A at hD ⊢
  have hA : ∀ q : Nat, s.heap.size ≤ q → A q := fun q h => by rw [← hAe]; exact Or.inr h
  have hS : va_S A s.heap s.heap [] := va_S.rf
  have hP : va_P D clG [(h_m, .inr (11, [.int m_thrown, .int m_trouble, .int m_where, .null, m_read, m_tape, .int m_taped, .int m_size, .int m_spot, .int m_sort, .int m_place, .int m_number, .int m_fault, .int m_wrongAt, .long m_word, .int m_askedOf, m_v, m_x, m_past, m_kept, .int m_acts, .int m_images, m_heir, m_then, .int m_catGets, .long m_whole, .long m_bestSum, m_come, m_comeThen, .int m_tourHoursNow, m_hour, m_partIn, m_heirIn, .int m_fitsNow, .int m_foundHour, .int m_lookLeft, .int m_firstCatNow]))] s.heap := hP
  have hl := lv_entry ([.ref h_m, .int p0, .int p1]) (n := 5) (Nat.le_of_ble_eq_true rfl)
  rw [lg_entry_eq]
  generalize (lg_sl ([.ref h_m, .int p0, .int p1]) ++ List.replicate (5 - (lg_sl ([.ref h_m, .int p0, .int p1])).length) Slot.unset).toArray = ls at hl ⊢
  have hl : lv_has ls 5 [(0, .ref h_m), (1, .int p0), (2, .int p1)] := hl
  unfold MX7_rivalsN at hM
  refine lv_aload_n hx hb dX7_rivals_0 rfl (lv_at hl 0 rfl) ?_
  refine lv_iconst (v := (0 : Int32)) hx hb dX7_rivals_1 (by decide) ?_
  refine va_put (D := D) (ci := 11) (v := .int (0 : Int32)) (ty := .int) (C := RX7) (T := TX7) (N := 37) hx hb hts in_X7 tyX7 tyX7_ok nmX7 hown hK.1 hP hD hS 0 rfl rfl 0 (by decide) (hts _ q1372) (fun _ h9 => h9) rfl (by decide +kernel) rfl rfl (Nat.le_of_ble_eq_true rfl) dX7_rivals_2 (fun H locs hP hD hS => ?_)
  have hP : va_P D clG [(h_m, .inr (11, [.int (0 : Int32), .int m_trouble, .int m_where, .null, m_read, m_tape, .int m_taped, .int m_size, .int m_spot, .int m_sort, .int m_place, .int m_number, .int m_fault, .int m_wrongAt, .long m_word, .int m_askedOf, m_v, m_x, m_past, m_kept, .int m_acts, .int m_images, m_heir, m_then, .int m_catGets, .long m_whole, .long m_bestSum, m_come, m_comeThen, .int m_tourHoursNow, m_hour, m_partIn, m_heirIn, .int m_fitsNow, .int m_foundHour, .int m_lookLeft, .int m_firstCatNow]))] H := hP
  have hD : va_D A [(h_m, .inr (11, [.int (0 : Int32), .int m_trouble, .int m_where, .null, m_read, m_tape, .int m_taped, .int m_size, .int m_spot, .int m_sort, .int m_place, .int m_number, .int m_fault, .int m_wrongAt, .long m_word, .int m_askedOf, m_v, m_x, m_past, m_kept, .int m_acts, .int m_images, m_heir, m_then, .int m_catGets, .long m_whole, .long m_bestSum, m_come, m_comeThen, .int m_tourHoursNow, m_hour, m_partIn, m_heirIn, .int m_fitsNow, .int m_foundHour, .int m_lookLeft, .int m_firstCatNow]))] := hD
  refine lv_aload_n hx hb dX7_rivals_5 rfl (lv_at hl 0 rfl) ?_
  refine lv_iload_n hx hb dX7_rivals_6 rfl (lv_at hl 1 rfl) ?_
  refine lv_iload_n hx hb dX7_rivals_7 rfl (lv_at hl 2 rfl) ?_
  obtain ⟨r1, er1, hM⟩ := b_inv hM
  refine k_i0 [0] (va_runV (As := [.int p0, .int p1]) (rest := []) ⟨hx, hb, hml, hown, hts⟩ (ctX7_areTwoN l D dA _ h_m p0 p1 (0 : Int32) m_trouble m_where m_taped m_size m_spot m_sort m_place m_number m_fault m_wrongAt m_word m_askedOf m_acts m_images m_catGets m_whole m_bestSum m_tourHoursNow m_fitsNow m_foundHour m_lookLeft m_firstCatNow (m_read) (m_tape) (m_v) (m_x) (m_past) (m_kept) (m_heir) (m_then) (m_come) (m_comeThen) (m_hour) (m_partIn) (m_heirIn) r1 er1) (cwV 2 hts (lw_V q1753 q1755 qs75 q122 q1756) rfl rfl rfl (by decide +kernel) ⟨Nat.le_of_ble_eq_true rfl, Nat.le_of_ble_eq_true rfl⟩) (pre_V (hP.sub [0] rfl) hK (hD.sub [0] (by decide) rfl) (ci := 11) (q0 := 0) rfl rfl) rfl rfl hl.1 rfl (lv_room (Nat.le_of_ble_eq_true rfl)) dX7_rivals_8 ⟨Nat.le_of_ble_eq_true rfl, Nat.le_of_ble_eq_true rfl⟩) hP hD hS hA rfl (fun _ => rfl) (fun u2 H locs hP hD hS => ?_)
  have hP : va_P D clG [(h_m, .inr (11, [.int (0 : Int32), .int m_trouble, .int m_where, .null, m_read, m_tape, .int m_taped, .int m_size, .int m_spot, .int m_sort, .int m_place, .int m_number, .int m_fault, .int m_wrongAt, .long m_word, .int m_askedOf, m_v, m_x, m_past, m_kept, .int m_acts, .int m_images, m_heir, m_then, .int m_catGets, .long m_whole, .long m_bestSum, m_come, m_comeThen, .int m_tourHoursNow, m_hour, m_partIn, m_heirIn, .int m_fitsNow, .int m_foundHour, .int m_lookLeft, .int m_firstCatNow]))] H := hP
  have hD : va_D A [(h_m, .inr (11, [.int (0 : Int32), .int m_trouble, .int m_where, .null, m_read, m_tape, .int m_taped, .int m_size, .int m_spot, .int m_sort, .int m_place, .int m_number, .int m_fault, .int m_wrongAt, .long m_word, .int m_askedOf, m_v, m_x, m_past, m_kept, .int m_acts, .int m_images, m_heir, m_then, .int m_catGets, .long m_whole, .long m_bestSum, m_come, m_comeThen, .int m_tourHoursNow, m_hour, m_partIn, m_heirIn, .int m_fitsNow, .int m_foundHour, .int m_lookLeft, .int m_firstCatNow]))] := hD
  have kr1 := krX7_areTwoN _ er1
  refine lv_toi (v := (0 : Int32)) (by rw [kr1]; rfl) ?_
  refine lv_if_ne (tgt := 20) hx hb dX7_rivals_11 (by decide) (fun c3 => absurd c3 (by decide)) (fun _ => ?_)
  refine lv_aload_n hx hb dX7_rivals_14 rfl (lv_at hl 0 rfl) ?_
  refine lv_iconst (v := (1 : Int32)) hx hb dX7_rivals_15 (by decide) ?_
  obtain ⟨r4, er4, hM⟩ := b_inv hM
  refine k_i0 [0] (va_runV (As := [.int (1 : Int32)]) (rest := []) ⟨hx, hb, hml, hown, hts⟩ (ctX7_refused l D dA _ h_m (1 : Int32) (0 : Int32) m_trouble m_where m_taped m_size m_spot m_sort m_place m_number m_fault m_wrongAt m_word m_askedOf m_acts m_images m_catGets m_whole m_bestSum m_tourHoursNow m_fitsNow m_foundHour m_lookLeft m_firstCatNow (.null) (m_read) (m_tape) (m_v) (m_x) (m_past) (m_kept) (m_heir) (m_then) (m_come) (m_comeThen) (m_hour) (m_partIn) (m_heirIn) r4 er4) (cwV 1 hts (lw_V q1496 q1498 qs50 q122 q1499) rfl rfl rfl (by decide +kernel) ⟨Nat.le_of_ble_eq_true rfl, Nat.le_of_ble_eq_true rfl⟩) (pre_V (hP.sub [0] rfl) hK (hD.sub [0] (by decide) rfl) (ci := 11) (q0 := 0) rfl rfl) rfl rfl hl.1 rfl (lv_room (Nat.le_of_ble_eq_true rfl)) dX7_rivals_16 ⟨Nat.le_of_ble_eq_true rfl, Nat.le_of_ble_eq_true rfl⟩) hP hD hS hA rfl (fun _ => rfl) (fun u5 H locs hP hD hS => ?_)
  have hP : va_P D clG [(h_m, .inr (11, [.int (0 : Int32), .int r4.2.1, .int r4.2.2, .null, m_read, m_tape, .int m_taped, .int m_size, .int m_spot, .int m_sort, .int m_place, .int m_number, .int m_fault, .int m_wrongAt, .long m_word, .int m_askedOf, m_v, m_x, m_past, m_kept, .int m_acts, .int m_images, m_heir, m_then, .int m_catGets, .long m_whole, .long m_bestSum, m_come, m_comeThen, .int m_tourHoursNow, m_hour, m_partIn, m_heirIn, .int m_fitsNow, .int m_foundHour, .int m_lookLeft, .int m_firstCatNow]))] H := hP
  have hD : va_D A [(h_m, .inr (11, [.int (0 : Int32), .int r4.2.1, .int r4.2.2, .null, m_read, m_tape, .int m_taped, .int m_size, .int m_spot, .int m_sort, .int m_place, .int m_number, .int m_fault, .int m_wrongAt, .long m_word, .int m_askedOf, m_v, m_x, m_past, m_kept, .int m_acts, .int m_images, m_heir, m_then, .int m_catGets, .long m_whole, .long m_bestSum, m_come, m_comeThen, .int m_tourHoursNow, m_hour, m_partIn, m_heirIn, .int m_fitsNow, .int m_foundHour, .int m_lookLeft, .int m_firstCatNow]))] := hD
  have hM := Option.some.inj hM
  subst hM
  exact W.iret (v := r4.1) hx hb hr (fun t ht hW => ⟨⟨r4.1, (), rfl, rfl, by rw [ht]; exact hP, hD⟩, hS.F ht⟩) hS.2.2 dX7_rivals_19

set_option maxHeartbeats 40000000 in
set_option maxRecDepth 100000 in
theorem ctX1_fitsN (l : Launch) (D : va_G) (dA : Nat → ClassId) (sz : Nat) (h_o : Nat) (o_taped : Int32) (o_trouble : Int32) (o_fault : Int32) (o_where : Int32) (o_imageMany : Int32) (o_undoMany : Int32) (o_firstRest : Int32) (o_catAt : Int32) (o_tape : Value) (o_scanner : Value) (o_town : Value) (o_was : Value) (o_trial : Value) (o_night : Value) (o_plans : Value) (o_undone : Value) (o_images : Value) (o_often : Value) (o_next : Value) (res : (Int32 × Int32 × Int32)) (hM : MX1_fitsN  = some res) : Met l yX1_fits (ws_ yX1_fits cX1_fits 3 (some .int)) ({ frames := 1, cells := 0, slots := 0, locals := 21 }) (pre_ D dA [.ref h_o] [(h_o, .inr (0, [o_tape, .int o_taped, o_scanner, .null, .int o_trouble, .int o_fault, .int o_where, .int o_imageMany, .int o_undoMany, o_town, o_was, o_trial, o_night, o_plans, o_undone, o_images, o_often, .int o_firstRest, o_next, .int o_catAt]))] sz) (qi_ D res.1 (fun (u : Unit) => [(h_o, .inr (0, [o_tape, .int o_taped, o_scanner, .null, .int res.2.1, .int o_fault, .int res.2.2, .int o_imageMany, .int o_undoMany, o_town, o_was, o_trial, o_night, o_plans, o_undone, o_images, o_often, .int o_firstRest, o_next, .int o_catAt]))]) (va_A [(h_o, .inr (0, [o_tape, .int o_taped, o_scanner, .null, .int o_trouble, .int o_fault, .int o_where, .int o_imageMany, .int o_undoMany, o_town, o_was, o_trial, o_night, o_plans, o_undone, o_images, o_often, .int o_firstRest, o_next, .int o_catAt]))] sz)) 0 0 (va_A [(h_o, .inr (0, [o_tape, .int o_taped, o_scanner, .null, .int o_trouble, .int o_fault, .int o_where, .int o_imageMany, .int o_undoMany, o_town, o_was, o_trial, o_night, o_plans, o_undone, o_images, o_often, .int o_firstRest, o_next, .int o_catAt]))] sz) := by
  refine Met.ofW (cc := cX1_fits) (maxL := 3) (ret := (some .int)) (by decide) rfl ?_
  intro p e s m args below meth c s₁ B hml hv
  obtain ⟨rfl, hsz, hP, hK, hD0⟩ := hv
  have hx := B.exec
  have hb := B.bytes
  have hr := B.returns
  have hts := atoms_spec (ws := (ws_ yX1_fits cX1_fits 3 (some .int))) B.pre
  have hts : ∀ w ∈ lw_all, w.before _ s = true := fun w h => hts w (List.mem_cons_of_mem _ h)
  have hown : s.vm.findClass RX1 = some m.cls := findClass_of_methodNamed B.named
  have hlocks := B.notSynchronized
  subst hsz
  have hD := hD0.self (sz := s.heap.size)
  generalize hAe : va_A [(h_o, .inr (0, [o_tape, .int o_taped, o_scanner, .null, .int o_trouble, .int o_fault, .int o_where, .int o_imageMany, .int o_undoMany, o_town, o_was, o_trial, o_night, o_plans, o_undone, o_images, o_often, .int o_firstRest, o_next, .int o_catAt]))] s.heap.size = A at hD ⊢
  have hA : ∀ q : Nat, s.heap.size ≤ q → A q := fun q h => by rw [← hAe]; exact Or.inr h
  have hS : va_S A s.heap s.heap [] := va_S.rf
  have hP : va_P D clG [(h_o, .inr (0, [o_tape, .int o_taped, o_scanner, .null, .int o_trouble, .int o_fault, .int o_where, .int o_imageMany, .int o_undoMany, o_town, o_was, o_trial, o_night, o_plans, o_undone, o_images, o_often, .int o_firstRest, o_next, .int o_catAt]))] s.heap := hP
  have hl := lv_entry ([.ref h_o]) (n := 3) (Nat.le_of_ble_eq_true rfl)
  rw [lg_entry_eq]
  generalize (lg_sl ([.ref h_o]) ++ List.replicate (3 - (lg_sl ([.ref h_o])).length) Slot.unset).toArray = ls at hl ⊢
  have hl : lv_has ls 3 [(0, .ref h_o)] := hl
  unfold MX1_fitsN at hM
  refine lv_aload_n hx hb dX1_fits_0 rfl (lv_at hl 0 rfl) ?_
  obtain ⟨r1, er1, hM⟩ := b_inv hM
  refine k_v0 [0] (va_runV (As := []) (rest := []) ⟨hx, hb, hml, hown, hts⟩ (ctX1_anew l D dA _ h_o o_taped o_trouble o_fault o_where o_imageMany o_undoMany o_firstRest o_catAt (o_tape) (o_scanner) (.null) (o_town) (o_was) (o_trial) (o_night) (o_plans) (o_undone) (o_images) (o_often) (o_next) r1 er1) (cwV 0 hts (lw_V q432 q434 qs2 q113 q435) rfl rfl rfl (by decide +kernel) ⟨Nat.le_of_ble_eq_true rfl, Nat.le_of_ble_eq_true rfl⟩) (pre_V (hP.sub [0] rfl) hK (hD.sub [0] (by decide) rfl) (ci := 0) (q0 := 0) rfl rfl) rfl rfl hl.1 rfl (lv_room (Nat.le_of_ble_eq_true rfl)) dX1_fits_1 ⟨Nat.le_of_ble_eq_true rfl, Nat.le_of_ble_eq_true rfl⟩) hP hD hS hA rfl (fun _ => rfl) (fun u2 H locs hP hD hS => ?_)
  have hP : va_P D clG [(h_o, .inr (0, [o_tape, .int o_taped, o_scanner, .null, .int r1.1, .int o_fault, .int r1.2, .int o_imageMany, .int o_undoMany, o_town, o_was, o_trial, o_night, o_plans, o_undone, o_images, o_often, .int o_firstRest, o_next, .int o_catAt]))] H := hP
  have hD : va_D A [(h_o, .inr (0, [o_tape, .int o_taped, o_scanner, .null, .int r1.1, .int o_fault, .int r1.2, .int o_imageMany, .int o_undoMany, o_town, o_was, o_trial, o_night, o_plans, o_undone, o_images, o_often, .int o_firstRest, o_next, .int o_catAt]))] := hD
  refine lv_aload_n hx hb dX1_fits_4 rfl (lv_at hl 0 rfl) ?_
  refine va_get (D := D) (ci := 0) (v := .null) (C := RX1) (T := TX1) (N := 20) hx hb hts in_X1 hown hK.1 hP 0 rfl rfl 3 (by decide) (hts _ q361) (fun _ h9 => h9) rfl dX1_fits_5 ?_
  refine lv_ifnonnullN hx hb dX1_fits_8 ?_
  refine lv_aload_n hx hb dX1_fits_11 rfl (lv_at hl 0 rfl) ?_
  refine lv_iconst (v := (1 : Int32)) hx hb dX1_fits_12 (by decide) ?_
  obtain ⟨r3, er3, hM⟩ := b_inv hM
  refine k_i0 [0] (va_runV (As := [.int (1 : Int32)]) (rest := []) ⟨hx, hb, hml, hown, hts⟩ (ctX1_no l D dA _ h_o (1 : Int32) o_taped r1.1 o_fault r1.2 o_imageMany o_undoMany o_firstRest o_catAt (o_tape) (o_scanner) (.null) (o_town) (o_was) (o_trial) (o_night) (o_plans) (o_undone) (o_images) (o_often) (o_next) r3 er3) (cwV 1 hts (lw_V q439 q441 qs3 q113 q442) rfl rfl rfl (by decide +kernel) ⟨Nat.le_of_ble_eq_true rfl, Nat.le_of_ble_eq_true rfl⟩) (pre_V (hP.sub [0] rfl) hK (hD.sub [0] (by decide) rfl) (ci := 0) (q0 := 0) rfl rfl) rfl rfl hl.1 rfl (lv_room (Nat.le_of_ble_eq_true rfl)) dX1_fits_13 ⟨Nat.le_of_ble_eq_true rfl, Nat.le_of_ble_eq_true rfl⟩) hP hD hS hA rfl (fun _ => rfl) (fun u4 H locs hP hD hS => ?_)
  have hP : va_P D clG [(h_o, .inr (0, [o_tape, .int o_taped, o_scanner, .null, .int r3.2, .int o_fault, .int r1.2, .int o_imageMany, .int o_undoMany, o_town, o_was, o_trial, o_night, o_plans, o_undone, o_images, o_often, .int o_firstRest, o_next, .int o_catAt]))] H := hP
  have hD : va_D A [(h_o, .inr (0, [o_tape, .int o_taped, o_scanner, .null, .int r3.2, .int o_fault, .int r1.2, .int o_imageMany, .int o_undoMany, o_town, o_was, o_trial, o_night, o_plans, o_undone, o_images, o_often, .int o_firstRest, o_next, .int o_catAt]))] := hD
  have hM := Option.some.inj hM
  subst hM
  exact W.iret (v := r3.1) hx hb hr (fun t ht hW => ⟨⟨r3.1, (), rfl, rfl, by rw [ht]; exact hP, hD⟩, hS.F ht⟩) hS.2.2 dX1_fits_16

set_option maxHeartbeats 40000000 in
set_option maxRecDepth 100000 in
theorem ctX7_fitsN (l : Launch) (D : va_G) (dA : Nat → ClassId) (sz : Nat) (h_m : Nat) (m_thrown : Int32) (m_trouble : Int32) (m_where : Int32) (m_taped : Int32) (m_size : Int32) (m_spot : Int32) (m_sort : Int32) (m_place : Int32) (m_number : Int32) (m_fault : Int32) (m_wrongAt : Int32) (m_word : Int64) (m_askedOf : Int32) (m_acts : Int32) (m_images : Int32) (m_catGets : Int32) (m_whole : Int64) (m_bestSum : Int64) (m_tourHoursNow : Int32) (m_fitsNow : Int32) (m_foundHour : Int32) (m_lookLeft : Int32) (m_firstCatNow : Int32) (m_read : Value) (m_tape : Value) (m_v : Value) (m_x : Value) (m_past : Value) (m_kept : Value) (m_heir : Value) (m_then : Value) (m_come : Value) (m_comeThen : Value) (m_hour : Value) (m_partIn : Value) (m_heirIn : Value) (res : (Int32 × Int32 × Int32 × Int32)) (hM : MX7_fitsN  = some res) : Met l yX7_fits (ws_ yX7_fits cX7_fits 1 (some .int)) ({ frames := 1, cells := 0, slots := 0, locals := 21 }) (pre_ D dA [.ref h_m] [(h_m, .inr (11, [.int m_thrown, .int m_trouble, .int m_where, .null, m_read, m_tape, .int m_taped, .int m_size, .int m_spot, .int m_sort, .int m_place, .int m_number, .int m_fault, .int m_wrongAt, .long m_word, .int m_askedOf, m_v, m_x, m_past, m_kept, .int m_acts, .int m_images, m_heir, m_then, .int m_catGets, .long m_whole, .long m_bestSum, m_come, m_comeThen, .int m_tourHoursNow, m_hour, m_partIn, m_heirIn, .int m_fitsNow, .int m_foundHour, .int m_lookLeft, .int m_firstCatNow]))] sz) (qi_ D res.1 (fun (u : Unit) => [(h_m, .inr (11, [.int res.2.1, .int res.2.2.1, .int res.2.2.2, .null, m_read, m_tape, .int m_taped, .int m_size, .int m_spot, .int m_sort, .int m_place, .int m_number, .int m_fault, .int m_wrongAt, .long m_word, .int m_askedOf, m_v, m_x, m_past, m_kept, .int m_acts, .int m_images, m_heir, m_then, .int m_catGets, .long m_whole, .long m_bestSum, m_come, m_comeThen, .int m_tourHoursNow, m_hour, m_partIn, m_heirIn, .int m_fitsNow, .int m_foundHour, .int m_lookLeft, .int m_firstCatNow]))]) (va_A [(h_m, .inr (11, [.int m_thrown, .int m_trouble, .int m_where, .null, m_read, m_tape, .int m_taped, .int m_size, .int m_spot, .int m_sort, .int m_place, .int m_number, .int m_fault, .int m_wrongAt, .long m_word, .int m_askedOf, m_v, m_x, m_past, m_kept, .int m_acts, .int m_images, m_heir, m_then, .int m_catGets, .long m_whole, .long m_bestSum, m_come, m_comeThen, .int m_tourHoursNow, m_hour, m_partIn, m_heirIn, .int m_fitsNow, .int m_foundHour, .int m_lookLeft, .int m_firstCatNow]))] sz)) 0 0 (va_A [(h_m, .inr (11, [.int m_thrown, .int m_trouble, .int m_where, .null, m_read, m_tape, .int m_taped, .int m_size, .int m_spot, .int m_sort, .int m_place, .int m_number, .int m_fault, .int m_wrongAt, .long m_word, .int m_askedOf, m_v, m_x, m_past, m_kept, .int m_acts, .int m_images, m_heir, m_then, .int m_catGets, .long m_whole, .long m_bestSum, m_come, m_comeThen, .int m_tourHoursNow, m_hour, m_partIn, m_heirIn, .int m_fitsNow, .int m_foundHour, .int m_lookLeft, .int m_firstCatNow]))] sz) := by
  refine Met.ofW (cc := cX7_fits) (maxL := 1) (ret := (some .int)) (by decide) rfl ?_
  intro p e s m args below meth c s₁ B hml hv
  obtain ⟨rfl, hsz, hP, hK, hD0⟩ := hv
  have hx := B.exec
  have hb := B.bytes
  have hr := B.returns
  have hts := atoms_spec (ws := (ws_ yX7_fits cX7_fits 1 (some .int))) B.pre
  have hts : ∀ w ∈ lw_all, w.before _ s = true := fun w h => hts w (List.mem_cons_of_mem _ h)
  have hown : s.vm.findClass RX7 = some m.cls := findClass_of_methodNamed B.named
  have hlocks := B.notSynchronized
  subst hsz
  have hD := hD0.self (sz := s.heap.size)
  generalize hAe : va_A [(h_m, .inr (11, [.int m_thrown, .int m_trouble, .int m_where, .null, m_read, m_tape, .int m_taped, .int m_size, .int m_spot, .int m_sort, .int m_place, .int m_number, .int m_fault, .int m_wrongAt, .long m_word, .int m_askedOf, m_v, m_x, m_past, m_kept, .int m_acts, .int m_images, m_heir, m_then, .int m_catGets, .long m_whole, .long m_bestSum, m_come, m_comeThen, .int m_tourHoursNow, m_hour, m_partIn, m_heirIn, .int m_fitsNow, .int m_foundHour, .int m_lookLeft, .int m_firstCatNow]))] s.heap.size = A at hD ⊢
  have hA : ∀ q : Nat, s.heap.size ≤ q → A q := fun q h => by rw [← hAe]; exact Or.inr h
  have hS : va_S A s.heap s.heap [] := va_S.rf
  have hP : va_P D clG [(h_m, .inr (11, [.int m_thrown, .int m_trouble, .int m_where, .null, m_read, m_tape, .int m_taped, .int m_size, .int m_spot, .int m_sort, .int m_place, .int m_number, .int m_fault, .int m_wrongAt, .long m_word, .int m_askedOf, m_v, m_x, m_past, m_kept, .int m_acts, .int m_images, m_heir, m_then, .int m_catGets, .long m_whole, .long m_bestSum, m_come, m_comeThen, .int m_tourHoursNow, m_hour, m_partIn, m_heirIn, .int m_fitsNow, .int m_foundHour, .int m_lookLeft, .int m_firstCatNow]))] s.heap := hP
  have hl := lv_entry ([.ref h_m]) (n := 1) (Nat.le_of_ble_eq_true rfl)
  rw [lg_entry_eq]
  generalize (lg_sl ([.ref h_m]) ++ List.replicate (1 - (lg_sl ([.ref h_m])).length) Slot.unset).toArray = ls at hl ⊢
  have hl : lv_has ls 1 [(0, .ref h_m)] := hl
  unfold MX7_fitsN at hM
  refine lv_aload_n hx hb dX7_fits_0 rfl (lv_at hl 0 rfl) ?_
  refine lv_iconst (v := (0 : Int32)) hx hb dX7_fits_1 (by decide) ?_
  refine va_put (D := D) (ci := 11) (v := .int (0 : Int32)) (ty := .int) (C := RX7) (T := TX7) (N := 37) hx hb hts in_X7 tyX7 tyX7_ok nmX7 hown hK.1 hP hD hS 0 rfl rfl 0 (by decide) (hts _ q1372) (fun _ h9 => h9) rfl (by decide +kernel) rfl rfl (Nat.le_of_ble_eq_true rfl) dX7_fits_2 (fun H locs hP hD hS => ?_)
  have hP : va_P D clG [(h_m, .inr (11, [.int (0 : Int32), .int m_trouble, .int m_where, .null, m_read, m_tape, .int m_taped, .int m_size, .int m_spot, .int m_sort, .int m_place, .int m_number, .int m_fault, .int m_wrongAt, .long m_word, .int m_askedOf, m_v, m_x, m_past, m_kept, .int m_acts, .int m_images, m_heir, m_then, .int m_catGets, .long m_whole, .long m_bestSum, m_come, m_comeThen, .int m_tourHoursNow, m_hour, m_partIn, m_heirIn, .int m_fitsNow, .int m_foundHour, .int m_lookLeft, .int m_firstCatNow]))] H := hP
  have hD : va_D A [(h_m, .inr (11, [.int (0 : Int32), .int m_trouble, .int m_where, .null, m_read, m_tape, .int m_taped, .int m_size, .int m_spot, .int m_sort, .int m_place, .int m_number, .int m_fault, .int m_wrongAt, .long m_word, .int m_askedOf, m_v, m_x, m_past, m_kept, .int m_acts, .int m_images, m_heir, m_then, .int m_catGets, .long m_whole, .long m_bestSum, m_come, m_comeThen, .int m_tourHoursNow, m_hour, m_partIn, m_heirIn, .int m_fitsNow, .int m_foundHour, .int m_lookLeft, .int m_firstCatNow]))] := hD
  refine lv_aload_n hx hb dX7_fits_5 rfl (lv_at hl 0 rfl) ?_
  refine va_get (D := D) (ci := 11) (v := .null) (C := RX7) (T := TX7) (N := 37) hx hb hts in_X7 hown hK.1 hP 0 rfl rfl 3 (by decide) (hts _ q1375) (fun _ h9 => h9) rfl dX7_fits_6 ?_
  refine lv_ifnonnullN hx hb dX7_fits_9 ?_
  refine lv_aload_n hx hb dX7_fits_12 rfl (lv_at hl 0 rfl) ?_
  refine lv_iconst (v := (1 : Int32)) hx hb dX7_fits_13 (by decide) ?_
  obtain ⟨r1, er1, hM⟩ := b_inv hM
  refine k_i0 [0] (va_runV (As := [.int (1 : Int32)]) (rest := []) ⟨hx, hb, hml, hown, hts⟩ (ctX7_refused l D dA _ h_m (1 : Int32) (0 : Int32) m_trouble m_where m_taped m_size m_spot m_sort m_place m_number m_fault m_wrongAt m_word m_askedOf m_acts m_images m_catGets m_whole m_bestSum m_tourHoursNow m_fitsNow m_foundHour m_lookLeft m_firstCatNow (.null) (m_read) (m_tape) (m_v) (m_x) (m_past) (m_kept) (m_heir) (m_then) (m_come) (m_comeThen) (m_hour) (m_partIn) (m_heirIn) r1 er1) (cwV 1 hts (lw_V q1496 q1498 qs50 q122 q1499) rfl rfl rfl (by decide +kernel) ⟨Nat.le_of_ble_eq_true rfl, Nat.le_of_ble_eq_true rfl⟩) (pre_V (hP.sub [0] rfl) hK (hD.sub [0] (by decide) rfl) (ci := 11) (q0 := 0) rfl rfl) rfl rfl hl.1 rfl (lv_room (Nat.le_of_ble_eq_true rfl)) dX7_fits_14 ⟨Nat.le_of_ble_eq_true rfl, Nat.le_of_ble_eq_true rfl⟩) hP hD hS hA rfl (fun _ => rfl) (fun u2 H locs hP hD hS => ?_)
  have hP : va_P D clG [(h_m, .inr (11, [.int (0 : Int32), .int r1.2.1, .int r1.2.2, .null, m_read, m_tape, .int m_taped, .int m_size, .int m_spot, .int m_sort, .int m_place, .int m_number, .int m_fault, .int m_wrongAt, .long m_word, .int m_askedOf, m_v, m_x, m_past, m_kept, .int m_acts, .int m_images, m_heir, m_then, .int m_catGets, .long m_whole, .long m_bestSum, m_come, m_comeThen, .int m_tourHoursNow, m_hour, m_partIn, m_heirIn, .int m_fitsNow, .int m_foundHour, .int m_lookLeft, .int m_firstCatNow]))] H := hP
  have hD : va_D A [(h_m, .inr (11, [.int (0 : Int32), .int r1.2.1, .int r1.2.2, .null, m_read, m_tape, .int m_taped, .int m_size, .int m_spot, .int m_sort, .int m_place, .int m_number, .int m_fault, .int m_wrongAt, .long m_word, .int m_askedOf, m_v, m_x, m_past, m_kept, .int m_acts, .int m_images, m_heir, m_then, .int m_catGets, .long m_whole, .long m_bestSum, m_come, m_comeThen, .int m_tourHoursNow, m_hour, m_partIn, m_heirIn, .int m_fitsNow, .int m_foundHour, .int m_lookLeft, .int m_firstCatNow]))] := hD
  have hM := Option.some.inj hM
  subst hM
  exact W.iret (v := r1.1) hx hb hr (fun t ht hW => ⟨⟨r1.1, (), rfl, rfl, by rw [ht]; exact hP, hD⟩, hS.F ht⟩) hS.2.2 dX7_fits_17

set_option maxHeartbeats 40000000 in
set_option maxRecDepth 100000 in
theorem ctX1_fitAtN (l : Launch) (D : va_G) (dA : Nat → ClassId) (sz : Nat) (h_o : Nat) (p0 : Int32) (p1 : Int32) (o_taped : Int32) (o_trouble : Int32) (o_fault : Int32) (o_where : Int32) (o_imageMany : Int32) (o_undoMany : Int32) (o_firstRest : Int32) (o_catAt : Int32) (o_tape : Value) (o_scanner : Value) (o_town : Value) (o_was : Value) (o_trial : Value) (o_night : Value) (o_plans : Value) (o_undone : Value) (o_images : Value) (o_often : Value) (o_next : Value) (res : (Int32 × Int32 × Int32)) (hM : MX1_fitAtN  = some res) : Met l yX1_fitAt (ws_ yX1_fitAt cX1_fitAt 5 (some .int)) ({ frames := 1, cells := 0, slots := 0, locals := 21 }) (pre_ D dA [.ref h_o, .int p0, .int p1] [(h_o, .inr (0, [o_tape, .int o_taped, o_scanner, .null, .int o_trouble, .int o_fault, .int o_where, .int o_imageMany, .int o_undoMany, o_town, o_was, o_trial, o_night, o_plans, o_undone, o_images, o_often, .int o_firstRest, o_next, .int o_catAt]))] sz) (qi_ D res.1 (fun (u : Unit) => [(h_o, .inr (0, [o_tape, .int o_taped, o_scanner, .null, .int res.2.1, .int o_fault, .int res.2.2, .int o_imageMany, .int o_undoMany, o_town, o_was, o_trial, o_night, o_plans, o_undone, o_images, o_often, .int o_firstRest, o_next, .int o_catAt]))]) (va_A [(h_o, .inr (0, [o_tape, .int o_taped, o_scanner, .null, .int o_trouble, .int o_fault, .int o_where, .int o_imageMany, .int o_undoMany, o_town, o_was, o_trial, o_night, o_plans, o_undone, o_images, o_often, .int o_firstRest, o_next, .int o_catAt]))] sz)) 0 0 (va_A [(h_o, .inr (0, [o_tape, .int o_taped, o_scanner, .null, .int o_trouble, .int o_fault, .int o_where, .int o_imageMany, .int o_undoMany, o_town, o_was, o_trial, o_night, o_plans, o_undone, o_images, o_often, .int o_firstRest, o_next, .int o_catAt]))] sz) := by
  refine Met.ofW (cc := cX1_fitAt) (maxL := 5) (ret := (some .int)) (by decide) rfl ?_
  intro p e s m args below meth c s₁ B hml hv
  obtain ⟨rfl, hsz, hP, hK, hD0⟩ := hv
  have hx := B.exec
  have hb := B.bytes
  have hr := B.returns
  have hts := atoms_spec (ws := (ws_ yX1_fitAt cX1_fitAt 5 (some .int))) B.pre
  have hts : ∀ w ∈ lw_all, w.before _ s = true := fun w h => hts w (List.mem_cons_of_mem _ h)
  have hown : s.vm.findClass RX1 = some m.cls := findClass_of_methodNamed B.named
  have hlocks := B.notSynchronized
  subst hsz
  have hD := hD0.self (sz := s.heap.size)
  generalize hAe : va_A [(h_o, .inr (0, [o_tape, .int o_taped, o_scanner, .null, .int o_trouble, .int o_fault, .int o_where, .int o_imageMany, .int o_undoMany, o_town, o_was, o_trial, o_night, o_plans, o_undone, o_images, o_often, .int o_firstRest, o_next, .int o_catAt]))] s.heap.size = A at hD ⊢
  have hA : ∀ q : Nat, s.heap.size ≤ q → A q := fun q h => by rw [← hAe]; exact Or.inr h
  have hS : va_S A s.heap s.heap [] := va_S.rf
  have hP : va_P D clG [(h_o, .inr (0, [o_tape, .int o_taped, o_scanner, .null, .int o_trouble, .int o_fault, .int o_where, .int o_imageMany, .int o_undoMany, o_town, o_was, o_trial, o_night, o_plans, o_undone, o_images, o_often, .int o_firstRest, o_next, .int o_catAt]))] s.heap := hP
  have hl := lv_entry ([.ref h_o, .int p0, .int p1]) (n := 5) (Nat.le_of_ble_eq_true rfl)
  rw [lg_entry_eq]
  generalize (lg_sl ([.ref h_o, .int p0, .int p1]) ++ List.replicate (5 - (lg_sl ([.ref h_o, .int p0, .int p1])).length) Slot.unset).toArray = ls at hl ⊢
  have hl : lv_has ls 5 [(0, .ref h_o), (1, .int p0), (2, .int p1)] := hl
  unfold MX1_fitAtN at hM
  refine lv_aload_n hx hb dX1_fitAt_0 rfl (lv_at hl 0 rfl) ?_
  obtain ⟨r1, er1, hM⟩ := b_inv hM
  refine k_v0 [0] (va_runV (As := []) (rest := []) ⟨hx, hb, hml, hown, hts⟩ (ctX1_anew l D dA _ h_o o_taped o_trouble o_fault o_where o_imageMany o_undoMany o_firstRest o_catAt (o_tape) (o_scanner) (.null) (o_town) (o_was) (o_trial) (o_night) (o_plans) (o_undone) (o_images) (o_often) (o_next) r1 er1) (cwV 0 hts (lw_V q432 q434 qs2 q113 q435) rfl rfl rfl (by decide +kernel) ⟨Nat.le_of_ble_eq_true rfl, Nat.le_of_ble_eq_true rfl⟩) (pre_V (hP.sub [0] rfl) hK (hD.sub [0] (by decide) rfl) (ci := 0) (q0 := 0) rfl rfl) rfl rfl hl.1 rfl (lv_room (Nat.le_of_ble_eq_true rfl)) dX1_fitAt_1 ⟨Nat.le_of_ble_eq_true rfl, Nat.le_of_ble_eq_true rfl⟩) hP hD hS hA rfl (fun _ => rfl) (fun u2 H locs hP hD hS => ?_)
  have hP : va_P D clG [(h_o, .inr (0, [o_tape, .int o_taped, o_scanner, .null, .int r1.1, .int o_fault, .int r1.2, .int o_imageMany, .int o_undoMany, o_town, o_was, o_trial, o_night, o_plans, o_undone, o_images, o_often, .int o_firstRest, o_next, .int o_catAt]))] H := hP
  have hD : va_D A [(h_o, .inr (0, [o_tape, .int o_taped, o_scanner, .null, .int r1.1, .int o_fault, .int r1.2, .int o_imageMany, .int o_undoMany, o_town, o_was, o_trial, o_night, o_plans, o_undone, o_images, o_often, .int o_firstRest, o_next, .int o_catAt]))] := hD
  refine lv_aload_n hx hb dX1_fitAt_4 rfl (lv_at hl 0 rfl) ?_
  refine va_get (D := D) (ci := 0) (v := .null) (C := RX1) (T := TX1) (N := 20) hx hb hts in_X1 hown hK.1 hP 0 rfl rfl 3 (by decide) (hts _ q361) (fun _ h9 => h9) rfl dX1_fitAt_5 ?_
  refine lv_ifnullN (tgt := 28) hx hb dX1_fitAt_8 (by decide) ?_
  refine lv_aload_n hx hb dX1_fitAt_28 rfl (lv_at hl 0 rfl) ?_
  refine lv_iconst (v := (1 : Int32)) hx hb dX1_fitAt_29 (by decide) ?_
  obtain ⟨r3, er3, hM⟩ := b_inv hM
  refine k_i0 [0] (va_runV (As := [.int (1 : Int32)]) (rest := []) ⟨hx, hb, hml, hown, hts⟩ (ctX1_no l D dA _ h_o (1 : Int32) o_taped r1.1 o_fault r1.2 o_imageMany o_undoMany o_firstRest o_catAt (o_tape) (o_scanner) (.null) (o_town) (o_was) (o_trial) (o_night) (o_plans) (o_undone) (o_images) (o_often) (o_next) r3 er3) (cwV 1 hts (lw_V q439 q441 qs3 q113 q442) rfl rfl rfl (by decide +kernel) ⟨Nat.le_of_ble_eq_true rfl, Nat.le_of_ble_eq_true rfl⟩) (pre_V (hP.sub [0] rfl) hK (hD.sub [0] (by decide) rfl) (ci := 0) (q0 := 0) rfl rfl) rfl rfl hl.1 rfl (lv_room (Nat.le_of_ble_eq_true rfl)) dX1_fitAt_30 ⟨Nat.le_of_ble_eq_true rfl, Nat.le_of_ble_eq_true rfl⟩) hP hD hS hA rfl (fun _ => rfl) (fun u4 H locs hP hD hS => ?_)
  have hP : va_P D clG [(h_o, .inr (0, [o_tape, .int o_taped, o_scanner, .null, .int r3.2, .int o_fault, .int r1.2, .int o_imageMany, .int o_undoMany, o_town, o_was, o_trial, o_night, o_plans, o_undone, o_images, o_often, .int o_firstRest, o_next, .int o_catAt]))] H := hP
  have hD : va_D A [(h_o, .inr (0, [o_tape, .int o_taped, o_scanner, .null, .int r3.2, .int o_fault, .int r1.2, .int o_imageMany, .int o_undoMany, o_town, o_was, o_trial, o_night, o_plans, o_undone, o_images, o_often, .int o_firstRest, o_next, .int o_catAt]))] := hD
  have hM := Option.some.inj hM
  subst hM
  exact W.iret (v := r3.1) hx hb hr (fun t ht hW => ⟨⟨r3.1, (), rfl, rfl, by rw [ht]; exact hP, hD⟩, hS.F ht⟩) hS.2.2 dX1_fitAt_33

set_option maxHeartbeats 40000000 in
set_option maxRecDepth 100000 in
theorem ctX7_fitAtN (l : Launch) (D : va_G) (dA : Nat → ClassId) (sz : Nat) (h_m : Nat) (p0 : Int32) (p1 : Int32) (m_thrown : Int32) (m_trouble : Int32) (m_where : Int32) (m_taped : Int32) (m_size : Int32) (m_spot : Int32) (m_sort : Int32) (m_place : Int32) (m_number : Int32) (m_fault : Int32) (m_wrongAt : Int32) (m_word : Int64) (m_askedOf : Int32) (m_acts : Int32) (m_images : Int32) (m_catGets : Int32) (m_whole : Int64) (m_bestSum : Int64) (m_tourHoursNow : Int32) (m_fitsNow : Int32) (m_foundHour : Int32) (m_lookLeft : Int32) (m_firstCatNow : Int32) (m_read : Value) (m_tape : Value) (m_v : Value) (m_x : Value) (m_past : Value) (m_kept : Value) (m_heir : Value) (m_then : Value) (m_come : Value) (m_comeThen : Value) (m_hour : Value) (m_partIn : Value) (m_heirIn : Value) (res : (Int32 × Int32 × Int32 × Int32)) (hM : MX7_fitAtN  = some res) : Met l yX7_fitAt (ws_ yX7_fitAt cX7_fitAt 3 (some .int)) ({ frames := 1, cells := 0, slots := 0, locals := 21 }) (pre_ D dA [.ref h_m, .int p0, .int p1] [(h_m, .inr (11, [.int m_thrown, .int m_trouble, .int m_where, .null, m_read, m_tape, .int m_taped, .int m_size, .int m_spot, .int m_sort, .int m_place, .int m_number, .int m_fault, .int m_wrongAt, .long m_word, .int m_askedOf, m_v, m_x, m_past, m_kept, .int m_acts, .int m_images, m_heir, m_then, .int m_catGets, .long m_whole, .long m_bestSum, m_come, m_comeThen, .int m_tourHoursNow, m_hour, m_partIn, m_heirIn, .int m_fitsNow, .int m_foundHour, .int m_lookLeft, .int m_firstCatNow]))] sz) (qi_ D res.1 (fun (u : Unit) => [(h_m, .inr (11, [.int res.2.1, .int res.2.2.1, .int res.2.2.2, .null, m_read, m_tape, .int m_taped, .int m_size, .int m_spot, .int m_sort, .int m_place, .int m_number, .int m_fault, .int m_wrongAt, .long m_word, .int m_askedOf, m_v, m_x, m_past, m_kept, .int m_acts, .int m_images, m_heir, m_then, .int m_catGets, .long m_whole, .long m_bestSum, m_come, m_comeThen, .int m_tourHoursNow, m_hour, m_partIn, m_heirIn, .int m_fitsNow, .int m_foundHour, .int m_lookLeft, .int m_firstCatNow]))]) (va_A [(h_m, .inr (11, [.int m_thrown, .int m_trouble, .int m_where, .null, m_read, m_tape, .int m_taped, .int m_size, .int m_spot, .int m_sort, .int m_place, .int m_number, .int m_fault, .int m_wrongAt, .long m_word, .int m_askedOf, m_v, m_x, m_past, m_kept, .int m_acts, .int m_images, m_heir, m_then, .int m_catGets, .long m_whole, .long m_bestSum, m_come, m_comeThen, .int m_tourHoursNow, m_hour, m_partIn, m_heirIn, .int m_fitsNow, .int m_foundHour, .int m_lookLeft, .int m_firstCatNow]))] sz)) 0 0 (va_A [(h_m, .inr (11, [.int m_thrown, .int m_trouble, .int m_where, .null, m_read, m_tape, .int m_taped, .int m_size, .int m_spot, .int m_sort, .int m_place, .int m_number, .int m_fault, .int m_wrongAt, .long m_word, .int m_askedOf, m_v, m_x, m_past, m_kept, .int m_acts, .int m_images, m_heir, m_then, .int m_catGets, .long m_whole, .long m_bestSum, m_come, m_comeThen, .int m_tourHoursNow, m_hour, m_partIn, m_heirIn, .int m_fitsNow, .int m_foundHour, .int m_lookLeft, .int m_firstCatNow]))] sz) := by
  refine Met.ofW (cc := cX7_fitAt) (maxL := 3) (ret := (some .int)) (by decide) rfl ?_
  intro p e s m args below meth c s₁ B hml hv
  obtain ⟨rfl, hsz, hP, hK, hD0⟩ := hv
  have hx := B.exec
  have hb := B.bytes
  have hr := B.returns
  have hts := atoms_spec (ws := (ws_ yX7_fitAt cX7_fitAt 3 (some .int))) B.pre
  have hts : ∀ w ∈ lw_all, w.before _ s = true := fun w h => hts w (List.mem_cons_of_mem _ h)
  have hown : s.vm.findClass RX7 = some m.cls := findClass_of_methodNamed B.named
  have hlocks := B.notSynchronized
  subst hsz
  have hD := hD0.self (sz := s.heap.size)
  generalize hAe : va_A [(h_m, .inr (11, [.int m_thrown, .int m_trouble, .int m_where, .null, m_read, m_tape, .int m_taped, .int m_size, .int m_spot, .int m_sort, .int m_place, .int m_number, .int m_fault, .int m_wrongAt, .long m_word, .int m_askedOf, m_v, m_x, m_past, m_kept, .int m_acts, .int m_images, m_heir, m_then, .int m_catGets, .long m_whole, .long m_bestSum, m_come, m_comeThen, .int m_tourHoursNow, m_hour, m_partIn, m_heirIn, .int m_fitsNow, .int m_foundHour, .int m_lookLeft, .int m_firstCatNow]))] s.heap.size = A at hD ⊢
  have hA : ∀ q : Nat, s.heap.size ≤ q → A q := fun q h => by rw [← hAe]; exact Or.inr h
  have hS : va_S A s.heap s.heap [] := va_S.rf
  have hP : va_P D clG [(h_m, .inr (11, [.int m_thrown, .int m_trouble, .int m_where, .null, m_read, m_tape, .int m_taped, .int m_size, .int m_spot, .int m_sort, .int m_place, .int m_number, .int m_fault, .int m_wrongAt, .long m_word, .int m_askedOf, m_v, m_x, m_past, m_kept, .int m_acts, .int m_images, m_heir, m_then, .int m_catGets, .long m_whole, .long m_bestSum, m_come, m_comeThen, .int m_tourHoursNow, m_hour, m_partIn, m_heirIn, .int m_fitsNow, .int m_foundHour, .int m_lookLeft, .int m_firstCatNow]))] s.heap := hP
  have hl := lv_entry ([.ref h_m, .int p0, .int p1]) (n := 3) (Nat.le_of_ble_eq_true rfl)
  rw [lg_entry_eq]
  generalize (lg_sl ([.ref h_m, .int p0, .int p1]) ++ List.replicate (3 - (lg_sl ([.ref h_m, .int p0, .int p1])).length) Slot.unset).toArray = ls at hl ⊢
  have hl : lv_has ls 3 [(0, .ref h_m), (1, .int p0), (2, .int p1)] := hl
  unfold MX7_fitAtN at hM
  refine lv_aload_n hx hb dX7_fitAt_0 rfl (lv_at hl 0 rfl) ?_
  refine lv_iconst (v := (0 : Int32)) hx hb dX7_fitAt_1 (by decide) ?_
  refine va_put (D := D) (ci := 11) (v := .int (0 : Int32)) (ty := .int) (C := RX7) (T := TX7) (N := 37) hx hb hts in_X7 tyX7 tyX7_ok nmX7 hown hK.1 hP hD hS 0 rfl rfl 0 (by decide) (hts _ q1372) (fun _ h9 => h9) rfl (by decide +kernel) rfl rfl (Nat.le_of_ble_eq_true rfl) dX7_fitAt_2 (fun H locs hP hD hS => ?_)
  have hP : va_P D clG [(h_m, .inr (11, [.int (0 : Int32), .int m_trouble, .int m_where, .null, m_read, m_tape, .int m_taped, .int m_size, .int m_spot, .int m_sort, .int m_place, .int m_number, .int m_fault, .int m_wrongAt, .long m_word, .int m_askedOf, m_v, m_x, m_past, m_kept, .int m_acts, .int m_images, m_heir, m_then, .int m_catGets, .long m_whole, .long m_bestSum, m_come, m_comeThen, .int m_tourHoursNow, m_hour, m_partIn, m_heirIn, .int m_fitsNow, .int m_foundHour, .int m_lookLeft, .int m_firstCatNow]))] H := hP
  have hD : va_D A [(h_m, .inr (11, [.int (0 : Int32), .int m_trouble, .int m_where, .null, m_read, m_tape, .int m_taped, .int m_size, .int m_spot, .int m_sort, .int m_place, .int m_number, .int m_fault, .int m_wrongAt, .long m_word, .int m_askedOf, m_v, m_x, m_past, m_kept, .int m_acts, .int m_images, m_heir, m_then, .int m_catGets, .long m_whole, .long m_bestSum, m_come, m_comeThen, .int m_tourHoursNow, m_hour, m_partIn, m_heirIn, .int m_fitsNow, .int m_foundHour, .int m_lookLeft, .int m_firstCatNow]))] := hD
  refine lv_aload_n hx hb dX7_fitAt_5 rfl (lv_at hl 0 rfl) ?_
  refine va_get (D := D) (ci := 11) (v := .null) (C := RX7) (T := TX7) (N := 37) hx hb hts in_X7 hown hK.1 hP 0 rfl rfl 3 (by decide) (hts _ q1375) (fun _ h9 => h9) rfl dX7_fitAt_6 ?_
  refine lv_ifnullN (tgt := 31) hx hb dX7_fitAt_9 (by decide) ?_
  refine lv_aload_n hx hb dX7_fitAt_31 rfl (lv_at hl 0 rfl) ?_
  refine lv_iconst (v := (1 : Int32)) hx hb dX7_fitAt_32 (by decide) ?_
  obtain ⟨r1, er1, hM⟩ := b_inv hM
  refine k_i0 [0] (va_runV (As := [.int (1 : Int32)]) (rest := []) ⟨hx, hb, hml, hown, hts⟩ (ctX7_refused l D dA _ h_m (1 : Int32) (0 : Int32) m_trouble m_where m_taped m_size m_spot m_sort m_place m_number m_fault m_wrongAt m_word m_askedOf m_acts m_images m_catGets m_whole m_bestSum m_tourHoursNow m_fitsNow m_foundHour m_lookLeft m_firstCatNow (.null) (m_read) (m_tape) (m_v) (m_x) (m_past) (m_kept) (m_heir) (m_then) (m_come) (m_comeThen) (m_hour) (m_partIn) (m_heirIn) r1 er1) (cwV 1 hts (lw_V q1496 q1498 qs50 q122 q1499) rfl rfl rfl (by decide +kernel) ⟨Nat.le_of_ble_eq_true rfl, Nat.le_of_ble_eq_true rfl⟩) (pre_V (hP.sub [0] rfl) hK (hD.sub [0] (by decide) rfl) (ci := 11) (q0 := 0) rfl rfl) rfl rfl hl.1 rfl (lv_room (Nat.le_of_ble_eq_true rfl)) dX7_fitAt_33 ⟨Nat.le_of_ble_eq_true rfl, Nat.le_of_ble_eq_true rfl⟩) hP hD hS hA rfl (fun _ => rfl) (fun u2 H locs hP hD hS => ?_)
  have hP : va_P D clG [(h_m, .inr (11, [.int (0 : Int32), .int r1.2.1, .int r1.2.2, .null, m_read, m_tape, .int m_taped, .int m_size, .int m_spot, .int m_sort, .int m_place, .int m_number, .int m_fault, .int m_wrongAt, .long m_word, .int m_askedOf, m_v, m_x, m_past, m_kept, .int m_acts, .int m_images, m_heir, m_then, .int m_catGets, .long m_whole, .long m_bestSum, m_come, m_comeThen, .int m_tourHoursNow, m_hour, m_partIn, m_heirIn, .int m_fitsNow, .int m_foundHour, .int m_lookLeft, .int m_firstCatNow]))] H := hP
  have hD : va_D A [(h_m, .inr (11, [.int (0 : Int32), .int r1.2.1, .int r1.2.2, .null, m_read, m_tape, .int m_taped, .int m_size, .int m_spot, .int m_sort, .int m_place, .int m_number, .int m_fault, .int m_wrongAt, .long m_word, .int m_askedOf, m_v, m_x, m_past, m_kept, .int m_acts, .int m_images, m_heir, m_then, .int m_catGets, .long m_whole, .long m_bestSum, m_come, m_comeThen, .int m_tourHoursNow, m_hour, m_partIn, m_heirIn, .int m_fitsNow, .int m_foundHour, .int m_lookLeft, .int m_firstCatNow]))] := hD
  have hM := Option.some.inj hM
  subst hM
  exact W.iret (v := r1.1) hx hb hr (fun t ht hW => ⟨⟨r1.1, (), rfl, rfl, by rw [ht]; exact hP, hD⟩, hS.F ht⟩) hS.2.2 dX7_fitAt_36

set_option maxHeartbeats 40000000 in
set_option maxRecDepth 100000 in
theorem ctX1_heirByN (l : Launch) (D : va_G) (dA : Nat → ClassId) (sz : Nat) (h_o : Nat) (p0 : Int32) (p1 : Int32) (o_taped : Int32) (o_trouble : Int32) (o_fault : Int32) (o_where : Int32) (o_imageMany : Int32) (o_undoMany : Int32) (o_firstRest : Int32) (o_catAt : Int32) (o_tape : Value) (o_scanner : Value) (o_town : Value) (o_was : Value) (o_trial : Value) (o_night : Value) (o_plans : Value) (o_undone : Value) (o_images : Value) (o_often : Value) (o_next : Value) (res : (Int32 × Int32 × Int32)) (hM : MX1_heirByN  = some res) : Met l yX1_heirBy (ws_ yX1_heirBy cX1_heirBy 5 (some .int)) ({ frames := 2, cells := 0, slots := 0, locals := 43 }) (pre_ D dA [.ref h_o, .int p0, .int p1] [(h_o, .inr (0, [o_tape, .int o_taped, o_scanner, .null, .int o_trouble, .int o_fault, .int o_where, .int o_imageMany, .int o_undoMany, o_town, o_was, o_trial, o_night, o_plans, o_undone, o_images, o_often, .int o_firstRest, o_next, .int o_catAt]))] sz) (qi_ D res.1 (fun (u : Unit) => [(h_o, .inr (0, [o_tape, .int o_taped, o_scanner, .null, .int res.2.1, .int o_fault, .int res.2.2, .int o_imageMany, .int o_undoMany, o_town, o_was, o_trial, o_night, o_plans, o_undone, o_images, o_often, .int o_firstRest, o_next, .int o_catAt]))]) (va_A [(h_o, .inr (0, [o_tape, .int o_taped, o_scanner, .null, .int o_trouble, .int o_fault, .int o_where, .int o_imageMany, .int o_undoMany, o_town, o_was, o_trial, o_night, o_plans, o_undone, o_images, o_often, .int o_firstRest, o_next, .int o_catAt]))] sz)) 0 0 (va_A [(h_o, .inr (0, [o_tape, .int o_taped, o_scanner, .null, .int o_trouble, .int o_fault, .int o_where, .int o_imageMany, .int o_undoMany, o_town, o_was, o_trial, o_night, o_plans, o_undone, o_images, o_often, .int o_firstRest, o_next, .int o_catAt]))] sz) := by
  refine Met.ofW (cc := cX1_heirBy) (maxL := 5) (ret := (some .int)) (by decide) rfl ?_
  intro p e s m args below meth c s₁ B hml hv
  obtain ⟨rfl, hsz, hP, hK, hD0⟩ := hv
  have hx := B.exec
  have hb := B.bytes
  have hr := B.returns
  have hts := atoms_spec (ws := (ws_ yX1_heirBy cX1_heirBy 5 (some .int))) B.pre
  have hts : ∀ w ∈ lw_all, w.before _ s = true := fun w h => hts w (List.mem_cons_of_mem _ h)
  have hown : s.vm.findClass RX1 = some m.cls := findClass_of_methodNamed B.named
  have hlocks := B.notSynchronized
  subst hsz
  have hD := hD0.self (sz := s.heap.size)
  generalize hAe : va_A [(h_o, .inr (0, [o_tape, .int o_taped, o_scanner, .null, .int o_trouble, .int o_fault, .int o_where, .int o_imageMany, .int o_undoMany, o_town, o_was, o_trial, o_night, o_plans, o_undone, o_images, o_often, .int o_firstRest, o_next, .int o_catAt]))] s.heap.size = A at hD ⊢
  have hA : ∀ q : Nat, s.heap.size ≤ q → A q := fun q h => by rw [← hAe]; exact Or.inr h
  have hS : va_S A s.heap s.heap [] := va_S.rf
  have hP : va_P D clG [(h_o, .inr (0, [o_tape, .int o_taped, o_scanner, .null, .int o_trouble, .int o_fault, .int o_where, .int o_imageMany, .int o_undoMany, o_town, o_was, o_trial, o_night, o_plans, o_undone, o_images, o_often, .int o_firstRest, o_next, .int o_catAt]))] s.heap := hP
  have hl := lv_entry ([.ref h_o, .int p0, .int p1]) (n := 5) (Nat.le_of_ble_eq_true rfl)
  rw [lg_entry_eq]
  generalize (lg_sl ([.ref h_o, .int p0, .int p1]) ++ List.replicate (5 - (lg_sl ([.ref h_o, .int p0, .int p1])).length) Slot.unset).toArray = ls at hl ⊢
  have hl : lv_has ls 5 [(0, .ref h_o), (1, .int p0), (2, .int p1)] := hl
  unfold MX1_heirByN at hM
  refine lv_aload_n hx hb dX1_heirBy_0 rfl (lv_at hl 0 rfl) ?_
  obtain ⟨r1, er1, hM⟩ := b_inv hM
  refine k_v0 [0] (va_runV (As := []) (rest := []) ⟨hx, hb, hml, hown, hts⟩ (ctX1_anew l D dA _ h_o o_taped o_trouble o_fault o_where o_imageMany o_undoMany o_firstRest o_catAt (o_tape) (o_scanner) (.null) (o_town) (o_was) (o_trial) (o_night) (o_plans) (o_undone) (o_images) (o_often) (o_next) r1 er1) (cwV 0 hts (lw_V q432 q434 qs2 q113 q435) rfl rfl rfl (by decide +kernel) ⟨Nat.le_of_ble_eq_true rfl, Nat.le_of_ble_eq_true rfl⟩) (pre_V (hP.sub [0] rfl) hK (hD.sub [0] (by decide) rfl) (ci := 0) (q0 := 0) rfl rfl) rfl rfl hl.1 rfl (lv_room (Nat.le_of_ble_eq_true rfl)) dX1_heirBy_1 ⟨Nat.le_of_ble_eq_true rfl, Nat.le_of_ble_eq_true rfl⟩) hP hD hS hA rfl (fun _ => rfl) (fun u2 H locs hP hD hS => ?_)
  have hP : va_P D clG [(h_o, .inr (0, [o_tape, .int o_taped, o_scanner, .null, .int r1.1, .int o_fault, .int r1.2, .int o_imageMany, .int o_undoMany, o_town, o_was, o_trial, o_night, o_plans, o_undone, o_images, o_often, .int o_firstRest, o_next, .int o_catAt]))] H := hP
  have hD : va_D A [(h_o, .inr (0, [o_tape, .int o_taped, o_scanner, .null, .int r1.1, .int o_fault, .int r1.2, .int o_imageMany, .int o_undoMany, o_town, o_was, o_trial, o_night, o_plans, o_undone, o_images, o_often, .int o_firstRest, o_next, .int o_catAt]))] := hD
  refine lv_aload_n hx hb dX1_heirBy_4 rfl (lv_at hl 0 rfl) ?_
  refine lv_iload_n hx hb dX1_heirBy_5 rfl (lv_at hl 1 rfl) ?_
  refine lv_iload_n hx hb dX1_heirBy_6 rfl (lv_at hl 2 rfl) ?_
  obtain ⟨r3, er3, hM⟩ := b_inv hM
  refine k_i0 [0] (va_runV (As := [.int p0, .int p1]) (rest := []) ⟨hx, hb, hml, hown, hts⟩ (ctX1_areTwoN l D dA _ h_o p0 p1 o_taped r1.1 o_fault r1.2 o_imageMany o_undoMany o_firstRest o_catAt (o_tape) (o_scanner) (o_town) (o_was) (o_trial) (o_night) (o_plans) (o_undone) (o_images) (o_often) (o_next) r3 er3) (cwV 2 hts (lw_V q958 q960 qs27 q113 q961) rfl rfl rfl (by decide +kernel) ⟨Nat.le_of_ble_eq_true rfl, Nat.le_of_ble_eq_true rfl⟩) (pre_V (hP.sub [0] rfl) hK (hD.sub [0] (by decide) rfl) (ci := 0) (q0 := 0) rfl rfl) rfl rfl hl.1 rfl (lv_room (Nat.le_of_ble_eq_true rfl)) dX1_heirBy_7 ⟨Nat.le_of_ble_eq_true rfl, Nat.le_of_ble_eq_true rfl⟩) hP hD hS hA rfl (fun _ => rfl) (fun u4 H locs hP hD hS => ?_)
  have hP : va_P D clG [(h_o, .inr (0, [o_tape, .int o_taped, o_scanner, .null, .int r1.1, .int o_fault, .int r1.2, .int o_imageMany, .int o_undoMany, o_town, o_was, o_trial, o_night, o_plans, o_undone, o_images, o_often, .int o_firstRest, o_next, .int o_catAt]))] H := hP
  have hD : va_D A [(h_o, .inr (0, [o_tape, .int o_taped, o_scanner, .null, .int r1.1, .int o_fault, .int r1.2, .int o_imageMany, .int o_undoMany, o_town, o_was, o_trial, o_night, o_plans, o_undone, o_images, o_often, .int o_firstRest, o_next, .int o_catAt]))] := hD
  have kr3 := krX1_areTwoN _ er3
  refine lv_toi (v := (0 : Int32)) (by rw [kr3]; rfl) ?_
  refine lv_if_ne (tgt := 19) hx hb dX1_heirBy_10 (by decide) (fun c5 => absurd c5 (by decide)) (fun _ => ?_)
  refine lv_aload_n hx hb dX1_heirBy_13 rfl (lv_at hl 0 rfl) ?_
  refine lv_iconst (v := (1 : Int32)) hx hb dX1_heirBy_14 (by decide) ?_
  obtain ⟨r6, er6, hM⟩ := b_inv hM
  refine k_i0 [0] (va_runV (As := [.int (1 : Int32)]) (rest := []) ⟨hx, hb, hml, hown, hts⟩ (ctX1_no l D dA _ h_o (1 : Int32) o_taped r1.1 o_fault r1.2 o_imageMany o_undoMany o_firstRest o_catAt (o_tape) (o_scanner) (.null) (o_town) (o_was) (o_trial) (o_night) (o_plans) (o_undone) (o_images) (o_often) (o_next) r6 er6) (cwV 1 hts (lw_V q439 q441 qs3 q113 q442) rfl rfl rfl (by decide +kernel) ⟨Nat.le_of_ble_eq_true rfl, Nat.le_of_ble_eq_true rfl⟩) (pre_V (hP.sub [0] rfl) hK (hD.sub [0] (by decide) rfl) (ci := 0) (q0 := 0) rfl rfl) rfl rfl hl.1 rfl (lv_room (Nat.le_of_ble_eq_true rfl)) dX1_heirBy_15 ⟨Nat.le_of_ble_eq_true rfl, Nat.le_of_ble_eq_true rfl⟩) hP hD hS hA rfl (fun _ => rfl) (fun u7 H locs hP hD hS => ?_)
  have hP : va_P D clG [(h_o, .inr (0, [o_tape, .int o_taped, o_scanner, .null, .int r6.2, .int o_fault, .int r1.2, .int o_imageMany, .int o_undoMany, o_town, o_was, o_trial, o_night, o_plans, o_undone, o_images, o_often, .int o_firstRest, o_next, .int o_catAt]))] H := hP
  have hD : va_D A [(h_o, .inr (0, [o_tape, .int o_taped, o_scanner, .null, .int r6.2, .int o_fault, .int r1.2, .int o_imageMany, .int o_undoMany, o_town, o_was, o_trial, o_night, o_plans, o_undone, o_images, o_often, .int o_firstRest, o_next, .int o_catAt]))] := hD
  have hM := Option.some.inj hM
  subst hM
  exact W.iret (v := r6.1) hx hb hr (fun t ht hW => ⟨⟨r6.1, (), rfl, rfl, by rw [ht]; exact hP, hD⟩, hS.F ht⟩) hS.2.2 dX1_heirBy_18

set_option maxHeartbeats 40000000 in
set_option maxRecDepth 100000 in
theorem ctX7_heirByN (l : Launch) (D : va_G) (dA : Nat → ClassId) (sz : Nat) (h_m : Nat) (p0 : Int32) (p1 : Int32) (m_thrown : Int32) (m_trouble : Int32) (m_where : Int32) (m_taped : Int32) (m_size : Int32) (m_spot : Int32) (m_sort : Int32) (m_place : Int32) (m_number : Int32) (m_fault : Int32) (m_wrongAt : Int32) (m_word : Int64) (m_askedOf : Int32) (m_acts : Int32) (m_images : Int32) (m_catGets : Int32) (m_whole : Int64) (m_bestSum : Int64) (m_tourHoursNow : Int32) (m_fitsNow : Int32) (m_foundHour : Int32) (m_lookLeft : Int32) (m_firstCatNow : Int32) (m_read : Value) (m_tape : Value) (m_v : Value) (m_x : Value) (m_past : Value) (m_kept : Value) (m_heir : Value) (m_then : Value) (m_come : Value) (m_comeThen : Value) (m_hour : Value) (m_partIn : Value) (m_heirIn : Value) (res : (Int32 × Int32 × Int32 × Int32)) (hM : MX7_heirByN  = some res) : Met l yX7_heirBy (ws_ yX7_heirBy cX7_heirBy 3 (some .int)) ({ frames := 2, cells := 0, slots := 0, locals := 43 }) (pre_ D dA [.ref h_m, .int p0, .int p1] [(h_m, .inr (11, [.int m_thrown, .int m_trouble, .int m_where, .null, m_read, m_tape, .int m_taped, .int m_size, .int m_spot, .int m_sort, .int m_place, .int m_number, .int m_fault, .int m_wrongAt, .long m_word, .int m_askedOf, m_v, m_x, m_past, m_kept, .int m_acts, .int m_images, m_heir, m_then, .int m_catGets, .long m_whole, .long m_bestSum, m_come, m_comeThen, .int m_tourHoursNow, m_hour, m_partIn, m_heirIn, .int m_fitsNow, .int m_foundHour, .int m_lookLeft, .int m_firstCatNow]))] sz) (qi_ D res.1 (fun (u : Unit) => [(h_m, .inr (11, [.int res.2.1, .int res.2.2.1, .int res.2.2.2, .null, m_read, m_tape, .int m_taped, .int m_size, .int m_spot, .int m_sort, .int m_place, .int m_number, .int m_fault, .int m_wrongAt, .long m_word, .int m_askedOf, m_v, m_x, m_past, m_kept, .int m_acts, .int m_images, m_heir, m_then, .int m_catGets, .long m_whole, .long m_bestSum, m_come, m_comeThen, .int m_tourHoursNow, m_hour, m_partIn, m_heirIn, .int m_fitsNow, .int m_foundHour, .int m_lookLeft, .int m_firstCatNow]))]) (va_A [(h_m, .inr (11, [.int m_thrown, .int m_trouble, .int m_where, .null, m_read, m_tape, .int m_taped, .int m_size, .int m_spot, .int m_sort, .int m_place, .int m_number, .int m_fault, .int m_wrongAt, .long m_word, .int m_askedOf, m_v, m_x, m_past, m_kept, .int m_acts, .int m_images, m_heir, m_then, .int m_catGets, .long m_whole, .long m_bestSum, m_come, m_comeThen, .int m_tourHoursNow, m_hour, m_partIn, m_heirIn, .int m_fitsNow, .int m_foundHour, .int m_lookLeft, .int m_firstCatNow]))] sz)) 0 0 (va_A [(h_m, .inr (11, [.int m_thrown, .int m_trouble, .int m_where, .null, m_read, m_tape, .int m_taped, .int m_size, .int m_spot, .int m_sort, .int m_place, .int m_number, .int m_fault, .int m_wrongAt, .long m_word, .int m_askedOf, m_v, m_x, m_past, m_kept, .int m_acts, .int m_images, m_heir, m_then, .int m_catGets, .long m_whole, .long m_bestSum, m_come, m_comeThen, .int m_tourHoursNow, m_hour, m_partIn, m_heirIn, .int m_fitsNow, .int m_foundHour, .int m_lookLeft, .int m_firstCatNow]))] sz) := by
  refine Met.ofW (cc := cX7_heirBy) (maxL := 3) (ret := (some .int)) (by decide) rfl ?_
  intro p e s m args below meth c s₁ B hml hv
  obtain ⟨rfl, hsz, hP, hK, hD0⟩ := hv
  have hx := B.exec
  have hb := B.bytes
  have hr := B.returns
  have hts := atoms_spec (ws := (ws_ yX7_heirBy cX7_heirBy 3 (some .int))) B.pre
  have hts : ∀ w ∈ lw_all, w.before _ s = true := fun w h => hts w (List.mem_cons_of_mem _ h)
  have hown : s.vm.findClass RX7 = some m.cls := findClass_of_methodNamed B.named
  have hlocks := B.notSynchronized
  subst hsz
  have hD := hD0.self (sz := s.heap.size)
  generalize hAe : va_A [(h_m, .inr (11, [.int m_thrown, .int m_trouble, .int m_where, .null, m_read, m_tape, .int m_taped, .int m_size, .int m_spot, .int m_sort, .int m_place, .int m_number, .int m_fault, .int m_wrongAt, .long m_word, .int m_askedOf, m_v, m_x, m_past, m_kept, .int m_acts, .int m_images, m_heir, m_then, .int m_catGets, .long m_whole, .long m_bestSum, m_come, m_comeThen, .int m_tourHoursNow, m_hour, m_partIn, m_heirIn, .int m_fitsNow, .int m_foundHour, .int m_lookLeft, .int m_firstCatNow]))] s.heap.size = A at hD ⊢
  have hA : ∀ q : Nat, s.heap.size ≤ q → A q := fun q h => by rw [← hAe]; exact Or.inr h
  have hS : va_S A s.heap s.heap [] := va_S.rf
  have hP : va_P D clG [(h_m, .inr (11, [.int m_thrown, .int m_trouble, .int m_where, .null, m_read, m_tape, .int m_taped, .int m_size, .int m_spot, .int m_sort, .int m_place, .int m_number, .int m_fault, .int m_wrongAt, .long m_word, .int m_askedOf, m_v, m_x, m_past, m_kept, .int m_acts, .int m_images, m_heir, m_then, .int m_catGets, .long m_whole, .long m_bestSum, m_come, m_comeThen, .int m_tourHoursNow, m_hour, m_partIn, m_heirIn, .int m_fitsNow, .int m_foundHour, .int m_lookLeft, .int m_firstCatNow]))] s.heap := hP
  have hl := lv_entry ([.ref h_m, .int p0, .int p1]) (n := 3) (Nat.le_of_ble_eq_true rfl)
  rw [lg_entry_eq]
  generalize (lg_sl ([.ref h_m, .int p0, .int p1]) ++ List.replicate (3 - (lg_sl ([.ref h_m, .int p0, .int p1])).length) Slot.unset).toArray = ls at hl ⊢
  have hl : lv_has ls 3 [(0, .ref h_m), (1, .int p0), (2, .int p1)] := hl
  unfold MX7_heirByN at hM
  refine lv_aload_n hx hb dX7_heirBy_0 rfl (lv_at hl 0 rfl) ?_
  refine lv_iconst (v := (0 : Int32)) hx hb dX7_heirBy_1 (by decide) ?_
  refine va_put (D := D) (ci := 11) (v := .int (0 : Int32)) (ty := .int) (C := RX7) (T := TX7) (N := 37) hx hb hts in_X7 tyX7 tyX7_ok nmX7 hown hK.1 hP hD hS 0 rfl rfl 0 (by decide) (hts _ q1372) (fun _ h9 => h9) rfl (by decide +kernel) rfl rfl (Nat.le_of_ble_eq_true rfl) dX7_heirBy_2 (fun H locs hP hD hS => ?_)
  have hP : va_P D clG [(h_m, .inr (11, [.int (0 : Int32), .int m_trouble, .int m_where, .null, m_read, m_tape, .int m_taped, .int m_size, .int m_spot, .int m_sort, .int m_place, .int m_number, .int m_fault, .int m_wrongAt, .long m_word, .int m_askedOf, m_v, m_x, m_past, m_kept, .int m_acts, .int m_images, m_heir, m_then, .int m_catGets, .long m_whole, .long m_bestSum, m_come, m_comeThen, .int m_tourHoursNow, m_hour, m_partIn, m_heirIn, .int m_fitsNow, .int m_foundHour, .int m_lookLeft, .int m_firstCatNow]))] H := hP
  have hD : va_D A [(h_m, .inr (11, [.int (0 : Int32), .int m_trouble, .int m_where, .null, m_read, m_tape, .int m_taped, .int m_size, .int m_spot, .int m_sort, .int m_place, .int m_number, .int m_fault, .int m_wrongAt, .long m_word, .int m_askedOf, m_v, m_x, m_past, m_kept, .int m_acts, .int m_images, m_heir, m_then, .int m_catGets, .long m_whole, .long m_bestSum, m_come, m_comeThen, .int m_tourHoursNow, m_hour, m_partIn, m_heirIn, .int m_fitsNow, .int m_foundHour, .int m_lookLeft, .int m_firstCatNow]))] := hD
  refine lv_aload_n hx hb dX7_heirBy_5 rfl (lv_at hl 0 rfl) ?_
  refine lv_iload_n hx hb dX7_heirBy_6 rfl (lv_at hl 1 rfl) ?_
  refine lv_iload_n hx hb dX7_heirBy_7 rfl (lv_at hl 2 rfl) ?_
  obtain ⟨r1, er1, hM⟩ := b_inv hM
  refine k_i0 [0] (va_runV (As := [.int p0, .int p1]) (rest := []) ⟨hx, hb, hml, hown, hts⟩ (ctX7_areTwoN l D dA _ h_m p0 p1 (0 : Int32) m_trouble m_where m_taped m_size m_spot m_sort m_place m_number m_fault m_wrongAt m_word m_askedOf m_acts m_images m_catGets m_whole m_bestSum m_tourHoursNow m_fitsNow m_foundHour m_lookLeft m_firstCatNow (m_read) (m_tape) (m_v) (m_x) (m_past) (m_kept) (m_heir) (m_then) (m_come) (m_comeThen) (m_hour) (m_partIn) (m_heirIn) r1 er1) (cwV 2 hts (lw_V q1753 q1755 qs75 q122 q1756) rfl rfl rfl (by decide +kernel) ⟨Nat.le_of_ble_eq_true rfl, Nat.le_of_ble_eq_true rfl⟩) (pre_V (hP.sub [0] rfl) hK (hD.sub [0] (by decide) rfl) (ci := 11) (q0 := 0) rfl rfl) rfl rfl hl.1 rfl (lv_room (Nat.le_of_ble_eq_true rfl)) dX7_heirBy_8 ⟨Nat.le_of_ble_eq_true rfl, Nat.le_of_ble_eq_true rfl⟩) hP hD hS hA rfl (fun _ => rfl) (fun u2 H locs hP hD hS => ?_)
  have hP : va_P D clG [(h_m, .inr (11, [.int (0 : Int32), .int m_trouble, .int m_where, .null, m_read, m_tape, .int m_taped, .int m_size, .int m_spot, .int m_sort, .int m_place, .int m_number, .int m_fault, .int m_wrongAt, .long m_word, .int m_askedOf, m_v, m_x, m_past, m_kept, .int m_acts, .int m_images, m_heir, m_then, .int m_catGets, .long m_whole, .long m_bestSum, m_come, m_comeThen, .int m_tourHoursNow, m_hour, m_partIn, m_heirIn, .int m_fitsNow, .int m_foundHour, .int m_lookLeft, .int m_firstCatNow]))] H := hP
  have hD : va_D A [(h_m, .inr (11, [.int (0 : Int32), .int m_trouble, .int m_where, .null, m_read, m_tape, .int m_taped, .int m_size, .int m_spot, .int m_sort, .int m_place, .int m_number, .int m_fault, .int m_wrongAt, .long m_word, .int m_askedOf, m_v, m_x, m_past, m_kept, .int m_acts, .int m_images, m_heir, m_then, .int m_catGets, .long m_whole, .long m_bestSum, m_come, m_comeThen, .int m_tourHoursNow, m_hour, m_partIn, m_heirIn, .int m_fitsNow, .int m_foundHour, .int m_lookLeft, .int m_firstCatNow]))] := hD
  have kr1 := krX7_areTwoN _ er1
  refine lv_toi (v := (0 : Int32)) (by rw [kr1]; rfl) ?_
  refine lv_if_ne (tgt := 20) hx hb dX7_heirBy_11 (by decide) (fun c3 => absurd c3 (by decide)) (fun _ => ?_)
  refine lv_aload_n hx hb dX7_heirBy_14 rfl (lv_at hl 0 rfl) ?_
  refine lv_iconst (v := (1 : Int32)) hx hb dX7_heirBy_15 (by decide) ?_
  obtain ⟨r4, er4, hM⟩ := b_inv hM
  refine k_i0 [0] (va_runV (As := [.int (1 : Int32)]) (rest := []) ⟨hx, hb, hml, hown, hts⟩ (ctX7_refused l D dA _ h_m (1 : Int32) (0 : Int32) m_trouble m_where m_taped m_size m_spot m_sort m_place m_number m_fault m_wrongAt m_word m_askedOf m_acts m_images m_catGets m_whole m_bestSum m_tourHoursNow m_fitsNow m_foundHour m_lookLeft m_firstCatNow (.null) (m_read) (m_tape) (m_v) (m_x) (m_past) (m_kept) (m_heir) (m_then) (m_come) (m_comeThen) (m_hour) (m_partIn) (m_heirIn) r4 er4) (cwV 1 hts (lw_V q1496 q1498 qs50 q122 q1499) rfl rfl rfl (by decide +kernel) ⟨Nat.le_of_ble_eq_true rfl, Nat.le_of_ble_eq_true rfl⟩) (pre_V (hP.sub [0] rfl) hK (hD.sub [0] (by decide) rfl) (ci := 11) (q0 := 0) rfl rfl) rfl rfl hl.1 rfl (lv_room (Nat.le_of_ble_eq_true rfl)) dX7_heirBy_16 ⟨Nat.le_of_ble_eq_true rfl, Nat.le_of_ble_eq_true rfl⟩) hP hD hS hA rfl (fun _ => rfl) (fun u5 H locs hP hD hS => ?_)
  have hP : va_P D clG [(h_m, .inr (11, [.int (0 : Int32), .int r4.2.1, .int r4.2.2, .null, m_read, m_tape, .int m_taped, .int m_size, .int m_spot, .int m_sort, .int m_place, .int m_number, .int m_fault, .int m_wrongAt, .long m_word, .int m_askedOf, m_v, m_x, m_past, m_kept, .int m_acts, .int m_images, m_heir, m_then, .int m_catGets, .long m_whole, .long m_bestSum, m_come, m_comeThen, .int m_tourHoursNow, m_hour, m_partIn, m_heirIn, .int m_fitsNow, .int m_foundHour, .int m_lookLeft, .int m_firstCatNow]))] H := hP
  have hD : va_D A [(h_m, .inr (11, [.int (0 : Int32), .int r4.2.1, .int r4.2.2, .null, m_read, m_tape, .int m_taped, .int m_size, .int m_spot, .int m_sort, .int m_place, .int m_number, .int m_fault, .int m_wrongAt, .long m_word, .int m_askedOf, m_v, m_x, m_past, m_kept, .int m_acts, .int m_images, m_heir, m_then, .int m_catGets, .long m_whole, .long m_bestSum, m_come, m_comeThen, .int m_tourHoursNow, m_hour, m_partIn, m_heirIn, .int m_fitsNow, .int m_foundHour, .int m_lookLeft, .int m_firstCatNow]))] := hD
  have hM := Option.some.inj hM
  subst hM
  exact W.iret (v := r4.1) hx hb hr (fun t ht hW => ⟨⟨r4.1, (), rfl, rfl, by rw [ht]; exact hP, hD⟩, hS.F ht⟩) hS.2.2 dX7_heirBy_19

set_option maxHeartbeats 40000000 in
set_option maxRecDepth 100000 in
theorem ctX1_lookN (l : Launch) (D : va_G) (dA : Nat → ClassId) (sz : Nat) (h_o : Nat) (o_taped : Int32) (o_trouble : Int32) (o_fault : Int32) (o_where : Int32) (o_imageMany : Int32) (o_undoMany : Int32) (o_firstRest : Int32) (o_catAt : Int32) (o_tape : Value) (o_scanner : Value) (o_town : Value) (o_was : Value) (o_trial : Value) (o_night : Value) (o_plans : Value) (o_undone : Value) (o_images : Value) (o_often : Value) (o_next : Value) (res : (Int32 × Int32 × Int32)) (hM : MX1_lookN  = some res) : Met l yX1_look (ws_ yX1_look cX1_look 1 (some .int)) ({ frames := 1, cells := 0, slots := 0, locals := 21 }) (pre_ D dA [.ref h_o] [(h_o, .inr (0, [o_tape, .int o_taped, o_scanner, .null, .int o_trouble, .int o_fault, .int o_where, .int o_imageMany, .int o_undoMany, o_town, o_was, o_trial, o_night, o_plans, o_undone, o_images, o_often, .int o_firstRest, o_next, .int o_catAt]))] sz) (qi_ D res.1 (fun (u : Unit) => [(h_o, .inr (0, [o_tape, .int o_taped, o_scanner, .null, .int res.2.1, .int o_fault, .int res.2.2, .int o_imageMany, .int o_undoMany, o_town, o_was, o_trial, o_night, o_plans, o_undone, o_images, o_often, .int o_firstRest, o_next, .int o_catAt]))]) (va_A [(h_o, .inr (0, [o_tape, .int o_taped, o_scanner, .null, .int o_trouble, .int o_fault, .int o_where, .int o_imageMany, .int o_undoMany, o_town, o_was, o_trial, o_night, o_plans, o_undone, o_images, o_often, .int o_firstRest, o_next, .int o_catAt]))] sz)) 0 0 (va_A [(h_o, .inr (0, [o_tape, .int o_taped, o_scanner, .null, .int o_trouble, .int o_fault, .int o_where, .int o_imageMany, .int o_undoMany, o_town, o_was, o_trial, o_night, o_plans, o_undone, o_images, o_often, .int o_firstRest, o_next, .int o_catAt]))] sz) := by
  refine Met.ofW (cc := cX1_look) (maxL := 1) (ret := (some .int)) (by decide) rfl ?_
  intro p e s m args below meth c s₁ B hml hv
  obtain ⟨rfl, hsz, hP, hK, hD0⟩ := hv
  have hx := B.exec
  have hb := B.bytes
  have hr := B.returns
  have hts := atoms_spec (ws := (ws_ yX1_look cX1_look 1 (some .int))) B.pre
  have hts : ∀ w ∈ lw_all, w.before _ s = true := fun w h => hts w (List.mem_cons_of_mem _ h)
  have hown : s.vm.findClass RX1 = some m.cls := findClass_of_methodNamed B.named
  have hlocks := B.notSynchronized
  subst hsz
  have hD := hD0.self (sz := s.heap.size)
  generalize hAe : va_A [(h_o, .inr (0, [o_tape, .int o_taped, o_scanner, .null, .int o_trouble, .int o_fault, .int o_where, .int o_imageMany, .int o_undoMany, o_town, o_was, o_trial, o_night, o_plans, o_undone, o_images, o_often, .int o_firstRest, o_next, .int o_catAt]))] s.heap.size = A at hD ⊢
  have hA : ∀ q : Nat, s.heap.size ≤ q → A q := fun q h => by rw [← hAe]; exact Or.inr h
  have hS : va_S A s.heap s.heap [] := va_S.rf
  have hP : va_P D clG [(h_o, .inr (0, [o_tape, .int o_taped, o_scanner, .null, .int o_trouble, .int o_fault, .int o_where, .int o_imageMany, .int o_undoMany, o_town, o_was, o_trial, o_night, o_plans, o_undone, o_images, o_often, .int o_firstRest, o_next, .int o_catAt]))] s.heap := hP
  have hl := lv_entry ([.ref h_o]) (n := 1) (Nat.le_of_ble_eq_true rfl)
  rw [lg_entry_eq]
  generalize (lg_sl ([.ref h_o]) ++ List.replicate (1 - (lg_sl ([.ref h_o])).length) Slot.unset).toArray = ls at hl ⊢
  have hl : lv_has ls 1 [(0, .ref h_o)] := hl
  unfold MX1_lookN at hM
  refine lv_aload_n hx hb dX1_look_0 rfl (lv_at hl 0 rfl) ?_
  obtain ⟨r1, er1, hM⟩ := b_inv hM
  refine k_v0 [0] (va_runV (As := []) (rest := []) ⟨hx, hb, hml, hown, hts⟩ (ctX1_anew l D dA _ h_o o_taped o_trouble o_fault o_where o_imageMany o_undoMany o_firstRest o_catAt (o_tape) (o_scanner) (.null) (o_town) (o_was) (o_trial) (o_night) (o_plans) (o_undone) (o_images) (o_often) (o_next) r1 er1) (cwV 0 hts (lw_V q432 q434 qs2 q113 q435) rfl rfl rfl (by decide +kernel) ⟨Nat.le_of_ble_eq_true rfl, Nat.le_of_ble_eq_true rfl⟩) (pre_V (hP.sub [0] rfl) hK (hD.sub [0] (by decide) rfl) (ci := 0) (q0 := 0) rfl rfl) rfl rfl hl.1 rfl (lv_room (Nat.le_of_ble_eq_true rfl)) dX1_look_1 ⟨Nat.le_of_ble_eq_true rfl, Nat.le_of_ble_eq_true rfl⟩) hP hD hS hA rfl (fun _ => rfl) (fun u2 H locs hP hD hS => ?_)
  have hP : va_P D clG [(h_o, .inr (0, [o_tape, .int o_taped, o_scanner, .null, .int r1.1, .int o_fault, .int r1.2, .int o_imageMany, .int o_undoMany, o_town, o_was, o_trial, o_night, o_plans, o_undone, o_images, o_often, .int o_firstRest, o_next, .int o_catAt]))] H := hP
  have hD : va_D A [(h_o, .inr (0, [o_tape, .int o_taped, o_scanner, .null, .int r1.1, .int o_fault, .int r1.2, .int o_imageMany, .int o_undoMany, o_town, o_was, o_trial, o_night, o_plans, o_undone, o_images, o_often, .int o_firstRest, o_next, .int o_catAt]))] := hD
  refine lv_aload_n hx hb dX1_look_4 rfl (lv_at hl 0 rfl) ?_
  refine va_get (D := D) (ci := 0) (v := .null) (C := RX1) (T := TX1) (N := 20) hx hb hts in_X1 hown hK.1 hP 0 rfl rfl 3 (by decide) (hts _ q361) (fun _ h9 => h9) rfl dX1_look_5 ?_
  refine lv_ifnonnullN hx hb dX1_look_8 ?_
  refine lv_aload_n hx hb dX1_look_11 rfl (lv_at hl 0 rfl) ?_
  refine lv_iconst (v := (1 : Int32)) hx hb dX1_look_12 (by decide) ?_
  obtain ⟨r3, er3, hM⟩ := b_inv hM
  refine k_i0 [0] (va_runV (As := [.int (1 : Int32)]) (rest := []) ⟨hx, hb, hml, hown, hts⟩ (ctX1_no l D dA _ h_o (1 : Int32) o_taped r1.1 o_fault r1.2 o_imageMany o_undoMany o_firstRest o_catAt (o_tape) (o_scanner) (.null) (o_town) (o_was) (o_trial) (o_night) (o_plans) (o_undone) (o_images) (o_often) (o_next) r3 er3) (cwV 1 hts (lw_V q439 q441 qs3 q113 q442) rfl rfl rfl (by decide +kernel) ⟨Nat.le_of_ble_eq_true rfl, Nat.le_of_ble_eq_true rfl⟩) (pre_V (hP.sub [0] rfl) hK (hD.sub [0] (by decide) rfl) (ci := 0) (q0 := 0) rfl rfl) rfl rfl hl.1 rfl (lv_room (Nat.le_of_ble_eq_true rfl)) dX1_look_13 ⟨Nat.le_of_ble_eq_true rfl, Nat.le_of_ble_eq_true rfl⟩) hP hD hS hA rfl (fun _ => rfl) (fun u4 H locs hP hD hS => ?_)
  have hP : va_P D clG [(h_o, .inr (0, [o_tape, .int o_taped, o_scanner, .null, .int r3.2, .int o_fault, .int r1.2, .int o_imageMany, .int o_undoMany, o_town, o_was, o_trial, o_night, o_plans, o_undone, o_images, o_often, .int o_firstRest, o_next, .int o_catAt]))] H := hP
  have hD : va_D A [(h_o, .inr (0, [o_tape, .int o_taped, o_scanner, .null, .int r3.2, .int o_fault, .int r1.2, .int o_imageMany, .int o_undoMany, o_town, o_was, o_trial, o_night, o_plans, o_undone, o_images, o_often, .int o_firstRest, o_next, .int o_catAt]))] := hD
  refine lv_goto (tgt := 23) hx hb dX1_look_16 (by decide) ?_
  have hM := Option.some.inj hM
  subst hM
  exact W.iret (v := r3.1) hx hb hr (fun t ht hW => ⟨⟨r3.1, (), rfl, rfl, by rw [ht]; exact hP, hD⟩, hS.F ht⟩) hS.2.2 dX1_look_23

set_option maxHeartbeats 40000000 in
set_option maxRecDepth 100000 in
theorem ctX7_lookN (l : Launch) (D : va_G) (dA : Nat → ClassId) (sz : Nat) (h_m : Nat) (m_thrown : Int32) (m_trouble : Int32) (m_where : Int32) (m_taped : Int32) (m_size : Int32) (m_spot : Int32) (m_sort : Int32) (m_place : Int32) (m_number : Int32) (m_fault : Int32) (m_wrongAt : Int32) (m_word : Int64) (m_askedOf : Int32) (m_acts : Int32) (m_images : Int32) (m_catGets : Int32) (m_whole : Int64) (m_bestSum : Int64) (m_tourHoursNow : Int32) (m_fitsNow : Int32) (m_foundHour : Int32) (m_lookLeft : Int32) (m_firstCatNow : Int32) (m_read : Value) (m_tape : Value) (m_v : Value) (m_x : Value) (m_past : Value) (m_kept : Value) (m_heir : Value) (m_then : Value) (m_come : Value) (m_comeThen : Value) (m_hour : Value) (m_partIn : Value) (m_heirIn : Value) (res : (Int32 × Int32 × Int32 × Int32)) (hM : MX7_lookN  = some res) : Met l yX7_look (ws_ yX7_look cX7_look 1 (some .int)) ({ frames := 1, cells := 0, slots := 0, locals := 21 }) (pre_ D dA [.ref h_m] [(h_m, .inr (11, [.int m_thrown, .int m_trouble, .int m_where, .null, m_read, m_tape, .int m_taped, .int m_size, .int m_spot, .int m_sort, .int m_place, .int m_number, .int m_fault, .int m_wrongAt, .long m_word, .int m_askedOf, m_v, m_x, m_past, m_kept, .int m_acts, .int m_images, m_heir, m_then, .int m_catGets, .long m_whole, .long m_bestSum, m_come, m_comeThen, .int m_tourHoursNow, m_hour, m_partIn, m_heirIn, .int m_fitsNow, .int m_foundHour, .int m_lookLeft, .int m_firstCatNow]))] sz) (qi_ D res.1 (fun (u : Unit) => [(h_m, .inr (11, [.int res.2.1, .int res.2.2.1, .int res.2.2.2, .null, m_read, m_tape, .int m_taped, .int m_size, .int m_spot, .int m_sort, .int m_place, .int m_number, .int m_fault, .int m_wrongAt, .long m_word, .int m_askedOf, m_v, m_x, m_past, m_kept, .int m_acts, .int m_images, m_heir, m_then, .int m_catGets, .long m_whole, .long m_bestSum, m_come, m_comeThen, .int m_tourHoursNow, m_hour, m_partIn, m_heirIn, .int m_fitsNow, .int m_foundHour, .int m_lookLeft, .int m_firstCatNow]))]) (va_A [(h_m, .inr (11, [.int m_thrown, .int m_trouble, .int m_where, .null, m_read, m_tape, .int m_taped, .int m_size, .int m_spot, .int m_sort, .int m_place, .int m_number, .int m_fault, .int m_wrongAt, .long m_word, .int m_askedOf, m_v, m_x, m_past, m_kept, .int m_acts, .int m_images, m_heir, m_then, .int m_catGets, .long m_whole, .long m_bestSum, m_come, m_comeThen, .int m_tourHoursNow, m_hour, m_partIn, m_heirIn, .int m_fitsNow, .int m_foundHour, .int m_lookLeft, .int m_firstCatNow]))] sz)) 0 0 (va_A [(h_m, .inr (11, [.int m_thrown, .int m_trouble, .int m_where, .null, m_read, m_tape, .int m_taped, .int m_size, .int m_spot, .int m_sort, .int m_place, .int m_number, .int m_fault, .int m_wrongAt, .long m_word, .int m_askedOf, m_v, m_x, m_past, m_kept, .int m_acts, .int m_images, m_heir, m_then, .int m_catGets, .long m_whole, .long m_bestSum, m_come, m_comeThen, .int m_tourHoursNow, m_hour, m_partIn, m_heirIn, .int m_fitsNow, .int m_foundHour, .int m_lookLeft, .int m_firstCatNow]))] sz) := by
  refine Met.ofW (cc := cX7_look) (maxL := 1) (ret := (some .int)) (by decide) rfl ?_
  intro p e s m args below meth c s₁ B hml hv
  obtain ⟨rfl, hsz, hP, hK, hD0⟩ := hv
  have hx := B.exec
  have hb := B.bytes
  have hr := B.returns
  have hts := atoms_spec (ws := (ws_ yX7_look cX7_look 1 (some .int))) B.pre
  have hts : ∀ w ∈ lw_all, w.before _ s = true := fun w h => hts w (List.mem_cons_of_mem _ h)
  have hown : s.vm.findClass RX7 = some m.cls := findClass_of_methodNamed B.named
  have hlocks := B.notSynchronized
  subst hsz
  have hD := hD0.self (sz := s.heap.size)
  generalize hAe : va_A [(h_m, .inr (11, [.int m_thrown, .int m_trouble, .int m_where, .null, m_read, m_tape, .int m_taped, .int m_size, .int m_spot, .int m_sort, .int m_place, .int m_number, .int m_fault, .int m_wrongAt, .long m_word, .int m_askedOf, m_v, m_x, m_past, m_kept, .int m_acts, .int m_images, m_heir, m_then, .int m_catGets, .long m_whole, .long m_bestSum, m_come, m_comeThen, .int m_tourHoursNow, m_hour, m_partIn, m_heirIn, .int m_fitsNow, .int m_foundHour, .int m_lookLeft, .int m_firstCatNow]))] s.heap.size = A at hD ⊢
  have hA : ∀ q : Nat, s.heap.size ≤ q → A q := fun q h => by rw [← hAe]; exact Or.inr h
  have hS : va_S A s.heap s.heap [] := va_S.rf
  have hP : va_P D clG [(h_m, .inr (11, [.int m_thrown, .int m_trouble, .int m_where, .null, m_read, m_tape, .int m_taped, .int m_size, .int m_spot, .int m_sort, .int m_place, .int m_number, .int m_fault, .int m_wrongAt, .long m_word, .int m_askedOf, m_v, m_x, m_past, m_kept, .int m_acts, .int m_images, m_heir, m_then, .int m_catGets, .long m_whole, .long m_bestSum, m_come, m_comeThen, .int m_tourHoursNow, m_hour, m_partIn, m_heirIn, .int m_fitsNow, .int m_foundHour, .int m_lookLeft, .int m_firstCatNow]))] s.heap := hP
  have hl := lv_entry ([.ref h_m]) (n := 1) (Nat.le_of_ble_eq_true rfl)
  rw [lg_entry_eq]
  generalize (lg_sl ([.ref h_m]) ++ List.replicate (1 - (lg_sl ([.ref h_m])).length) Slot.unset).toArray = ls at hl ⊢
  have hl : lv_has ls 1 [(0, .ref h_m)] := hl
  unfold MX7_lookN at hM
  refine lv_aload_n hx hb dX7_look_0 rfl (lv_at hl 0 rfl) ?_
  refine lv_iconst (v := (0 : Int32)) hx hb dX7_look_1 (by decide) ?_
  refine va_put (D := D) (ci := 11) (v := .int (0 : Int32)) (ty := .int) (C := RX7) (T := TX7) (N := 37) hx hb hts in_X7 tyX7 tyX7_ok nmX7 hown hK.1 hP hD hS 0 rfl rfl 0 (by decide) (hts _ q1372) (fun _ h9 => h9) rfl (by decide +kernel) rfl rfl (Nat.le_of_ble_eq_true rfl) dX7_look_2 (fun H locs hP hD hS => ?_)
  have hP : va_P D clG [(h_m, .inr (11, [.int (0 : Int32), .int m_trouble, .int m_where, .null, m_read, m_tape, .int m_taped, .int m_size, .int m_spot, .int m_sort, .int m_place, .int m_number, .int m_fault, .int m_wrongAt, .long m_word, .int m_askedOf, m_v, m_x, m_past, m_kept, .int m_acts, .int m_images, m_heir, m_then, .int m_catGets, .long m_whole, .long m_bestSum, m_come, m_comeThen, .int m_tourHoursNow, m_hour, m_partIn, m_heirIn, .int m_fitsNow, .int m_foundHour, .int m_lookLeft, .int m_firstCatNow]))] H := hP
  have hD : va_D A [(h_m, .inr (11, [.int (0 : Int32), .int m_trouble, .int m_where, .null, m_read, m_tape, .int m_taped, .int m_size, .int m_spot, .int m_sort, .int m_place, .int m_number, .int m_fault, .int m_wrongAt, .long m_word, .int m_askedOf, m_v, m_x, m_past, m_kept, .int m_acts, .int m_images, m_heir, m_then, .int m_catGets, .long m_whole, .long m_bestSum, m_come, m_comeThen, .int m_tourHoursNow, m_hour, m_partIn, m_heirIn, .int m_fitsNow, .int m_foundHour, .int m_lookLeft, .int m_firstCatNow]))] := hD
  refine lv_aload_n hx hb dX7_look_5 rfl (lv_at hl 0 rfl) ?_
  refine va_get (D := D) (ci := 11) (v := .null) (C := RX7) (T := TX7) (N := 37) hx hb hts in_X7 hown hK.1 hP 0 rfl rfl 3 (by decide) (hts _ q1375) (fun _ h9 => h9) rfl dX7_look_6 ?_
  refine lv_ifnonnullN hx hb dX7_look_9 ?_
  refine lv_aload_n hx hb dX7_look_12 rfl (lv_at hl 0 rfl) ?_
  refine lv_iconst (v := (1 : Int32)) hx hb dX7_look_13 (by decide) ?_
  obtain ⟨r1, er1, hM⟩ := b_inv hM
  refine k_i0 [0] (va_runV (As := [.int (1 : Int32)]) (rest := []) ⟨hx, hb, hml, hown, hts⟩ (ctX7_refused l D dA _ h_m (1 : Int32) (0 : Int32) m_trouble m_where m_taped m_size m_spot m_sort m_place m_number m_fault m_wrongAt m_word m_askedOf m_acts m_images m_catGets m_whole m_bestSum m_tourHoursNow m_fitsNow m_foundHour m_lookLeft m_firstCatNow (.null) (m_read) (m_tape) (m_v) (m_x) (m_past) (m_kept) (m_heir) (m_then) (m_come) (m_comeThen) (m_hour) (m_partIn) (m_heirIn) r1 er1) (cwV 1 hts (lw_V q1496 q1498 qs50 q122 q1499) rfl rfl rfl (by decide +kernel) ⟨Nat.le_of_ble_eq_true rfl, Nat.le_of_ble_eq_true rfl⟩) (pre_V (hP.sub [0] rfl) hK (hD.sub [0] (by decide) rfl) (ci := 11) (q0 := 0) rfl rfl) rfl rfl hl.1 rfl (lv_room (Nat.le_of_ble_eq_true rfl)) dX7_look_14 ⟨Nat.le_of_ble_eq_true rfl, Nat.le_of_ble_eq_true rfl⟩) hP hD hS hA rfl (fun _ => rfl) (fun u2 H locs hP hD hS => ?_)
  have hP : va_P D clG [(h_m, .inr (11, [.int (0 : Int32), .int r1.2.1, .int r1.2.2, .null, m_read, m_tape, .int m_taped, .int m_size, .int m_spot, .int m_sort, .int m_place, .int m_number, .int m_fault, .int m_wrongAt, .long m_word, .int m_askedOf, m_v, m_x, m_past, m_kept, .int m_acts, .int m_images, m_heir, m_then, .int m_catGets, .long m_whole, .long m_bestSum, m_come, m_comeThen, .int m_tourHoursNow, m_hour, m_partIn, m_heirIn, .int m_fitsNow, .int m_foundHour, .int m_lookLeft, .int m_firstCatNow]))] H := hP
  have hD : va_D A [(h_m, .inr (11, [.int (0 : Int32), .int r1.2.1, .int r1.2.2, .null, m_read, m_tape, .int m_taped, .int m_size, .int m_spot, .int m_sort, .int m_place, .int m_number, .int m_fault, .int m_wrongAt, .long m_word, .int m_askedOf, m_v, m_x, m_past, m_kept, .int m_acts, .int m_images, m_heir, m_then, .int m_catGets, .long m_whole, .long m_bestSum, m_come, m_comeThen, .int m_tourHoursNow, m_hour, m_partIn, m_heirIn, .int m_fitsNow, .int m_foundHour, .int m_lookLeft, .int m_firstCatNow]))] := hD
  refine lv_goto (tgt := 28) hx hb dX7_look_17 (by decide) ?_
  have hM := Option.some.inj hM
  subst hM
  exact W.iret (v := r1.1) hx hb hr (fun t ht hW => ⟨⟨r1.1, (), rfl, rfl, by rw [ht]; exact hP, hD⟩, hS.F ht⟩) hS.2.2 dX7_look_28

set_option maxHeartbeats 40000000 in
set_option maxRecDepth 100000 in
theorem ctX1_lookLeavesN (l : Launch) (D : va_G) (dA : Nat → ClassId) (sz : Nat) (h_o : Nat) (o_taped : Int32) (o_trouble : Int32) (o_fault : Int32) (o_where : Int32) (o_imageMany : Int32) (o_undoMany : Int32) (o_firstRest : Int32) (o_catAt : Int32) (o_tape : Value) (o_scanner : Value) (o_town : Value) (o_was : Value) (o_trial : Value) (o_night : Value) (o_plans : Value) (o_undone : Value) (o_images : Value) (o_often : Value) (o_next : Value) (res : (Int32 × Int32 × Int32)) (hM : MX1_lookLeavesN  = some res) : Met l yX1_lookLeaves (ws_ yX1_lookLeaves cX1_lookLeaves 2 (some .int)) ({ frames := 1, cells := 0, slots := 0, locals := 21 }) (pre_ D dA [.ref h_o] [(h_o, .inr (0, [o_tape, .int o_taped, o_scanner, .null, .int o_trouble, .int o_fault, .int o_where, .int o_imageMany, .int o_undoMany, o_town, o_was, o_trial, o_night, o_plans, o_undone, o_images, o_often, .int o_firstRest, o_next, .int o_catAt]))] sz) (qi_ D res.1 (fun (u : Unit) => [(h_o, .inr (0, [o_tape, .int o_taped, o_scanner, .null, .int res.2.1, .int o_fault, .int res.2.2, .int o_imageMany, .int o_undoMany, o_town, o_was, o_trial, o_night, o_plans, o_undone, o_images, o_often, .int o_firstRest, o_next, .int o_catAt]))]) (va_A [(h_o, .inr (0, [o_tape, .int o_taped, o_scanner, .null, .int o_trouble, .int o_fault, .int o_where, .int o_imageMany, .int o_undoMany, o_town, o_was, o_trial, o_night, o_plans, o_undone, o_images, o_often, .int o_firstRest, o_next, .int o_catAt]))] sz)) 0 0 (va_A [(h_o, .inr (0, [o_tape, .int o_taped, o_scanner, .null, .int o_trouble, .int o_fault, .int o_where, .int o_imageMany, .int o_undoMany, o_town, o_was, o_trial, o_night, o_plans, o_undone, o_images, o_often, .int o_firstRest, o_next, .int o_catAt]))] sz) := by
  refine Met.ofW (cc := cX1_lookLeaves) (maxL := 2) (ret := (some .int)) (by decide) rfl ?_
  intro p e s m args below meth c s₁ B hml hv
  obtain ⟨rfl, hsz, hP, hK, hD0⟩ := hv
  have hx := B.exec
  have hb := B.bytes
  have hr := B.returns
  have hts := atoms_spec (ws := (ws_ yX1_lookLeaves cX1_lookLeaves 2 (some .int))) B.pre
  have hts : ∀ w ∈ lw_all, w.before _ s = true := fun w h => hts w (List.mem_cons_of_mem _ h)
  have hown : s.vm.findClass RX1 = some m.cls := findClass_of_methodNamed B.named
  have hlocks := B.notSynchronized
  subst hsz
  have hD := hD0.self (sz := s.heap.size)
  generalize hAe : va_A [(h_o, .inr (0, [o_tape, .int o_taped, o_scanner, .null, .int o_trouble, .int o_fault, .int o_where, .int o_imageMany, .int o_undoMany, o_town, o_was, o_trial, o_night, o_plans, o_undone, o_images, o_often, .int o_firstRest, o_next, .int o_catAt]))] s.heap.size = A at hD ⊢
  have hA : ∀ q : Nat, s.heap.size ≤ q → A q := fun q h => by rw [← hAe]; exact Or.inr h
  have hS : va_S A s.heap s.heap [] := va_S.rf
  have hP : va_P D clG [(h_o, .inr (0, [o_tape, .int o_taped, o_scanner, .null, .int o_trouble, .int o_fault, .int o_where, .int o_imageMany, .int o_undoMany, o_town, o_was, o_trial, o_night, o_plans, o_undone, o_images, o_often, .int o_firstRest, o_next, .int o_catAt]))] s.heap := hP
  have hl := lv_entry ([.ref h_o]) (n := 2) (Nat.le_of_ble_eq_true rfl)
  rw [lg_entry_eq]
  generalize (lg_sl ([.ref h_o]) ++ List.replicate (2 - (lg_sl ([.ref h_o])).length) Slot.unset).toArray = ls at hl ⊢
  have hl : lv_has ls 2 [(0, .ref h_o)] := hl
  unfold MX1_lookLeavesN at hM
  refine lv_aload_n hx hb dX1_lookLeaves_0 rfl (lv_at hl 0 rfl) ?_
  obtain ⟨r1, er1, hM⟩ := b_inv hM
  refine k_v0 [0] (va_runV (As := []) (rest := []) ⟨hx, hb, hml, hown, hts⟩ (ctX1_anew l D dA _ h_o o_taped o_trouble o_fault o_where o_imageMany o_undoMany o_firstRest o_catAt (o_tape) (o_scanner) (.null) (o_town) (o_was) (o_trial) (o_night) (o_plans) (o_undone) (o_images) (o_often) (o_next) r1 er1) (cwV 0 hts (lw_V q432 q434 qs2 q113 q435) rfl rfl rfl (by decide +kernel) ⟨Nat.le_of_ble_eq_true rfl, Nat.le_of_ble_eq_true rfl⟩) (pre_V (hP.sub [0] rfl) hK (hD.sub [0] (by decide) rfl) (ci := 0) (q0 := 0) rfl rfl) rfl rfl hl.1 rfl (lv_room (Nat.le_of_ble_eq_true rfl)) dX1_lookLeaves_1 ⟨Nat.le_of_ble_eq_true rfl, Nat.le_of_ble_eq_true rfl⟩) hP hD hS hA rfl (fun _ => rfl) (fun u2 H locs hP hD hS => ?_)
  have hP : va_P D clG [(h_o, .inr (0, [o_tape, .int o_taped, o_scanner, .null, .int r1.1, .int o_fault, .int r1.2, .int o_imageMany, .int o_undoMany, o_town, o_was, o_trial, o_night, o_plans, o_undone, o_images, o_often, .int o_firstRest, o_next, .int o_catAt]))] H := hP
  have hD : va_D A [(h_o, .inr (0, [o_tape, .int o_taped, o_scanner, .null, .int r1.1, .int o_fault, .int r1.2, .int o_imageMany, .int o_undoMany, o_town, o_was, o_trial, o_night, o_plans, o_undone, o_images, o_often, .int o_firstRest, o_next, .int o_catAt]))] := hD
  refine lv_aload_n hx hb dX1_lookLeaves_4 rfl (lv_at hl 0 rfl) ?_
  refine va_get (D := D) (ci := 0) (v := .null) (C := RX1) (T := TX1) (N := 20) hx hb hts in_X1 hown hK.1 hP 0 rfl rfl 3 (by decide) (hts _ q361) (fun _ h9 => h9) rfl dX1_lookLeaves_5 ?_
  refine lv_ifnonnullN hx hb dX1_lookLeaves_8 ?_
  refine lv_aload_n hx hb dX1_lookLeaves_11 rfl (lv_at hl 0 rfl) ?_
  refine lv_iconst (v := (1 : Int32)) hx hb dX1_lookLeaves_12 (by decide) ?_
  obtain ⟨r3, er3, hM⟩ := b_inv hM
  refine k_i0 [0] (va_runV (As := [.int (1 : Int32)]) (rest := []) ⟨hx, hb, hml, hown, hts⟩ (ctX1_no l D dA _ h_o (1 : Int32) o_taped r1.1 o_fault r1.2 o_imageMany o_undoMany o_firstRest o_catAt (o_tape) (o_scanner) (.null) (o_town) (o_was) (o_trial) (o_night) (o_plans) (o_undone) (o_images) (o_often) (o_next) r3 er3) (cwV 1 hts (lw_V q439 q441 qs3 q113 q442) rfl rfl rfl (by decide +kernel) ⟨Nat.le_of_ble_eq_true rfl, Nat.le_of_ble_eq_true rfl⟩) (pre_V (hP.sub [0] rfl) hK (hD.sub [0] (by decide) rfl) (ci := 0) (q0 := 0) rfl rfl) rfl rfl hl.1 rfl (lv_room (Nat.le_of_ble_eq_true rfl)) dX1_lookLeaves_13 ⟨Nat.le_of_ble_eq_true rfl, Nat.le_of_ble_eq_true rfl⟩) hP hD hS hA rfl (fun _ => rfl) (fun u4 H locs hP hD hS => ?_)
  have hP : va_P D clG [(h_o, .inr (0, [o_tape, .int o_taped, o_scanner, .null, .int r3.2, .int o_fault, .int r1.2, .int o_imageMany, .int o_undoMany, o_town, o_was, o_trial, o_night, o_plans, o_undone, o_images, o_often, .int o_firstRest, o_next, .int o_catAt]))] H := hP
  have hD : va_D A [(h_o, .inr (0, [o_tape, .int o_taped, o_scanner, .null, .int r3.2, .int o_fault, .int r1.2, .int o_imageMany, .int o_undoMany, o_town, o_was, o_trial, o_night, o_plans, o_undone, o_images, o_often, .int o_firstRest, o_next, .int o_catAt]))] := hD
  have hM := Option.some.inj hM
  subst hM
  exact W.iret (v := r3.1) hx hb hr (fun t ht hW => ⟨⟨r3.1, (), rfl, rfl, by rw [ht]; exact hP, hD⟩, hS.F ht⟩) hS.2.2 dX1_lookLeaves_16

set_option maxHeartbeats 40000000 in
set_option maxRecDepth 100000 in
theorem ctX7_lookLeavesN (l : Launch) (D : va_G) (dA : Nat → ClassId) (sz : Nat) (h_m : Nat) (m_thrown : Int32) (m_trouble : Int32) (m_where : Int32) (m_taped : Int32) (m_size : Int32) (m_spot : Int32) (m_sort : Int32) (m_place : Int32) (m_number : Int32) (m_fault : Int32) (m_wrongAt : Int32) (m_word : Int64) (m_askedOf : Int32) (m_acts : Int32) (m_images : Int32) (m_catGets : Int32) (m_whole : Int64) (m_bestSum : Int64) (m_tourHoursNow : Int32) (m_fitsNow : Int32) (m_foundHour : Int32) (m_lookLeft : Int32) (m_firstCatNow : Int32) (m_read : Value) (m_tape : Value) (m_v : Value) (m_x : Value) (m_past : Value) (m_kept : Value) (m_heir : Value) (m_then : Value) (m_come : Value) (m_comeThen : Value) (m_hour : Value) (m_partIn : Value) (m_heirIn : Value) (res : (Int32 × Int32 × Int32 × Int32)) (hM : MX7_lookLeavesN  = some res) : Met l yX7_lookLeaves (ws_ yX7_lookLeaves cX7_lookLeaves 1 (some .int)) ({ frames := 1, cells := 0, slots := 0, locals := 21 }) (pre_ D dA [.ref h_m] [(h_m, .inr (11, [.int m_thrown, .int m_trouble, .int m_where, .null, m_read, m_tape, .int m_taped, .int m_size, .int m_spot, .int m_sort, .int m_place, .int m_number, .int m_fault, .int m_wrongAt, .long m_word, .int m_askedOf, m_v, m_x, m_past, m_kept, .int m_acts, .int m_images, m_heir, m_then, .int m_catGets, .long m_whole, .long m_bestSum, m_come, m_comeThen, .int m_tourHoursNow, m_hour, m_partIn, m_heirIn, .int m_fitsNow, .int m_foundHour, .int m_lookLeft, .int m_firstCatNow]))] sz) (qi_ D res.1 (fun (u : Unit) => [(h_m, .inr (11, [.int res.2.1, .int res.2.2.1, .int res.2.2.2, .null, m_read, m_tape, .int m_taped, .int m_size, .int m_spot, .int m_sort, .int m_place, .int m_number, .int m_fault, .int m_wrongAt, .long m_word, .int m_askedOf, m_v, m_x, m_past, m_kept, .int m_acts, .int m_images, m_heir, m_then, .int m_catGets, .long m_whole, .long m_bestSum, m_come, m_comeThen, .int m_tourHoursNow, m_hour, m_partIn, m_heirIn, .int m_fitsNow, .int m_foundHour, .int m_lookLeft, .int m_firstCatNow]))]) (va_A [(h_m, .inr (11, [.int m_thrown, .int m_trouble, .int m_where, .null, m_read, m_tape, .int m_taped, .int m_size, .int m_spot, .int m_sort, .int m_place, .int m_number, .int m_fault, .int m_wrongAt, .long m_word, .int m_askedOf, m_v, m_x, m_past, m_kept, .int m_acts, .int m_images, m_heir, m_then, .int m_catGets, .long m_whole, .long m_bestSum, m_come, m_comeThen, .int m_tourHoursNow, m_hour, m_partIn, m_heirIn, .int m_fitsNow, .int m_foundHour, .int m_lookLeft, .int m_firstCatNow]))] sz)) 0 0 (va_A [(h_m, .inr (11, [.int m_thrown, .int m_trouble, .int m_where, .null, m_read, m_tape, .int m_taped, .int m_size, .int m_spot, .int m_sort, .int m_place, .int m_number, .int m_fault, .int m_wrongAt, .long m_word, .int m_askedOf, m_v, m_x, m_past, m_kept, .int m_acts, .int m_images, m_heir, m_then, .int m_catGets, .long m_whole, .long m_bestSum, m_come, m_comeThen, .int m_tourHoursNow, m_hour, m_partIn, m_heirIn, .int m_fitsNow, .int m_foundHour, .int m_lookLeft, .int m_firstCatNow]))] sz) := by
  refine Met.ofW (cc := cX7_lookLeaves) (maxL := 1) (ret := (some .int)) (by decide) rfl ?_
  intro p e s m args below meth c s₁ B hml hv
  obtain ⟨rfl, hsz, hP, hK, hD0⟩ := hv
  have hx := B.exec
  have hb := B.bytes
  have hr := B.returns
  have hts := atoms_spec (ws := (ws_ yX7_lookLeaves cX7_lookLeaves 1 (some .int))) B.pre
  have hts : ∀ w ∈ lw_all, w.before _ s = true := fun w h => hts w (List.mem_cons_of_mem _ h)
  have hown : s.vm.findClass RX7 = some m.cls := findClass_of_methodNamed B.named
  have hlocks := B.notSynchronized
  subst hsz
  have hD := hD0.self (sz := s.heap.size)
  generalize hAe : va_A [(h_m, .inr (11, [.int m_thrown, .int m_trouble, .int m_where, .null, m_read, m_tape, .int m_taped, .int m_size, .int m_spot, .int m_sort, .int m_place, .int m_number, .int m_fault, .int m_wrongAt, .long m_word, .int m_askedOf, m_v, m_x, m_past, m_kept, .int m_acts, .int m_images, m_heir, m_then, .int m_catGets, .long m_whole, .long m_bestSum, m_come, m_comeThen, .int m_tourHoursNow, m_hour, m_partIn, m_heirIn, .int m_fitsNow, .int m_foundHour, .int m_lookLeft, .int m_firstCatNow]))] s.heap.size = A at hD ⊢
  have hA : ∀ q : Nat, s.heap.size ≤ q → A q := fun q h => by rw [← hAe]; exact Or.inr h
  have hS : va_S A s.heap s.heap [] := va_S.rf
  have hP : va_P D clG [(h_m, .inr (11, [.int m_thrown, .int m_trouble, .int m_where, .null, m_read, m_tape, .int m_taped, .int m_size, .int m_spot, .int m_sort, .int m_place, .int m_number, .int m_fault, .int m_wrongAt, .long m_word, .int m_askedOf, m_v, m_x, m_past, m_kept, .int m_acts, .int m_images, m_heir, m_then, .int m_catGets, .long m_whole, .long m_bestSum, m_come, m_comeThen, .int m_tourHoursNow, m_hour, m_partIn, m_heirIn, .int m_fitsNow, .int m_foundHour, .int m_lookLeft, .int m_firstCatNow]))] s.heap := hP
  have hl := lv_entry ([.ref h_m]) (n := 1) (Nat.le_of_ble_eq_true rfl)
  rw [lg_entry_eq]
  generalize (lg_sl ([.ref h_m]) ++ List.replicate (1 - (lg_sl ([.ref h_m])).length) Slot.unset).toArray = ls at hl ⊢
  have hl : lv_has ls 1 [(0, .ref h_m)] := hl
  unfold MX7_lookLeavesN at hM
  refine lv_aload_n hx hb dX7_lookLeaves_0 rfl (lv_at hl 0 rfl) ?_
  refine lv_iconst (v := (0 : Int32)) hx hb dX7_lookLeaves_1 (by decide) ?_
  refine va_put (D := D) (ci := 11) (v := .int (0 : Int32)) (ty := .int) (C := RX7) (T := TX7) (N := 37) hx hb hts in_X7 tyX7 tyX7_ok nmX7 hown hK.1 hP hD hS 0 rfl rfl 0 (by decide) (hts _ q1372) (fun _ h9 => h9) rfl (by decide +kernel) rfl rfl (Nat.le_of_ble_eq_true rfl) dX7_lookLeaves_2 (fun H locs hP hD hS => ?_)
  have hP : va_P D clG [(h_m, .inr (11, [.int (0 : Int32), .int m_trouble, .int m_where, .null, m_read, m_tape, .int m_taped, .int m_size, .int m_spot, .int m_sort, .int m_place, .int m_number, .int m_fault, .int m_wrongAt, .long m_word, .int m_askedOf, m_v, m_x, m_past, m_kept, .int m_acts, .int m_images, m_heir, m_then, .int m_catGets, .long m_whole, .long m_bestSum, m_come, m_comeThen, .int m_tourHoursNow, m_hour, m_partIn, m_heirIn, .int m_fitsNow, .int m_foundHour, .int m_lookLeft, .int m_firstCatNow]))] H := hP
  have hD : va_D A [(h_m, .inr (11, [.int (0 : Int32), .int m_trouble, .int m_where, .null, m_read, m_tape, .int m_taped, .int m_size, .int m_spot, .int m_sort, .int m_place, .int m_number, .int m_fault, .int m_wrongAt, .long m_word, .int m_askedOf, m_v, m_x, m_past, m_kept, .int m_acts, .int m_images, m_heir, m_then, .int m_catGets, .long m_whole, .long m_bestSum, m_come, m_comeThen, .int m_tourHoursNow, m_hour, m_partIn, m_heirIn, .int m_fitsNow, .int m_foundHour, .int m_lookLeft, .int m_firstCatNow]))] := hD
  refine lv_aload_n hx hb dX7_lookLeaves_5 rfl (lv_at hl 0 rfl) ?_
  refine va_get (D := D) (ci := 11) (v := .null) (C := RX7) (T := TX7) (N := 37) hx hb hts in_X7 hown hK.1 hP 0 rfl rfl 3 (by decide) (hts _ q1375) (fun _ h9 => h9) rfl dX7_lookLeaves_6 ?_
  refine lv_ifnonnullN hx hb dX7_lookLeaves_9 ?_
  refine lv_aload_n hx hb dX7_lookLeaves_12 rfl (lv_at hl 0 rfl) ?_
  refine lv_iconst (v := (1 : Int32)) hx hb dX7_lookLeaves_13 (by decide) ?_
  obtain ⟨r1, er1, hM⟩ := b_inv hM
  refine k_i0 [0] (va_runV (As := [.int (1 : Int32)]) (rest := []) ⟨hx, hb, hml, hown, hts⟩ (ctX7_refused l D dA _ h_m (1 : Int32) (0 : Int32) m_trouble m_where m_taped m_size m_spot m_sort m_place m_number m_fault m_wrongAt m_word m_askedOf m_acts m_images m_catGets m_whole m_bestSum m_tourHoursNow m_fitsNow m_foundHour m_lookLeft m_firstCatNow (.null) (m_read) (m_tape) (m_v) (m_x) (m_past) (m_kept) (m_heir) (m_then) (m_come) (m_comeThen) (m_hour) (m_partIn) (m_heirIn) r1 er1) (cwV 1 hts (lw_V q1496 q1498 qs50 q122 q1499) rfl rfl rfl (by decide +kernel) ⟨Nat.le_of_ble_eq_true rfl, Nat.le_of_ble_eq_true rfl⟩) (pre_V (hP.sub [0] rfl) hK (hD.sub [0] (by decide) rfl) (ci := 11) (q0 := 0) rfl rfl) rfl rfl hl.1 rfl (lv_room (Nat.le_of_ble_eq_true rfl)) dX7_lookLeaves_14 ⟨Nat.le_of_ble_eq_true rfl, Nat.le_of_ble_eq_true rfl⟩) hP hD hS hA rfl (fun _ => rfl) (fun u2 H locs hP hD hS => ?_)
  have hP : va_P D clG [(h_m, .inr (11, [.int (0 : Int32), .int r1.2.1, .int r1.2.2, .null, m_read, m_tape, .int m_taped, .int m_size, .int m_spot, .int m_sort, .int m_place, .int m_number, .int m_fault, .int m_wrongAt, .long m_word, .int m_askedOf, m_v, m_x, m_past, m_kept, .int m_acts, .int m_images, m_heir, m_then, .int m_catGets, .long m_whole, .long m_bestSum, m_come, m_comeThen, .int m_tourHoursNow, m_hour, m_partIn, m_heirIn, .int m_fitsNow, .int m_foundHour, .int m_lookLeft, .int m_firstCatNow]))] H := hP
  have hD : va_D A [(h_m, .inr (11, [.int (0 : Int32), .int r1.2.1, .int r1.2.2, .null, m_read, m_tape, .int m_taped, .int m_size, .int m_spot, .int m_sort, .int m_place, .int m_number, .int m_fault, .int m_wrongAt, .long m_word, .int m_askedOf, m_v, m_x, m_past, m_kept, .int m_acts, .int m_images, m_heir, m_then, .int m_catGets, .long m_whole, .long m_bestSum, m_come, m_comeThen, .int m_tourHoursNow, m_hour, m_partIn, m_heirIn, .int m_fitsNow, .int m_foundHour, .int m_lookLeft, .int m_firstCatNow]))] := hD
  have hM := Option.some.inj hM
  subst hM
  exact W.iret (v := r1.1) hx hb hr (fun t ht hW => ⟨⟨r1.1, (), rfl, rfl, by rw [ht]; exact hP, hD⟩, hS.F ht⟩) hS.2.2 dX7_lookLeaves_17

set_option maxHeartbeats 40000000 in
set_option maxRecDepth 100000 in
theorem ctX1_judgeN (l : Launch) (D : va_G) (dA : Nat → ClassId) (sz : Nat) (h_o : Nat) (o_taped : Int32) (o_trouble : Int32) (o_fault : Int32) (o_where : Int32) (o_imageMany : Int32) (o_undoMany : Int32) (o_firstRest : Int32) (o_catAt : Int32) (o_tape : Value) (o_scanner : Value) (o_town : Value) (o_was : Value) (o_trial : Value) (o_night : Value) (o_plans : Value) (o_undone : Value) (o_images : Value) (o_often : Value) (o_next : Value) (res : (Int32 × Int32 × Int32)) (hM : MX1_judgeN  = some res) : Met l yX1_judge (ws_ yX1_judge cX1_judge 1 (some .int)) ({ frames := 1, cells := 0, slots := 0, locals := 21 }) (pre_ D dA [.ref h_o] [(h_o, .inr (0, [o_tape, .int o_taped, o_scanner, .null, .int o_trouble, .int o_fault, .int o_where, .int o_imageMany, .int o_undoMany, o_town, o_was, o_trial, o_night, o_plans, o_undone, o_images, o_often, .int o_firstRest, o_next, .int o_catAt]))] sz) (qi_ D res.1 (fun (u : Unit) => [(h_o, .inr (0, [o_tape, .int o_taped, o_scanner, .null, .int res.2.1, .int o_fault, .int res.2.2, .int o_imageMany, .int o_undoMany, o_town, o_was, o_trial, o_night, o_plans, o_undone, o_images, o_often, .int o_firstRest, o_next, .int o_catAt]))]) (va_A [(h_o, .inr (0, [o_tape, .int o_taped, o_scanner, .null, .int o_trouble, .int o_fault, .int o_where, .int o_imageMany, .int o_undoMany, o_town, o_was, o_trial, o_night, o_plans, o_undone, o_images, o_often, .int o_firstRest, o_next, .int o_catAt]))] sz)) 0 0 (va_A [(h_o, .inr (0, [o_tape, .int o_taped, o_scanner, .null, .int o_trouble, .int o_fault, .int o_where, .int o_imageMany, .int o_undoMany, o_town, o_was, o_trial, o_night, o_plans, o_undone, o_images, o_often, .int o_firstRest, o_next, .int o_catAt]))] sz) := by
  refine Met.ofW (cc := cX1_judge) (maxL := 1) (ret := (some .int)) (by decide) rfl ?_
  intro p e s m args below meth c s₁ B hml hv
  obtain ⟨rfl, hsz, hP, hK, hD0⟩ := hv
  have hx := B.exec
  have hb := B.bytes
  have hr := B.returns
  have hts := atoms_spec (ws := (ws_ yX1_judge cX1_judge 1 (some .int))) B.pre
  have hts : ∀ w ∈ lw_all, w.before _ s = true := fun w h => hts w (List.mem_cons_of_mem _ h)
  have hown : s.vm.findClass RX1 = some m.cls := findClass_of_methodNamed B.named
  have hlocks := B.notSynchronized
  subst hsz
  have hD := hD0.self (sz := s.heap.size)
  generalize hAe : va_A [(h_o, .inr (0, [o_tape, .int o_taped, o_scanner, .null, .int o_trouble, .int o_fault, .int o_where, .int o_imageMany, .int o_undoMany, o_town, o_was, o_trial, o_night, o_plans, o_undone, o_images, o_often, .int o_firstRest, o_next, .int o_catAt]))] s.heap.size = A at hD ⊢
  have hA : ∀ q : Nat, s.heap.size ≤ q → A q := fun q h => by rw [← hAe]; exact Or.inr h
  have hS : va_S A s.heap s.heap [] := va_S.rf
  have hP : va_P D clG [(h_o, .inr (0, [o_tape, .int o_taped, o_scanner, .null, .int o_trouble, .int o_fault, .int o_where, .int o_imageMany, .int o_undoMany, o_town, o_was, o_trial, o_night, o_plans, o_undone, o_images, o_often, .int o_firstRest, o_next, .int o_catAt]))] s.heap := hP
  have hl := lv_entry ([.ref h_o]) (n := 1) (Nat.le_of_ble_eq_true rfl)
  rw [lg_entry_eq]
  generalize (lg_sl ([.ref h_o]) ++ List.replicate (1 - (lg_sl ([.ref h_o])).length) Slot.unset).toArray = ls at hl ⊢
  have hl : lv_has ls 1 [(0, .ref h_o)] := hl
  unfold MX1_judgeN at hM
  refine lv_aload_n hx hb dX1_judge_0 rfl (lv_at hl 0 rfl) ?_
  obtain ⟨r1, er1, hM⟩ := b_inv hM
  refine k_v0 [0] (va_runV (As := []) (rest := []) ⟨hx, hb, hml, hown, hts⟩ (ctX1_anew l D dA _ h_o o_taped o_trouble o_fault o_where o_imageMany o_undoMany o_firstRest o_catAt (o_tape) (o_scanner) (.null) (o_town) (o_was) (o_trial) (o_night) (o_plans) (o_undone) (o_images) (o_often) (o_next) r1 er1) (cwV 0 hts (lw_V q432 q434 qs2 q113 q435) rfl rfl rfl (by decide +kernel) ⟨Nat.le_of_ble_eq_true rfl, Nat.le_of_ble_eq_true rfl⟩) (pre_V (hP.sub [0] rfl) hK (hD.sub [0] (by decide) rfl) (ci := 0) (q0 := 0) rfl rfl) rfl rfl hl.1 rfl (lv_room (Nat.le_of_ble_eq_true rfl)) dX1_judge_1 ⟨Nat.le_of_ble_eq_true rfl, Nat.le_of_ble_eq_true rfl⟩) hP hD hS hA rfl (fun _ => rfl) (fun u2 H locs hP hD hS => ?_)
  have hP : va_P D clG [(h_o, .inr (0, [o_tape, .int o_taped, o_scanner, .null, .int r1.1, .int o_fault, .int r1.2, .int o_imageMany, .int o_undoMany, o_town, o_was, o_trial, o_night, o_plans, o_undone, o_images, o_often, .int o_firstRest, o_next, .int o_catAt]))] H := hP
  have hD : va_D A [(h_o, .inr (0, [o_tape, .int o_taped, o_scanner, .null, .int r1.1, .int o_fault, .int r1.2, .int o_imageMany, .int o_undoMany, o_town, o_was, o_trial, o_night, o_plans, o_undone, o_images, o_often, .int o_firstRest, o_next, .int o_catAt]))] := hD
  refine lv_aload_n hx hb dX1_judge_4 rfl (lv_at hl 0 rfl) ?_
  refine va_get (D := D) (ci := 0) (v := .null) (C := RX1) (T := TX1) (N := 20) hx hb hts in_X1 hown hK.1 hP 0 rfl rfl 3 (by decide) (hts _ q361) (fun _ h9 => h9) rfl dX1_judge_5 ?_
  refine lv_ifnonnullN hx hb dX1_judge_8 ?_
  refine lv_aload_n hx hb dX1_judge_11 rfl (lv_at hl 0 rfl) ?_
  refine lv_iconst (v := (1 : Int32)) hx hb dX1_judge_12 (by decide) ?_
  obtain ⟨r3, er3, hM⟩ := b_inv hM
  refine k_i0 [0] (va_runV (As := [.int (1 : Int32)]) (rest := []) ⟨hx, hb, hml, hown, hts⟩ (ctX1_no l D dA _ h_o (1 : Int32) o_taped r1.1 o_fault r1.2 o_imageMany o_undoMany o_firstRest o_catAt (o_tape) (o_scanner) (.null) (o_town) (o_was) (o_trial) (o_night) (o_plans) (o_undone) (o_images) (o_often) (o_next) r3 er3) (cwV 1 hts (lw_V q439 q441 qs3 q113 q442) rfl rfl rfl (by decide +kernel) ⟨Nat.le_of_ble_eq_true rfl, Nat.le_of_ble_eq_true rfl⟩) (pre_V (hP.sub [0] rfl) hK (hD.sub [0] (by decide) rfl) (ci := 0) (q0 := 0) rfl rfl) rfl rfl hl.1 rfl (lv_room (Nat.le_of_ble_eq_true rfl)) dX1_judge_13 ⟨Nat.le_of_ble_eq_true rfl, Nat.le_of_ble_eq_true rfl⟩) hP hD hS hA rfl (fun _ => rfl) (fun u4 H locs hP hD hS => ?_)
  have hP : va_P D clG [(h_o, .inr (0, [o_tape, .int o_taped, o_scanner, .null, .int r3.2, .int o_fault, .int r1.2, .int o_imageMany, .int o_undoMany, o_town, o_was, o_trial, o_night, o_plans, o_undone, o_images, o_often, .int o_firstRest, o_next, .int o_catAt]))] H := hP
  have hD : va_D A [(h_o, .inr (0, [o_tape, .int o_taped, o_scanner, .null, .int r3.2, .int o_fault, .int r1.2, .int o_imageMany, .int o_undoMany, o_town, o_was, o_trial, o_night, o_plans, o_undone, o_images, o_often, .int o_firstRest, o_next, .int o_catAt]))] := hD
  have hM := Option.some.inj hM
  subst hM
  exact W.iret (v := r3.1) hx hb hr (fun t ht hW => ⟨⟨r3.1, (), rfl, rfl, by rw [ht]; exact hP, hD⟩, hS.F ht⟩) hS.2.2 dX1_judge_16

set_option maxHeartbeats 40000000 in
set_option maxRecDepth 100000 in
theorem ctX7_judgeN (l : Launch) (D : va_G) (dA : Nat → ClassId) (sz : Nat) (h_m : Nat) (m_thrown : Int32) (m_trouble : Int32) (m_where : Int32) (m_taped : Int32) (m_size : Int32) (m_spot : Int32) (m_sort : Int32) (m_place : Int32) (m_number : Int32) (m_fault : Int32) (m_wrongAt : Int32) (m_word : Int64) (m_askedOf : Int32) (m_acts : Int32) (m_images : Int32) (m_catGets : Int32) (m_whole : Int64) (m_bestSum : Int64) (m_tourHoursNow : Int32) (m_fitsNow : Int32) (m_foundHour : Int32) (m_lookLeft : Int32) (m_firstCatNow : Int32) (m_read : Value) (m_tape : Value) (m_v : Value) (m_x : Value) (m_past : Value) (m_kept : Value) (m_heir : Value) (m_then : Value) (m_come : Value) (m_comeThen : Value) (m_hour : Value) (m_partIn : Value) (m_heirIn : Value) (res : (Int32 × Int32 × Int32 × Int32)) (hM : MX7_judgeN  = some res) : Met l yX7_judge (ws_ yX7_judge cX7_judge 1 (some .int)) ({ frames := 1, cells := 0, slots := 0, locals := 21 }) (pre_ D dA [.ref h_m] [(h_m, .inr (11, [.int m_thrown, .int m_trouble, .int m_where, .null, m_read, m_tape, .int m_taped, .int m_size, .int m_spot, .int m_sort, .int m_place, .int m_number, .int m_fault, .int m_wrongAt, .long m_word, .int m_askedOf, m_v, m_x, m_past, m_kept, .int m_acts, .int m_images, m_heir, m_then, .int m_catGets, .long m_whole, .long m_bestSum, m_come, m_comeThen, .int m_tourHoursNow, m_hour, m_partIn, m_heirIn, .int m_fitsNow, .int m_foundHour, .int m_lookLeft, .int m_firstCatNow]))] sz) (qi_ D res.1 (fun (u : Unit) => [(h_m, .inr (11, [.int res.2.1, .int res.2.2.1, .int res.2.2.2, .null, m_read, m_tape, .int m_taped, .int m_size, .int m_spot, .int m_sort, .int m_place, .int m_number, .int m_fault, .int m_wrongAt, .long m_word, .int m_askedOf, m_v, m_x, m_past, m_kept, .int m_acts, .int m_images, m_heir, m_then, .int m_catGets, .long m_whole, .long m_bestSum, m_come, m_comeThen, .int m_tourHoursNow, m_hour, m_partIn, m_heirIn, .int m_fitsNow, .int m_foundHour, .int m_lookLeft, .int m_firstCatNow]))]) (va_A [(h_m, .inr (11, [.int m_thrown, .int m_trouble, .int m_where, .null, m_read, m_tape, .int m_taped, .int m_size, .int m_spot, .int m_sort, .int m_place, .int m_number, .int m_fault, .int m_wrongAt, .long m_word, .int m_askedOf, m_v, m_x, m_past, m_kept, .int m_acts, .int m_images, m_heir, m_then, .int m_catGets, .long m_whole, .long m_bestSum, m_come, m_comeThen, .int m_tourHoursNow, m_hour, m_partIn, m_heirIn, .int m_fitsNow, .int m_foundHour, .int m_lookLeft, .int m_firstCatNow]))] sz)) 0 0 (va_A [(h_m, .inr (11, [.int m_thrown, .int m_trouble, .int m_where, .null, m_read, m_tape, .int m_taped, .int m_size, .int m_spot, .int m_sort, .int m_place, .int m_number, .int m_fault, .int m_wrongAt, .long m_word, .int m_askedOf, m_v, m_x, m_past, m_kept, .int m_acts, .int m_images, m_heir, m_then, .int m_catGets, .long m_whole, .long m_bestSum, m_come, m_comeThen, .int m_tourHoursNow, m_hour, m_partIn, m_heirIn, .int m_fitsNow, .int m_foundHour, .int m_lookLeft, .int m_firstCatNow]))] sz) := by
  refine Met.ofW (cc := cX7_judge) (maxL := 1) (ret := (some .int)) (by decide) rfl ?_
  intro p e s m args below meth c s₁ B hml hv
  obtain ⟨rfl, hsz, hP, hK, hD0⟩ := hv
  have hx := B.exec
  have hb := B.bytes
  have hr := B.returns
  have hts := atoms_spec (ws := (ws_ yX7_judge cX7_judge 1 (some .int))) B.pre
  have hts : ∀ w ∈ lw_all, w.before _ s = true := fun w h => hts w (List.mem_cons_of_mem _ h)
  have hown : s.vm.findClass RX7 = some m.cls := findClass_of_methodNamed B.named
  have hlocks := B.notSynchronized
  subst hsz
  have hD := hD0.self (sz := s.heap.size)
  generalize hAe : va_A [(h_m, .inr (11, [.int m_thrown, .int m_trouble, .int m_where, .null, m_read, m_tape, .int m_taped, .int m_size, .int m_spot, .int m_sort, .int m_place, .int m_number, .int m_fault, .int m_wrongAt, .long m_word, .int m_askedOf, m_v, m_x, m_past, m_kept, .int m_acts, .int m_images, m_heir, m_then, .int m_catGets, .long m_whole, .long m_bestSum, m_come, m_comeThen, .int m_tourHoursNow, m_hour, m_partIn, m_heirIn, .int m_fitsNow, .int m_foundHour, .int m_lookLeft, .int m_firstCatNow]))] s.heap.size = A at hD ⊢
  have hA : ∀ q : Nat, s.heap.size ≤ q → A q := fun q h => by rw [← hAe]; exact Or.inr h
  have hS : va_S A s.heap s.heap [] := va_S.rf
  have hP : va_P D clG [(h_m, .inr (11, [.int m_thrown, .int m_trouble, .int m_where, .null, m_read, m_tape, .int m_taped, .int m_size, .int m_spot, .int m_sort, .int m_place, .int m_number, .int m_fault, .int m_wrongAt, .long m_word, .int m_askedOf, m_v, m_x, m_past, m_kept, .int m_acts, .int m_images, m_heir, m_then, .int m_catGets, .long m_whole, .long m_bestSum, m_come, m_comeThen, .int m_tourHoursNow, m_hour, m_partIn, m_heirIn, .int m_fitsNow, .int m_foundHour, .int m_lookLeft, .int m_firstCatNow]))] s.heap := hP
  have hl := lv_entry ([.ref h_m]) (n := 1) (Nat.le_of_ble_eq_true rfl)
  rw [lg_entry_eq]
  generalize (lg_sl ([.ref h_m]) ++ List.replicate (1 - (lg_sl ([.ref h_m])).length) Slot.unset).toArray = ls at hl ⊢
  have hl : lv_has ls 1 [(0, .ref h_m)] := hl
  unfold MX7_judgeN at hM
  refine lv_aload_n hx hb dX7_judge_0 rfl (lv_at hl 0 rfl) ?_
  refine lv_iconst (v := (0 : Int32)) hx hb dX7_judge_1 (by decide) ?_
  refine va_put (D := D) (ci := 11) (v := .int (0 : Int32)) (ty := .int) (C := RX7) (T := TX7) (N := 37) hx hb hts in_X7 tyX7 tyX7_ok nmX7 hown hK.1 hP hD hS 0 rfl rfl 0 (by decide) (hts _ q1372) (fun _ h9 => h9) rfl (by decide +kernel) rfl rfl (Nat.le_of_ble_eq_true rfl) dX7_judge_2 (fun H locs hP hD hS => ?_)
  have hP : va_P D clG [(h_m, .inr (11, [.int (0 : Int32), .int m_trouble, .int m_where, .null, m_read, m_tape, .int m_taped, .int m_size, .int m_spot, .int m_sort, .int m_place, .int m_number, .int m_fault, .int m_wrongAt, .long m_word, .int m_askedOf, m_v, m_x, m_past, m_kept, .int m_acts, .int m_images, m_heir, m_then, .int m_catGets, .long m_whole, .long m_bestSum, m_come, m_comeThen, .int m_tourHoursNow, m_hour, m_partIn, m_heirIn, .int m_fitsNow, .int m_foundHour, .int m_lookLeft, .int m_firstCatNow]))] H := hP
  have hD : va_D A [(h_m, .inr (11, [.int (0 : Int32), .int m_trouble, .int m_where, .null, m_read, m_tape, .int m_taped, .int m_size, .int m_spot, .int m_sort, .int m_place, .int m_number, .int m_fault, .int m_wrongAt, .long m_word, .int m_askedOf, m_v, m_x, m_past, m_kept, .int m_acts, .int m_images, m_heir, m_then, .int m_catGets, .long m_whole, .long m_bestSum, m_come, m_comeThen, .int m_tourHoursNow, m_hour, m_partIn, m_heirIn, .int m_fitsNow, .int m_foundHour, .int m_lookLeft, .int m_firstCatNow]))] := hD
  refine lv_aload_n hx hb dX7_judge_5 rfl (lv_at hl 0 rfl) ?_
  refine va_get (D := D) (ci := 11) (v := .null) (C := RX7) (T := TX7) (N := 37) hx hb hts in_X7 hown hK.1 hP 0 rfl rfl 3 (by decide) (hts _ q1375) (fun _ h9 => h9) rfl dX7_judge_6 ?_
  refine lv_ifnonnullN hx hb dX7_judge_9 ?_
  refine lv_aload_n hx hb dX7_judge_12 rfl (lv_at hl 0 rfl) ?_
  refine lv_iconst (v := (1 : Int32)) hx hb dX7_judge_13 (by decide) ?_
  obtain ⟨r1, er1, hM⟩ := b_inv hM
  refine k_i0 [0] (va_runV (As := [.int (1 : Int32)]) (rest := []) ⟨hx, hb, hml, hown, hts⟩ (ctX7_refused l D dA _ h_m (1 : Int32) (0 : Int32) m_trouble m_where m_taped m_size m_spot m_sort m_place m_number m_fault m_wrongAt m_word m_askedOf m_acts m_images m_catGets m_whole m_bestSum m_tourHoursNow m_fitsNow m_foundHour m_lookLeft m_firstCatNow (.null) (m_read) (m_tape) (m_v) (m_x) (m_past) (m_kept) (m_heir) (m_then) (m_come) (m_comeThen) (m_hour) (m_partIn) (m_heirIn) r1 er1) (cwV 1 hts (lw_V q1496 q1498 qs50 q122 q1499) rfl rfl rfl (by decide +kernel) ⟨Nat.le_of_ble_eq_true rfl, Nat.le_of_ble_eq_true rfl⟩) (pre_V (hP.sub [0] rfl) hK (hD.sub [0] (by decide) rfl) (ci := 11) (q0 := 0) rfl rfl) rfl rfl hl.1 rfl (lv_room (Nat.le_of_ble_eq_true rfl)) dX7_judge_14 ⟨Nat.le_of_ble_eq_true rfl, Nat.le_of_ble_eq_true rfl⟩) hP hD hS hA rfl (fun _ => rfl) (fun u2 H locs hP hD hS => ?_)
  have hP : va_P D clG [(h_m, .inr (11, [.int (0 : Int32), .int r1.2.1, .int r1.2.2, .null, m_read, m_tape, .int m_taped, .int m_size, .int m_spot, .int m_sort, .int m_place, .int m_number, .int m_fault, .int m_wrongAt, .long m_word, .int m_askedOf, m_v, m_x, m_past, m_kept, .int m_acts, .int m_images, m_heir, m_then, .int m_catGets, .long m_whole, .long m_bestSum, m_come, m_comeThen, .int m_tourHoursNow, m_hour, m_partIn, m_heirIn, .int m_fitsNow, .int m_foundHour, .int m_lookLeft, .int m_firstCatNow]))] H := hP
  have hD : va_D A [(h_m, .inr (11, [.int (0 : Int32), .int r1.2.1, .int r1.2.2, .null, m_read, m_tape, .int m_taped, .int m_size, .int m_spot, .int m_sort, .int m_place, .int m_number, .int m_fault, .int m_wrongAt, .long m_word, .int m_askedOf, m_v, m_x, m_past, m_kept, .int m_acts, .int m_images, m_heir, m_then, .int m_catGets, .long m_whole, .long m_bestSum, m_come, m_comeThen, .int m_tourHoursNow, m_hour, m_partIn, m_heirIn, .int m_fitsNow, .int m_foundHour, .int m_lookLeft, .int m_firstCatNow]))] := hD
  have hM := Option.some.inj hM
  subst hM
  exact W.iret (v := r1.1) hx hb hr (fun t ht hW => ⟨⟨r1.1, (), rfl, rfl, by rw [ht]; exact hP, hD⟩, hS.F ht⟩) hS.2.2 dX7_judge_17

set_option maxHeartbeats 40000000 in
set_option maxRecDepth 100000 in
theorem ctX1_begsN (l : Launch) (D : va_G) (dA : Nat → ClassId) (sz : Nat) (h_o : Nat) (p0 : Int32) (p1 : Bool) (p2 : Bool) (p3 : Bool) (o_taped : Int32) (o_trouble : Int32) (o_fault : Int32) (o_where : Int32) (o_imageMany : Int32) (o_undoMany : Int32) (o_firstRest : Int32) (o_catAt : Int32) (o_tape : Value) (o_scanner : Value) (o_town : Value) (o_was : Value) (o_trial : Value) (o_night : Value) (o_plans : Value) (o_undone : Value) (o_images : Value) (o_often : Value) (o_next : Value) (res : (Int32 × Int32 × Int32)) (hM : MX1_begsN p0 = some res) : Met l yX1_begs (ws_ yX1_begs cX1_begs 5 (some .int)) ({ frames := 1, cells := 0, slots := 0, locals := 22 }) (pre_ D dA [.ref h_o, .int p0, .int (b2i p1), .int (b2i p2), .int (b2i p3)] [(h_o, .inr (0, [o_tape, .int o_taped, o_scanner, .null, .int o_trouble, .int o_fault, .int o_where, .int o_imageMany, .int o_undoMany, o_town, o_was, o_trial, o_night, o_plans, o_undone, o_images, o_often, .int o_firstRest, o_next, .int o_catAt]))] sz) (qi_ D res.1 (fun (u : Unit) => [(h_o, .inr (0, [o_tape, .int o_taped, o_scanner, .null, .int res.2.1, .int o_fault, .int res.2.2, .int o_imageMany, .int o_undoMany, o_town, o_was, o_trial, o_night, o_plans, o_undone, o_images, o_often, .int o_firstRest, o_next, .int o_catAt]))]) (va_A [(h_o, .inr (0, [o_tape, .int o_taped, o_scanner, .null, .int o_trouble, .int o_fault, .int o_where, .int o_imageMany, .int o_undoMany, o_town, o_was, o_trial, o_night, o_plans, o_undone, o_images, o_often, .int o_firstRest, o_next, .int o_catAt]))] sz)) 0 0 (va_A [(h_o, .inr (0, [o_tape, .int o_taped, o_scanner, .null, .int o_trouble, .int o_fault, .int o_where, .int o_imageMany, .int o_undoMany, o_town, o_was, o_trial, o_night, o_plans, o_undone, o_images, o_often, .int o_firstRest, o_next, .int o_catAt]))] sz) := by
  refine Met.ofW (cc := cX1_begs) (maxL := 5) (ret := (some .int)) (by decide) rfl ?_
  intro p e s m args below meth c s₁ B hml hv
  obtain ⟨rfl, hsz, hP, hK, hD0⟩ := hv
  have hx := B.exec
  have hb := B.bytes
  have hr := B.returns
  have hts := atoms_spec (ws := (ws_ yX1_begs cX1_begs 5 (some .int))) B.pre
  have hts : ∀ w ∈ lw_all, w.before _ s = true := fun w h => hts w (List.mem_cons_of_mem _ h)
  have hown : s.vm.findClass RX1 = some m.cls := findClass_of_methodNamed B.named
  have hlocks := B.notSynchronized
  subst hsz
  have hD := hD0.self (sz := s.heap.size)
  generalize hAe : va_A [(h_o, .inr (0, [o_tape, .int o_taped, o_scanner, .null, .int o_trouble, .int o_fault, .int o_where, .int o_imageMany, .int o_undoMany, o_town, o_was, o_trial, o_night, o_plans, o_undone, o_images, o_often, .int o_firstRest, o_next, .int o_catAt]))] s.heap.size = A at hD ⊢
  have hA : ∀ q : Nat, s.heap.size ≤ q → A q := fun q h => by rw [← hAe]; exact Or.inr h
  have hS : va_S A s.heap s.heap [] := va_S.rf
  have hP : va_P D clG [(h_o, .inr (0, [o_tape, .int o_taped, o_scanner, .null, .int o_trouble, .int o_fault, .int o_where, .int o_imageMany, .int o_undoMany, o_town, o_was, o_trial, o_night, o_plans, o_undone, o_images, o_often, .int o_firstRest, o_next, .int o_catAt]))] s.heap := hP
  have hl := lv_entry ([.ref h_o, .int p0, .int (b2i p1), .int (b2i p2), .int (b2i p3)]) (n := 5) (Nat.le_of_ble_eq_true rfl)
  rw [lg_entry_eq]
  generalize (lg_sl ([.ref h_o, .int p0, .int (b2i p1), .int (b2i p2), .int (b2i p3)]) ++ List.replicate (5 - (lg_sl ([.ref h_o, .int p0, .int (b2i p1), .int (b2i p2), .int (b2i p3)])).length) Slot.unset).toArray = ls at hl ⊢
  have hl : lv_has ls 5 [(0, .ref h_o), (1, .int p0), (2, .int (b2i p1)), (3, .int (b2i p2)), (4, .int (b2i p3))] := hl
  unfold MX1_begsN at hM
  refine lv_aload_n hx hb dX1_begs_0 rfl (lv_at hl 0 rfl) ?_
  obtain ⟨r1, er1, hM⟩ := b_inv hM
  refine k_v0 [0] (va_runV (As := []) (rest := []) ⟨hx, hb, hml, hown, hts⟩ (ctX1_anew l D dA _ h_o o_taped o_trouble o_fault o_where o_imageMany o_undoMany o_firstRest o_catAt (o_tape) (o_scanner) (.null) (o_town) (o_was) (o_trial) (o_night) (o_plans) (o_undone) (o_images) (o_often) (o_next) r1 er1) (cwV 0 hts (lw_V q432 q434 qs2 q113 q435) rfl rfl rfl (by decide +kernel) ⟨Nat.le_of_ble_eq_true rfl, Nat.le_of_ble_eq_true rfl⟩) (pre_V (hP.sub [0] rfl) hK (hD.sub [0] (by decide) rfl) (ci := 0) (q0 := 0) rfl rfl) rfl rfl hl.1 rfl (lv_room (Nat.le_of_ble_eq_true rfl)) dX1_begs_1 ⟨Nat.le_of_ble_eq_true rfl, Nat.le_of_ble_eq_true rfl⟩) hP hD hS hA rfl (fun _ => rfl) (fun u2 H locs hP hD hS => ?_)
  have hP : va_P D clG [(h_o, .inr (0, [o_tape, .int o_taped, o_scanner, .null, .int r1.1, .int o_fault, .int r1.2, .int o_imageMany, .int o_undoMany, o_town, o_was, o_trial, o_night, o_plans, o_undone, o_images, o_often, .int o_firstRest, o_next, .int o_catAt]))] H := hP
  have hD : va_D A [(h_o, .inr (0, [o_tape, .int o_taped, o_scanner, .null, .int r1.1, .int o_fault, .int r1.2, .int o_imageMany, .int o_undoMany, o_town, o_was, o_trial, o_night, o_plans, o_undone, o_images, o_often, .int o_firstRest, o_next, .int o_catAt]))] := hD
  refine lv_aload_n hx hb dX1_begs_4 rfl (lv_at hl 0 rfl) ?_
  refine lv_aload_n hx hb dX1_begs_5 rfl (lv_at hl 0 rfl) ?_
  refine lv_aload_n hx hb dX1_begs_6 rfl (lv_at hl 0 rfl) ?_
  refine va_get (D := D) (ci := 0) (v := .null) (C := RX1) (T := TX1) (N := 20) hx hb hts in_X1 hown hK.1 hP 0 rfl rfl 3 (by decide) (hts _ q361) (fun _ h9 => h9) rfl dX1_begs_7 ?_
  refine lv_ifnullN (tgt := 17) hx hb dX1_begs_10 (by decide) ?_
  refine lv_iconst (v := (0 : Int32)) hx hb dX1_begs_17 (by decide) ?_
  refine lv_iload_n hx hb dX1_begs_18 rfl (lv_at hl 1 rfl) ?_
  refine lv_iconst (v := (0 : Int32)) hx hb dX1_begs_19 (by decide) ?_
  refine lv_bipush (v := (9 : Int32)) hx hb dX1_begs_20 (by decide) ?_
  obtain ⟨r3, er3, hM⟩ := b_inv hM
  refine k_i0 [] (va_runS (As := [.int p0, .int (0 : Int32), .int (9 : Int32)]) (rest := [.int (0 : Int32), .ref h_o, .ref h_o]) ⟨hx, hb, hml, hown, hts⟩ (ctX1_in l D dA _ p0 (0 : Int32) (9 : Int32) r3 er3) (va_cwS 3 hts (lw_S q436 q437 q113 q438) rfl rfl rfl (by decide +kernel) ⟨Nat.le_of_ble_eq_true rfl, Nat.le_of_ble_eq_true rfl⟩) (pre_S (hP.sub [] rfl) hK (hD.sub [] (by decide) rfl)) rfl rfl hl.1 rfl (lv_room (Nat.le_of_ble_eq_true rfl)) dX1_begs_22 ⟨Nat.le_of_ble_eq_true rfl, Nat.le_of_ble_eq_true rfl⟩) hP hD hS hA rfl (fun _ => rfl) (fun u4 H locs hP hD hS => ?_)
  have hP : va_P D clG [(h_o, .inr (0, [o_tape, .int o_taped, o_scanner, .null, .int r1.1, .int o_fault, .int r1.2, .int o_imageMany, .int o_undoMany, o_town, o_was, o_trial, o_night, o_plans, o_undone, o_images, o_often, .int o_firstRest, o_next, .int o_catAt]))] H := hP
  have hD : va_D A [(h_o, .inr (0, [o_tape, .int o_taped, o_scanner, .null, .int r1.1, .int o_fault, .int r1.2, .int o_imageMany, .int o_undoMany, o_town, o_was, o_trial, o_night, o_plans, o_undone, o_images, o_often, .int o_firstRest, o_next, .int o_catAt]))] := hD
  obtain ⟨r5, er5, hM⟩ := b_inv hM
  refine k_i0 [0] (va_runV (As := [.int (0 : Int32), .int (b2i r3)]) (rest := [.ref h_o]) ⟨hx, hb, hml, hown, hts⟩ (ctX1_numberWhy l D dA _ h_o false r3 o_taped r1.1 o_fault r1.2 o_imageMany o_undoMany o_firstRest o_catAt (o_tape) (o_scanner) (.null) (o_town) (o_was) (o_trial) (o_night) (o_plans) (o_undone) (o_images) (o_often) (o_next) r5 er5) (cwV 2 hts (lw_V q1022 q1024 qs31 q113 q1025) rfl rfl rfl (by decide +kernel) ⟨Nat.le_of_ble_eq_true rfl, Nat.le_of_ble_eq_true rfl⟩) (pre_V (hP.sub [0] rfl) hK (hD.sub [0] (by decide) rfl) (ci := 0) (q0 := 0) rfl rfl) rfl rfl hl.1 rfl (lv_room (Nat.le_of_ble_eq_true rfl)) dX1_begs_25 ⟨Nat.le_of_ble_eq_true rfl, Nat.le_of_ble_eq_true rfl⟩) hP hD hS hA rfl (fun _ => rfl) (fun u6 H locs hP hD hS => ?_)
  have hP : va_P D clG [(h_o, .inr (0, [o_tape, .int o_taped, o_scanner, .null, .int r1.1, .int o_fault, .int r1.2, .int o_imageMany, .int o_undoMany, o_town, o_was, o_trial, o_night, o_plans, o_undone, o_images, o_often, .int o_firstRest, o_next, .int o_catAt]))] H := hP
  have hD : va_D A [(h_o, .inr (0, [o_tape, .int o_taped, o_scanner, .null, .int r1.1, .int o_fault, .int r1.2, .int o_imageMany, .int o_undoMany, o_town, o_was, o_trial, o_night, o_plans, o_undone, o_images, o_often, .int o_firstRest, o_next, .int o_catAt]))] := hD
  have kr5 := knw er5
  refine lv_toi (v := (1 : Int32)) (by rw [kr5]) ?_
  refine va_put (D := D) (ci := 0) (v := .int (1 : Int32)) (ty := .int) (C := RX1) (T := TX1) (N := 20) hx hb hts in_X1 tyX1 tyX1_ok nmX1 hown hK.1 hP hD hS 0 rfl rfl 4 (by decide) (hts _ q362) (fun _ h9 => h9) rfl (by decide +kernel) rfl rfl (Nat.le_of_ble_eq_true rfl) dX1_begs_28 (fun H locs hP hD hS => ?_)
  have hP : va_P D clG [(h_o, .inr (0, [o_tape, .int o_taped, o_scanner, .null, .int (1 : Int32), .int o_fault, .int r1.2, .int o_imageMany, .int o_undoMany, o_town, o_was, o_trial, o_night, o_plans, o_undone, o_images, o_often, .int o_firstRest, o_next, .int o_catAt]))] H := hP
  have hD : va_D A [(h_o, .inr (0, [o_tape, .int o_taped, o_scanner, .null, .int (1 : Int32), .int o_fault, .int r1.2, .int o_imageMany, .int o_undoMany, o_town, o_was, o_trial, o_night, o_plans, o_undone, o_images, o_often, .int o_firstRest, o_next, .int o_catAt]))] := hD
  refine lv_aload_n hx hb dX1_begs_31 rfl (lv_at hl 0 rfl) ?_
  refine va_get (D := D) (ci := 0) (v := .int (1 : Int32)) (C := RX1) (T := TX1) (N := 20) hx hb hts in_X1 hown hK.1 hP 0 rfl rfl 4 (by decide) (hts _ q362) (fun _ h9 => h9) rfl dX1_begs_32 ?_
  refine lv_if_eq (tgt := 43) hx hb dX1_begs_35 (by decide) (fun c7 => absurd c7 (by decide)) (fun _ => ?_)
  refine lv_bipush (v := (-100 : Int32)) hx hb dX1_begs_38 (by decide) ?_
  refine lv_goto (tgt := 62) hx hb dX1_begs_40 (by decide) ?_
  have hM := Option.some.inj hM
  subst hM
  exact W.iret (v := (-100 : Int32)) hx hb hr (fun t ht hW => ⟨⟨(-100 : Int32), (), rfl, rfl, by rw [ht]; exact hP, hD⟩, hS.F ht⟩) hS.2.2 dX1_begs_62
theorem krX1_begsN (p0 : Int32) (res : (Int32 × Int32 × Int32)) (h : MX1_begsN p0 = some res) : res.1 = (-100 : Int32) := by
  unfold MX1_begsN at h
  repeat first | (obtain ⟨_, _, h⟩ := b_inv h) | (split at h)
  all_goals (cases h; rfl)
