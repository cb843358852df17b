set_option maxRecDepth 100000
set_option maxHeartbeats 40000000 in
set_option maxRecDepth 100000 in
theorem ctX7_askN (l : Launch) (D : va_G) (dA : Nat → ClassId) (sz : Nat) (h_m : Nat) (p0 : Int32) (p1 : Int32) (m_thrown : Int32) (m_trouble : Int32) (m_where : Int32) (m_taped : Int32) (m_size : Int32) (m_spot : Int32) (m_sort : Int32) (m_place : Int32) (m_number : Int32) (m_fault : Int32) (m_wrongAt : Int32) (m_word : Int64) (m_askedOf : Int32) (m_acts : Int32) (m_images : Int32) (m_catGets : Int32) (m_whole : Int64) (m_bestSum : Int64) (m_tourHoursNow : Int32) (m_fitsNow : Int32) (m_foundHour : Int32) (m_lookLeft : Int32) (m_firstCatNow : Int32) (m_read : Value) (m_tape : Value) (m_v : Value) (m_x : Value) (m_past : Value) (m_kept : Value) (m_heir : Value) (m_then : Value) (m_come : Value) (m_comeThen : Value) (m_hour : Value) (m_partIn : Value) (m_heirIn : Value) (res : (Int32 × Int32 × Int32 × Int32)) (hM : MX7_askN  = some res) : Met l yX7_ask (ws_ yX7_ask cX7_ask 4 (some .int)) ({ frames := 2, cells := 0, slots := 0, locals := 43 }) (pre_ D dA [.ref h_m, .int p0, .int p1] [(h_m, .inr (11, [.int m_thrown, .int m_trouble, .int m_where, .null, m_read, m_tape, .int m_taped, .int m_size, .int m_spot, .int m_sort, .int m_place, .int m_number, .int m_fault, .int m_wrongAt, .long m_word, .int m_askedOf, m_v, m_x, m_past, m_kept, .int m_acts, .int m_images, m_heir, m_then, .int m_catGets, .long m_whole, .long m_bestSum, m_come, m_comeThen, .int m_tourHoursNow, m_hour, m_partIn, m_heirIn, .int m_fitsNow, .int m_foundHour, .int m_lookLeft, .int m_firstCatNow]))] sz) (qi_ D res.1 (fun (u : Unit) => [(h_m, .inr (11, [.int res.2.1, .int res.2.2.1, .int res.2.2.2, .null, m_read, m_tape, .int m_taped, .int m_size, .int m_spot, .int m_sort, .int m_place, .int m_number, .int m_fault, .int m_wrongAt, .long m_word, .int m_askedOf, m_v, m_x, m_past, m_kept, .int m_acts, .int m_images, m_heir, m_then, .int m_catGets, .long m_whole, .long m_bestSum, m_come, m_comeThen, .int m_tourHoursNow, m_hour, m_partIn, m_heirIn, .int m_fitsNow, .int m_foundHour, .int m_lookLeft, .int m_firstCatNow]))]) (va_A [(h_m, .inr (11, [.int m_thrown, .int m_trouble, .int m_where, .null, m_read, m_tape, .int m_taped, .int m_size, .int m_spot, .int m_sort, .int m_place, .int m_number, .int m_fault, .int m_wrongAt, .long m_word, .int m_askedOf, m_v, m_x, m_past, m_kept, .int m_acts, .int m_images, m_heir, m_then, .int m_catGets, .long m_whole, .long m_bestSum, m_come, m_comeThen, .int m_tourHoursNow, m_hour, m_partIn, m_heirIn, .int m_fitsNow, .int m_foundHour, .int m_lookLeft, .int m_firstCatNow]))] sz)) 0 0 (va_A [(h_m, .inr (11, [.int m_thrown, .int m_trouble, .int m_where, .null, m_read, m_tape, .int m_taped, .int m_size, .int m_spot, .int m_sort, .int m_place, .int m_number, .int m_fault, .int m_wrongAt, .long m_word, .int m_askedOf, m_v, m_x, m_past, m_kept, .int m_acts, .int m_images, m_heir, m_then, .int m_catGets, .long m_whole, .long m_bestSum, m_come, m_comeThen, .int m_tourHoursNow, m_hour, m_partIn, m_heirIn, .int m_fitsNow, .int m_foundHour, .int m_lookLeft, .int m_firstCatNow]))] sz) := by
  refine Met.ofW (cc := cX7_ask) (maxL := 4) (ret := (some .int)) (by decide) rfl ?_
  intro p e s m args below meth c s₁ B hml hv
  obtain ⟨rfl, hsz, hP, hK, hD0⟩ := hv
  have hx := B.exec
  have hb := B.bytes
  have hr := B.returns
  have hts := atoms_spec (ws := (ws_ yX7_ask cX7_ask 4 (some .int))) B.pre
  have hts : ∀ w ∈ lw_all, w.before _ s = true := fun w h => hts w (List.mem_cons_of_mem _ h)
  have hown : s.vm.findClass RX7 = some m.cls := findClass_of_methodNamed B.named
  have hlocks := B.notSynchronized
  subst hsz
  have hD := hD0.self (sz := s.heap.size)
  generalize hAe : va_A [(h_m, .inr (11, [.int m_thrown, .int m_trouble, .int m_where, .null, m_read, m_tape, .int m_taped, .int m_size, .int m_spot, .int m_sort, .int m_place, .int m_number, .int m_fault, .int m_wrongAt, .long m_word, .int m_askedOf, m_v, m_x, m_past, m_kept, .int m_acts, .int m_images, m_heir, m_then, .int m_catGets, .long m_whole, .long m_bestSum, m_come, m_comeThen, .int m_tourHoursNow, m_hour, m_partIn, m_heirIn, .int m_fitsNow, .int m_foundHour, .int m_lookLeft, .int m_firstCatNow]))] s.heap.size = A at hD ⊢
  have hA : ∀ q : Nat, s.heap.size ≤ q → A q := fun q h => by rw [← hAe]; exact Or.inr h
  have hS : va_S A s.heap s.heap [] := va_S.rf
  have hP : va_P D clG [(h_m, .inr (11, [.int m_thrown, .int m_trouble, .int m_where, .null, m_read, m_tape, .int m_taped, .int m_size, .int m_spot, .int m_sort, .int m_place, .int m_number, .int m_fault, .int m_wrongAt, .long m_word, .int m_askedOf, m_v, m_x, m_past, m_kept, .int m_acts, .int m_images, m_heir, m_then, .int m_catGets, .long m_whole, .long m_bestSum, m_come, m_comeThen, .int m_tourHoursNow, m_hour, m_partIn, m_heirIn, .int m_fitsNow, .int m_foundHour, .int m_lookLeft, .int m_firstCatNow]))] s.heap := hP
  have hl := lv_entry ([.ref h_m, .int p0, .int p1]) (n := 4) (Nat.le_of_ble_eq_true rfl)
  rw [lg_entry_eq]
  generalize (lg_sl ([.ref h_m, .int p0, .int p1]) ++ List.replicate (4 - (lg_sl ([.ref h_m, .int p0, .int p1])).length) Slot.unset).toArray = ls at hl ⊢
  have hl : lv_has ls 4 [(0, .ref h_m), (1, .int p0), (2, .int p1)] := hl
  unfold MX7_askN at hM
  refine lv_aload_n hx hb dX7_ask_0 rfl (lv_at hl 0 rfl) ?_
  refine lv_iconst (v := (0 : Int32)) hx hb dX7_ask_1 (by decide) ?_
  refine va_put (D := D) (ci := 11) (v := .int (0 : Int32)) (ty := .int) (C := RX7) (T := TX7) (N := 37) hx hb hts in_X7 tyX7 tyX7_ok nmX7 hown hK.1 hP hD hS 0 rfl rfl 0 (by decide) (hts _ q1372) (fun _ h9 => h9) rfl (by decide +kernel) rfl rfl (Nat.le_of_ble_eq_true rfl) dX7_ask_2 (fun H locs hP hD hS => ?_)
  have hP : va_P D clG [(h_m, .inr (11, [.int (0 : Int32), .int m_trouble, .int m_where, .null, m_read, m_tape, .int m_taped, .int m_size, .int m_spot, .int m_sort, .int m_place, .int m_number, .int m_fault, .int m_wrongAt, .long m_word, .int m_askedOf, m_v, m_x, m_past, m_kept, .int m_acts, .int m_images, m_heir, m_then, .int m_catGets, .long m_whole, .long m_bestSum, m_come, m_comeThen, .int m_tourHoursNow, m_hour, m_partIn, m_heirIn, .int m_fitsNow, .int m_foundHour, .int m_lookLeft, .int m_firstCatNow]))] H := hP
  have hD : va_D A [(h_m, .inr (11, [.int (0 : Int32), .int m_trouble, .int m_where, .null, m_read, m_tape, .int m_taped, .int m_size, .int m_spot, .int m_sort, .int m_place, .int m_number, .int m_fault, .int m_wrongAt, .long m_word, .int m_askedOf, m_v, m_x, m_past, m_kept, .int m_acts, .int m_images, m_heir, m_then, .int m_catGets, .long m_whole, .long m_bestSum, m_come, m_comeThen, .int m_tourHoursNow, m_hour, m_partIn, m_heirIn, .int m_fitsNow, .int m_foundHour, .int m_lookLeft, .int m_firstCatNow]))] := hD
  refine lv_aload_n hx hb dX7_ask_5 rfl (lv_at hl 0 rfl) ?_
  refine lv_iload_n hx hb dX7_ask_6 rfl (lv_at hl 1 rfl) ?_
  refine lv_iload_n hx hb dX7_ask_7 rfl (lv_at hl 2 rfl) ?_
  obtain ⟨r1, er1, hM⟩ := b_inv hM
  refine k_i0 [0] (va_runV (As := [.int p0, .int p1]) (rest := []) ⟨hx, hb, hml, hown, hts⟩ (ctX7_areTwoN l D dA _ h_m p0 p1 (0 : Int32) m_trouble m_where m_taped m_size m_spot m_sort m_place m_number m_fault m_wrongAt m_word m_askedOf m_acts m_images m_catGets m_whole m_bestSum m_tourHoursNow m_fitsNow m_foundHour m_lookLeft m_firstCatNow (m_read) (m_tape) (m_v) (m_x) (m_past) (m_kept) (m_heir) (m_then) (m_come) (m_comeThen) (m_hour) (m_partIn) (m_heirIn) r1 er1) (cwV 2 hts (lw_V q1753 q1755 qs75 q122 q1756) rfl rfl rfl (by decide +kernel) ⟨Nat.le_of_ble_eq_true rfl, Nat.le_of_ble_eq_true rfl⟩) (pre_V (hP.sub [0] rfl) hK (hD.sub [0] (by decide) rfl) (ci := 11) (q0 := 0) rfl rfl) rfl rfl hl.1 rfl (lv_room (Nat.le_of_ble_eq_true rfl)) dX7_ask_8 ⟨Nat.le_of_ble_eq_true rfl, Nat.le_of_ble_eq_true rfl⟩) hP hD hS hA rfl (fun _ => rfl) (fun u2 H locs hP hD hS => ?_)
  have hP : va_P D clG [(h_m, .inr (11, [.int (0 : Int32), .int m_trouble, .int m_where, .null, m_read, m_tape, .int m_taped, .int m_size, .int m_spot, .int m_sort, .int m_place, .int m_number, .int m_fault, .int m_wrongAt, .long m_word, .int m_askedOf, m_v, m_x, m_past, m_kept, .int m_acts, .int m_images, m_heir, m_then, .int m_catGets, .long m_whole, .long m_bestSum, m_come, m_comeThen, .int m_tourHoursNow, m_hour, m_partIn, m_heirIn, .int m_fitsNow, .int m_foundHour, .int m_lookLeft, .int m_firstCatNow]))] H := hP
  have hD : va_D A [(h_m, .inr (11, [.int (0 : Int32), .int m_trouble, .int m_where, .null, m_read, m_tape, .int m_taped, .int m_size, .int m_spot, .int m_sort, .int m_place, .int m_number, .int m_fault, .int m_wrongAt, .long m_word, .int m_askedOf, m_v, m_x, m_past, m_kept, .int m_acts, .int m_images, m_heir, m_then, .int m_catGets, .long m_whole, .long m_bestSum, m_come, m_comeThen, .int m_tourHoursNow, m_hour, m_partIn, m_heirIn, .int m_fitsNow, .int m_foundHour, .int m_lookLeft, .int m_firstCatNow]))] := hD
  have kr1 := krX7_areTwoN _ er1
  refine lv_toi (v := (0 : Int32)) (by rw [kr1]; rfl) ?_
  refine lv_if_ne (tgt := 20) hx hb dX7_ask_11 (by decide) (fun c3 => absurd c3 (by decide)) (fun _ => ?_)
  refine lv_aload_n hx hb dX7_ask_14 rfl (lv_at hl 0 rfl) ?_
  refine lv_iconst (v := (1 : Int32)) hx hb dX7_ask_15 (by decide) ?_
  obtain ⟨r4, er4, hM⟩ := b_inv hM
  refine k_i0 [0] (va_runV (As := [.int (1 : Int32)]) (rest := []) ⟨hx, hb, hml, hown, hts⟩ (ctX7_refused l D dA _ h_m (1 : Int32) (0 : Int32) m_trouble m_where m_taped m_size m_spot m_sort m_place m_number m_fault m_wrongAt m_word m_askedOf m_acts m_images m_catGets m_whole m_bestSum m_tourHoursNow m_fitsNow m_foundHour m_lookLeft m_firstCatNow (.null) (m_read) (m_tape) (m_v) (m_x) (m_past) (m_kept) (m_heir) (m_then) (m_come) (m_comeThen) (m_hour) (m_partIn) (m_heirIn) r4 er4) (cwV 1 hts (lw_V q1496 q1498 qs50 q122 q1499) rfl rfl rfl (by decide +kernel) ⟨Nat.le_of_ble_eq_true rfl, Nat.le_of_ble_eq_true rfl⟩) (pre_V (hP.sub [0] rfl) hK (hD.sub [0] (by decide) rfl) (ci := 11) (q0 := 0) rfl rfl) rfl rfl hl.1 rfl (lv_room (Nat.le_of_ble_eq_true rfl)) dX7_ask_16 ⟨Nat.le_of_ble_eq_true rfl, Nat.le_of_ble_eq_true rfl⟩) hP hD hS hA rfl (fun _ => rfl) (fun u5 H locs hP hD hS => ?_)
  have hP : va_P D clG [(h_m, .inr (11, [.int (0 : Int32), .int r4.2.1, .int r4.2.2, .null, m_read, m_tape, .int m_taped, .int m_size, .int m_spot, .int m_sort, .int m_place, .int m_number, .int m_fault, .int m_wrongAt, .long m_word, .int m_askedOf, m_v, m_x, m_past, m_kept, .int m_acts, .int m_images, m_heir, m_then, .int m_catGets, .long m_whole, .long m_bestSum, m_come, m_comeThen, .int m_tourHoursNow, m_hour, m_partIn, m_heirIn, .int m_fitsNow, .int m_foundHour, .int m_lookLeft, .int m_firstCatNow]))] H := hP
  have hD : va_D A [(h_m, .inr (11, [.int (0 : Int32), .int r4.2.1, .int r4.2.2, .null, m_read, m_tape, .int m_taped, .int m_size, .int m_spot, .int m_sort, .int m_place, .int m_number, .int m_fault, .int m_wrongAt, .long m_word, .int m_askedOf, m_v, m_x, m_past, m_kept, .int m_acts, .int m_images, m_heir, m_then, .int m_catGets, .long m_whole, .long m_bestSum, m_come, m_comeThen, .int m_tourHoursNow, m_hour, m_partIn, m_heirIn, .int m_fitsNow, .int m_foundHour, .int m_lookLeft, .int m_firstCatNow]))] := hD
  have hM := Option.some.inj hM
  subst hM
  exact W.iret (v := r4.1) hx hb hr (fun t ht hW => ⟨⟨r4.1, (), rfl, rfl, by rw [ht]; exact hP, hD⟩, hS.F ht⟩) hS.2.2 dX7_ask_19

set_option maxHeartbeats 40000000 in
set_option maxRecDepth 100000 in
theorem ctX1_dieN (l : Launch) (D : va_G) (dA : Nat → ClassId) (sz : Nat) (h_o : Nat) (p0 : Int32) (o_taped : Int32) (o_trouble : Int32) (o_fault : Int32) (o_where : Int32) (o_imageMany : Int32) (o_undoMany : Int32) (o_firstRest : Int32) (o_catAt : Int32) (o_tape : Value) (o_scanner : Value) (o_town : Value) (o_was : Value) (o_trial : Value) (o_night : Value) (o_plans : Value) (o_undone : Value) (o_images : Value) (o_often : Value) (o_next : Value) (res : (Int32 × Int32 × Int32)) (hM : MX1_dieN  = some res) : Met l yX1_die (ws_ yX1_die cX1_die 4 (some .int)) ({ frames := 2, cells := 0, slots := 0, locals := 42 }) (pre_ D dA [.ref h_o, .int p0] [(h_o, .inr (0, [o_tape, .int o_taped, o_scanner, .null, .int o_trouble, .int o_fault, .int o_where, .int o_imageMany, .int o_undoMany, o_town, o_was, o_trial, o_night, o_plans, o_undone, o_images, o_often, .int o_firstRest, o_next, .int o_catAt]))] sz) (qi_ D res.1 (fun (u : Unit) => [(h_o, .inr (0, [o_tape, .int o_taped, o_scanner, .null, .int res.2.1, .int o_fault, .int res.2.2, .int o_imageMany, .int o_undoMany, o_town, o_was, o_trial, o_night, o_plans, o_undone, o_images, o_often, .int o_firstRest, o_next, .int o_catAt]))]) (va_A [(h_o, .inr (0, [o_tape, .int o_taped, o_scanner, .null, .int o_trouble, .int o_fault, .int o_where, .int o_imageMany, .int o_undoMany, o_town, o_was, o_trial, o_night, o_plans, o_undone, o_images, o_often, .int o_firstRest, o_next, .int o_catAt]))] sz)) 0 0 (va_A [(h_o, .inr (0, [o_tape, .int o_taped, o_scanner, .null, .int o_trouble, .int o_fault, .int o_where, .int o_imageMany, .int o_undoMany, o_town, o_was, o_trial, o_night, o_plans, o_undone, o_images, o_often, .int o_firstRest, o_next, .int o_catAt]))] sz) := by
  refine Met.ofW (cc := cX1_die) (maxL := 4) (ret := (some .int)) (by decide) rfl ?_
  intro p e s m args below meth c s₁ B hml hv
  obtain ⟨rfl, hsz, hP, hK, hD0⟩ := hv
  have hx := B.exec
  have hb := B.bytes
  have hr := B.returns
  have hts := atoms_spec (ws := (ws_ yX1_die cX1_die 4 (some .int))) B.pre
  have hts : ∀ w ∈ lw_all, w.before _ s = true := fun w h => hts w (List.mem_cons_of_mem _ h)
  have hown : s.vm.findClass RX1 = some m.cls := findClass_of_methodNamed B.named
  have hlocks := B.notSynchronized
  subst hsz
  have hD := hD0.self (sz := s.heap.size)
  generalize hAe : va_A [(h_o, .inr (0, [o_tape, .int o_taped, o_scanner, .null, .int o_trouble, .int o_fault, .int o_where, .int o_imageMany, .int o_undoMany, o_town, o_was, o_trial, o_night, o_plans, o_undone, o_images, o_often, .int o_firstRest, o_next, .int o_catAt]))] s.heap.size = A at hD ⊢
  have hA : ∀ q : Nat, s.heap.size ≤ q → A q := fun q h => by rw [← hAe]; exact Or.inr h
  have hS : va_S A s.heap s.heap [] := va_S.rf
  have hP : va_P D clG [(h_o, .inr (0, [o_tape, .int o_taped, o_scanner, .null, .int o_trouble, .int o_fault, .int o_where, .int o_imageMany, .int o_undoMany, o_town, o_was, o_trial, o_night, o_plans, o_undone, o_images, o_often, .int o_firstRest, o_next, .int o_catAt]))] s.heap := hP
  have hl := lv_entry ([.ref h_o, .int p0]) (n := 4) (Nat.le_of_ble_eq_true rfl)
  rw [lg_entry_eq]
  generalize (lg_sl ([.ref h_o, .int p0]) ++ List.replicate (4 - (lg_sl ([.ref h_o, .int p0])).length) Slot.unset).toArray = ls at hl ⊢
  have hl : lv_has ls 4 [(0, .ref h_o), (1, .int p0)] := hl
  unfold MX1_dieN at hM
  refine lv_aload_n hx hb dX1_die_0 rfl (lv_at hl 0 rfl) ?_
  obtain ⟨r1, er1, hM⟩ := b_inv hM
  refine k_v0 [0] (va_runV (As := []) (rest := []) ⟨hx, hb, hml, hown, hts⟩ (ctX1_anew l D dA _ h_o o_taped o_trouble o_fault o_where o_imageMany o_undoMany o_firstRest o_catAt (o_tape) (o_scanner) (.null) (o_town) (o_was) (o_trial) (o_night) (o_plans) (o_undone) (o_images) (o_often) (o_next) r1 er1) (cwV 0 hts (lw_V q432 q434 qs2 q113 q435) rfl rfl rfl (by decide +kernel) ⟨Nat.le_of_ble_eq_true rfl, Nat.le_of_ble_eq_true rfl⟩) (pre_V (hP.sub [0] rfl) hK (hD.sub [0] (by decide) rfl) (ci := 0) (q0 := 0) rfl rfl) rfl rfl hl.1 rfl (lv_room (Nat.le_of_ble_eq_true rfl)) dX1_die_1 ⟨Nat.le_of_ble_eq_true rfl, Nat.le_of_ble_eq_true rfl⟩) hP hD hS hA rfl (fun _ => rfl) (fun u2 H locs hP hD hS => ?_)
  have hP : va_P D clG [(h_o, .inr (0, [o_tape, .int o_taped, o_scanner, .null, .int r1.1, .int o_fault, .int r1.2, .int o_imageMany, .int o_undoMany, o_town, o_was, o_trial, o_night, o_plans, o_undone, o_images, o_often, .int o_firstRest, o_next, .int o_catAt]))] H := hP
  have hD : va_D A [(h_o, .inr (0, [o_tape, .int o_taped, o_scanner, .null, .int r1.1, .int o_fault, .int r1.2, .int o_imageMany, .int o_undoMany, o_town, o_was, o_trial, o_night, o_plans, o_undone, o_images, o_often, .int o_firstRest, o_next, .int o_catAt]))] := hD
  refine lv_aload_n hx hb dX1_die_4 rfl (lv_at hl 0 rfl) ?_
  refine lv_iload_n hx hb dX1_die_5 rfl (lv_at hl 1 rfl) ?_
  obtain ⟨r3, er3, hM⟩ := b_inv hM
  refine k_i0 [0] (va_runV (As := [.int p0]) (rest := []) ⟨hx, hb, hml, hown, hts⟩ (ctX1_livesWhyN l D dA _ h_o p0 o_taped r1.1 o_fault r1.2 o_imageMany o_undoMany o_firstRest o_catAt (o_tape) (o_scanner) (o_town) (o_was) (o_trial) (o_night) (o_plans) (o_undone) (o_images) (o_often) (o_next) r3 er3) (cwV 1 hts (lw_V q970 q972 qs28 q113 q973) rfl rfl rfl (by decide +kernel) ⟨Nat.le_of_ble_eq_true rfl, Nat.le_of_ble_eq_true rfl⟩) (pre_V (hP.sub [0] rfl) hK (hD.sub [0] (by decide) rfl) (ci := 0) (q0 := 0) rfl rfl) rfl rfl hl.1 rfl (lv_room (Nat.le_of_ble_eq_true rfl)) dX1_die_6 ⟨Nat.le_of_ble_eq_true rfl, Nat.le_of_ble_eq_true rfl⟩) hP hD hS hA rfl (fun _ => rfl) (fun u4 H locs hP hD hS => ?_)
  have hP : va_P D clG [(h_o, .inr (0, [o_tape, .int o_taped, o_scanner, .null, .int r1.1, .int o_fault, .int r1.2, .int o_imageMany, .int o_undoMany, o_town, o_was, o_trial, o_night, o_plans, o_undone, o_images, o_often, .int o_firstRest, o_next, .int o_catAt]))] H := hP
  have hD : va_D A [(h_o, .inr (0, [o_tape, .int o_taped, o_scanner, .null, .int r1.1, .int o_fault, .int r1.2, .int o_imageMany, .int o_undoMany, o_town, o_was, o_trial, o_night, o_plans, o_undone, o_images, o_often, .int o_firstRest, o_next, .int o_catAt]))] := hD
  have kr3 := krX1_livesWhyN _ er3
  refine lv_toi (v := (1 : Int32)) (by rw [kr3]) ?_
  refine lv_istore_n (lv' := [(2, .int (1 : Int32)), (0, .ref h_o), (1, .int p0)]) hx hb dX1_die_9 rfl hl (by decide) rfl (fun ls hl => ?_)
  refine lv_iload_n hx hb dX1_die_10 rfl (lv_at hl 0 rfl) ?_
  refine lv_if_eq (tgt := 20) hx hb dX1_die_11 (by decide) (fun c5 => absurd c5 (by decide)) (fun _ => ?_)
  refine lv_aload_n hx hb dX1_die_14 rfl (lv_at hl 1 rfl) ?_
  refine lv_iload_n hx hb dX1_die_15 rfl (lv_at hl 0 rfl) ?_
  obtain ⟨r6, er6, hM⟩ := b_inv hM
  refine k_i0 [0] (va_runV (As := [.int (1 : Int32)]) (rest := []) ⟨hx, hb, hml, hown, hts⟩ (ctX1_no l D dA _ h_o (1 : Int32) o_taped r1.1 o_fault r1.2 o_imageMany o_undoMany o_firstRest o_catAt (o_tape) (o_scanner) (.null) (o_town) (o_was) (o_trial) (o_night) (o_plans) (o_undone) (o_images) (o_often) (o_next) r6 er6) (cwV 1 hts (lw_V q439 q441 qs3 q113 q442) rfl rfl rfl (by decide +kernel) ⟨Nat.le_of_ble_eq_true rfl, Nat.le_of_ble_eq_true rfl⟩) (pre_V (hP.sub [0] rfl) hK (hD.sub [0] (by decide) rfl) (ci := 0) (q0 := 0) rfl rfl) rfl rfl hl.1 rfl (lv_room (Nat.le_of_ble_eq_true rfl)) dX1_die_16 ⟨Nat.le_of_ble_eq_true rfl, Nat.le_of_ble_eq_true rfl⟩) hP hD hS hA rfl (fun _ => rfl) (fun u7 H locs hP hD hS => ?_)
  have hP : va_P D clG [(h_o, .inr (0, [o_tape, .int o_taped, o_scanner, .null, .int r6.2, .int o_fault, .int r1.2, .int o_imageMany, .int o_undoMany, o_town, o_was, o_trial, o_night, o_plans, o_undone, o_images, o_often, .int o_firstRest, o_next, .int o_catAt]))] H := hP
  have hD : va_D A [(h_o, .inr (0, [o_tape, .int o_taped, o_scanner, .null, .int r6.2, .int o_fault, .int r1.2, .int o_imageMany, .int o_undoMany, o_town, o_was, o_trial, o_night, o_plans, o_undone, o_images, o_often, .int o_firstRest, o_next, .int o_catAt]))] := hD
  have hM := Option.some.inj hM
  subst hM
  exact W.iret (v := r6.1) hx hb hr (fun t ht hW => ⟨⟨r6.1, (), rfl, rfl, by rw [ht]; exact hP, hD⟩, hS.F ht⟩) hS.2.2 dX1_die_19

set_option maxHeartbeats 40000000 in
set_option maxRecDepth 100000 in
theorem ctX7_dieN (l : Launch) (D : va_G) (dA : Nat → ClassId) (sz : Nat) (h_m : Nat) (p0 : Int32) (m_thrown : Int32) (m_trouble : Int32) (m_where : Int32) (m_taped : Int32) (m_size : Int32) (m_spot : Int32) (m_sort : Int32) (m_place : Int32) (m_number : Int32) (m_fault : Int32) (m_wrongAt : Int32) (m_word : Int64) (m_askedOf : Int32) (m_acts : Int32) (m_images : Int32) (m_catGets : Int32) (m_whole : Int64) (m_bestSum : Int64) (m_tourHoursNow : Int32) (m_fitsNow : Int32) (m_foundHour : Int32) (m_lookLeft : Int32) (m_firstCatNow : Int32) (m_read : Value) (m_tape : Value) (m_v : Value) (m_x : Value) (m_past : Value) (m_kept : Value) (m_heir : Value) (m_then : Value) (m_come : Value) (m_comeThen : Value) (m_hour : Value) (m_partIn : Value) (m_heirIn : Value) (res : (Int32 × Int32 × Int32 × Int32)) (hM : MX7_dieN  = some res) : Met l yX7_die (ws_ yX7_die cX7_die 4 (some .int)) ({ frames := 2, cells := 0, slots := 0, locals := 42 }) (pre_ D dA [.ref h_m, .int p0] [(h_m, .inr (11, [.int m_thrown, .int m_trouble, .int m_where, .null, m_read, m_tape, .int m_taped, .int m_size, .int m_spot, .int m_sort, .int m_place, .int m_number, .int m_fault, .int m_wrongAt, .long m_word, .int m_askedOf, m_v, m_x, m_past, m_kept, .int m_acts, .int m_images, m_heir, m_then, .int m_catGets, .long m_whole, .long m_bestSum, m_come, m_comeThen, .int m_tourHoursNow, m_hour, m_partIn, m_heirIn, .int m_fitsNow, .int m_foundHour, .int m_lookLeft, .int m_firstCatNow]))] sz) (qi_ D res.1 (fun (u : Unit) => [(h_m, .inr (11, [.int res.2.1, .int res.2.2.1, .int res.2.2.2, .null, m_read, m_tape, .int m_taped, .int m_size, .int m_spot, .int m_sort, .int m_place, .int m_number, .int m_fault, .int m_wrongAt, .long m_word, .int m_askedOf, m_v, m_x, m_past, m_kept, .int m_acts, .int m_images, m_heir, m_then, .int m_catGets, .long m_whole, .long m_bestSum, m_come, m_comeThen, .int m_tourHoursNow, m_hour, m_partIn, m_heirIn, .int m_fitsNow, .int m_foundHour, .int m_lookLeft, .int m_firstCatNow]))]) (va_A [(h_m, .inr (11, [.int m_thrown, .int m_trouble, .int m_where, .null, m_read, m_tape, .int m_taped, .int m_size, .int m_spot, .int m_sort, .int m_place, .int m_number, .int m_fault, .int m_wrongAt, .long m_word, .int m_askedOf, m_v, m_x, m_past, m_kept, .int m_acts, .int m_images, m_heir, m_then, .int m_catGets, .long m_whole, .long m_bestSum, m_come, m_comeThen, .int m_tourHoursNow, m_hour, m_partIn, m_heirIn, .int m_fitsNow, .int m_foundHour, .int m_lookLeft, .int m_firstCatNow]))] sz)) 0 0 (va_A [(h_m, .inr (11, [.int m_thrown, .int m_trouble, .int m_where, .null, m_read, m_tape, .int m_taped, .int m_size, .int m_spot, .int m_sort, .int m_place, .int m_number, .int m_fault, .int m_wrongAt, .long m_word, .int m_askedOf, m_v, m_x, m_past, m_kept, .int m_acts, .int m_images, m_heir, m_then, .int m_catGets, .long m_whole, .long m_bestSum, m_come, m_comeThen, .int m_tourHoursNow, m_hour, m_partIn, m_heirIn, .int m_fitsNow, .int m_foundHour, .int m_lookLeft, .int m_firstCatNow]))] sz) := by
  refine Met.ofW (cc := cX7_die) (maxL := 4) (ret := (some .int)) (by decide) rfl ?_
  intro p e s m args below meth c s₁ B hml hv
  obtain ⟨rfl, hsz, hP, hK, hD0⟩ := hv
  have hx := B.exec
  have hb := B.bytes
  have hr := B.returns
  have hts := atoms_spec (ws := (ws_ yX7_die cX7_die 4 (some .int))) B.pre
  have hts : ∀ w ∈ lw_all, w.before _ s = true := fun w h => hts w (List.mem_cons_of_mem _ h)
  have hown : s.vm.findClass RX7 = some m.cls := findClass_of_methodNamed B.named
  have hlocks := B.notSynchronized
  subst hsz
  have hD := hD0.self (sz := s.heap.size)
  generalize hAe : va_A [(h_m, .inr (11, [.int m_thrown, .int m_trouble, .int m_where, .null, m_read, m_tape, .int m_taped, .int m_size, .int m_spot, .int m_sort, .int m_place, .int m_number, .int m_fault, .int m_wrongAt, .long m_word, .int m_askedOf, m_v, m_x, m_past, m_kept, .int m_acts, .int m_images, m_heir, m_then, .int m_catGets, .long m_whole, .long m_bestSum, m_come, m_comeThen, .int m_tourHoursNow, m_hour, m_partIn, m_heirIn, .int m_fitsNow, .int m_foundHour, .int m_lookLeft, .int m_firstCatNow]))] s.heap.size = A at hD ⊢
  have hA : ∀ q : Nat, s.heap.size ≤ q → A q := fun q h => by rw [← hAe]; exact Or.inr h
  have hS : va_S A s.heap s.heap [] := va_S.rf
  have hP : va_P D clG [(h_m, .inr (11, [.int m_thrown, .int m_trouble, .int m_where, .null, m_read, m_tape, .int m_taped, .int m_size, .int m_spot, .int m_sort, .int m_place, .int m_number, .int m_fault, .int m_wrongAt, .long m_word, .int m_askedOf, m_v, m_x, m_past, m_kept, .int m_acts, .int m_images, m_heir, m_then, .int m_catGets, .long m_whole, .long m_bestSum, m_come, m_comeThen, .int m_tourHoursNow, m_hour, m_partIn, m_heirIn, .int m_fitsNow, .int m_foundHour, .int m_lookLeft, .int m_firstCatNow]))] s.heap := hP
  have hl := lv_entry ([.ref h_m, .int p0]) (n := 4) (Nat.le_of_ble_eq_true rfl)
  rw [lg_entry_eq]
  generalize (lg_sl ([.ref h_m, .int p0]) ++ List.replicate (4 - (lg_sl ([.ref h_m, .int p0])).length) Slot.unset).toArray = ls at hl ⊢
  have hl : lv_has ls 4 [(0, .ref h_m), (1, .int p0)] := hl
  unfold MX7_dieN at hM
  refine lv_aload_n hx hb dX7_die_0 rfl (lv_at hl 0 rfl) ?_
  refine lv_iconst (v := (0 : Int32)) hx hb dX7_die_1 (by decide) ?_
  refine va_put (D := D) (ci := 11) (v := .int (0 : Int32)) (ty := .int) (C := RX7) (T := TX7) (N := 37) hx hb hts in_X7 tyX7 tyX7_ok nmX7 hown hK.1 hP hD hS 0 rfl rfl 0 (by decide) (hts _ q1372) (fun _ h9 => h9) rfl (by decide +kernel) rfl rfl (Nat.le_of_ble_eq_true rfl) dX7_die_2 (fun H locs hP hD hS => ?_)
  have hP : va_P D clG [(h_m, .inr (11, [.int (0 : Int32), .int m_trouble, .int m_where, .null, m_read, m_tape, .int m_taped, .int m_size, .int m_spot, .int m_sort, .int m_place, .int m_number, .int m_fault, .int m_wrongAt, .long m_word, .int m_askedOf, m_v, m_x, m_past, m_kept, .int m_acts, .int m_images, m_heir, m_then, .int m_catGets, .long m_whole, .long m_bestSum, m_come, m_comeThen, .int m_tourHoursNow, m_hour, m_partIn, m_heirIn, .int m_fitsNow, .int m_foundHour, .int m_lookLeft, .int m_firstCatNow]))] H := hP
  have hD : va_D A [(h_m, .inr (11, [.int (0 : Int32), .int m_trouble, .int m_where, .null, m_read, m_tape, .int m_taped, .int m_size, .int m_spot, .int m_sort, .int m_place, .int m_number, .int m_fault, .int m_wrongAt, .long m_word, .int m_askedOf, m_v, m_x, m_past, m_kept, .int m_acts, .int m_images, m_heir, m_then, .int m_catGets, .long m_whole, .long m_bestSum, m_come, m_comeThen, .int m_tourHoursNow, m_hour, m_partIn, m_heirIn, .int m_fitsNow, .int m_foundHour, .int m_lookLeft, .int m_firstCatNow]))] := hD
  refine lv_aload_n hx hb dX7_die_5 rfl (lv_at hl 0 rfl) ?_
  refine lv_iload_n hx hb dX7_die_6 rfl (lv_at hl 1 rfl) ?_
  obtain ⟨r1, er1, hM⟩ := b_inv hM
  refine k_i0 [0] (va_runV (As := [.int p0]) (rest := []) ⟨hx, hb, hml, hown, hts⟩ (ctX7_refusesLivingN l D dA _ h_m p0 (0 : Int32) m_trouble m_where m_taped m_size m_spot m_sort m_place m_number m_fault m_wrongAt m_word m_askedOf m_acts m_images m_catGets m_whole m_bestSum m_tourHoursNow m_fitsNow m_foundHour m_lookLeft m_firstCatNow (m_read) (m_tape) (m_v) (m_x) (m_past) (m_kept) (m_heir) (m_then) (m_come) (m_comeThen) (m_hour) (m_partIn) (m_heirIn) r1 er1) (cwV 1 hts (lw_V q1761 q1763 qs76 q122 q1764) rfl rfl rfl (by decide +kernel) ⟨Nat.le_of_ble_eq_true rfl, Nat.le_of_ble_eq_true rfl⟩) (pre_V (hP.sub [0] rfl) hK (hD.sub [0] (by decide) rfl) (ci := 11) (q0 := 0) rfl rfl) rfl rfl hl.1 rfl (lv_room (Nat.le_of_ble_eq_true rfl)) dX7_die_7 ⟨Nat.le_of_ble_eq_true rfl, Nat.le_of_ble_eq_true rfl⟩) hP hD hS hA rfl (fun _ => rfl) (fun u2 H locs hP hD hS => ?_)
  have hP : va_P D clG [(h_m, .inr (11, [.int (0 : Int32), .int m_trouble, .int m_where, .null, m_read, m_tape, .int m_taped, .int m_size, .int m_spot, .int m_sort, .int m_place, .int m_number, .int m_fault, .int m_wrongAt, .long m_word, .int m_askedOf, m_v, m_x, m_past, m_kept, .int m_acts, .int m_images, m_heir, m_then, .int m_catGets, .long m_whole, .long m_bestSum, m_come, m_comeThen, .int m_tourHoursNow, m_hour, m_partIn, m_heirIn, .int m_fitsNow, .int m_foundHour, .int m_lookLeft, .int m_firstCatNow]))] H := hP
  have hD : va_D A [(h_m, .inr (11, [.int (0 : Int32), .int m_trouble, .int m_where, .null, m_read, m_tape, .int m_taped, .int m_size, .int m_spot, .int m_sort, .int m_place, .int m_number, .int m_fault, .int m_wrongAt, .long m_word, .int m_askedOf, m_v, m_x, m_past, m_kept, .int m_acts, .int m_images, m_heir, m_then, .int m_catGets, .long m_whole, .long m_bestSum, m_come, m_comeThen, .int m_tourHoursNow, m_hour, m_partIn, m_heirIn, .int m_fitsNow, .int m_foundHour, .int m_lookLeft, .int m_firstCatNow]))] := hD
  have kr1 := krX7_refusesLivingN _ er1
  refine lv_toi (v := (1 : Int32)) (by rw [kr1]) ?_
  refine lv_istore_n (lv' := [(2, .int (1 : Int32)), (0, .ref h_m), (1, .int p0)]) hx hb dX7_die_10 rfl hl (by decide) rfl (fun ls hl => ?_)
  refine lv_iload_n hx hb dX7_die_11 rfl (lv_at hl 0 rfl) ?_
  refine lv_if_le (tgt := 21) hx hb dX7_die_12 (by decide) (fun c3 => absurd c3 (by decide)) (fun _ => ?_)
  refine lv_aload_n hx hb dX7_die_15 rfl (lv_at hl 1 rfl) ?_
  refine lv_iload_n hx hb dX7_die_16 rfl (lv_at hl 0 rfl) ?_
  obtain ⟨r4, er4, hM⟩ := b_inv hM
  refine k_i0 [0] (va_runV (As := [.int (1 : Int32)]) (rest := []) ⟨hx, hb, hml, hown, hts⟩ (ctX7_refused l D dA _ h_m (1 : Int32) (0 : Int32) m_trouble m_where m_taped m_size m_spot m_sort m_place m_number m_fault m_wrongAt m_word m_askedOf m_acts m_images m_catGets m_whole m_bestSum m_tourHoursNow m_fitsNow m_foundHour m_lookLeft m_firstCatNow (.null) (m_read) (m_tape) (m_v) (m_x) (m_past) (m_kept) (m_heir) (m_then) (m_come) (m_comeThen) (m_hour) (m_partIn) (m_heirIn) r4 er4) (cwV 1 hts (lw_V q1496 q1498 qs50 q122 q1499) rfl rfl rfl (by decide +kernel) ⟨Nat.le_of_ble_eq_true rfl, Nat.le_of_ble_eq_true rfl⟩) (pre_V (hP.sub [0] rfl) hK (hD.sub [0] (by decide) rfl) (ci := 11) (q0 := 0) rfl rfl) rfl rfl hl.1 rfl (lv_room (Nat.le_of_ble_eq_true rfl)) dX7_die_17 ⟨Nat.le_of_ble_eq_true rfl, Nat.le_of_ble_eq_true rfl⟩) hP hD hS hA rfl (fun _ => rfl) (fun u5 H locs hP hD hS => ?_)
  have hP : va_P D clG [(h_m, .inr (11, [.int (0 : Int32), .int r4.2.1, .int r4.2.2, .null, m_read, m_tape, .int m_taped, .int m_size, .int m_spot, .int m_sort, .int m_place, .int m_number, .int m_fault, .int m_wrongAt, .long m_word, .int m_askedOf, m_v, m_x, m_past, m_kept, .int m_acts, .int m_images, m_heir, m_then, .int m_catGets, .long m_whole, .long m_bestSum, m_come, m_comeThen, .int m_tourHoursNow, m_hour, m_partIn, m_heirIn, .int m_fitsNow, .int m_foundHour, .int m_lookLeft, .int m_firstCatNow]))] H := hP
  have hD : va_D A [(h_m, .inr (11, [.int (0 : Int32), .int r4.2.1, .int r4.2.2, .null, m_read, m_tape, .int m_taped, .int m_size, .int m_spot, .int m_sort, .int m_place, .int m_number, .int m_fault, .int m_wrongAt, .long m_word, .int m_askedOf, m_v, m_x, m_past, m_kept, .int m_acts, .int m_images, m_heir, m_then, .int m_catGets, .long m_whole, .long m_bestSum, m_come, m_comeThen, .int m_tourHoursNow, m_hour, m_partIn, m_heirIn, .int m_fitsNow, .int m_foundHour, .int m_lookLeft, .int m_firstCatNow]))] := hD
  have hM := Option.some.inj hM
  subst hM
  exact W.iret (v := r4.1) hx hb hr (fun t ht hW => ⟨⟨r4.1, (), rfl, rfl, by rw [ht]; exact hP, hD⟩, hS.F ht⟩) hS.2.2 dX7_die_20

set_option maxHeartbeats 40000000 in
set_option maxRecDepth 100000 in
theorem ctX1_nightN (l : Launch) (D : va_G) (dA : Nat → ClassId) (sz : Nat) (h_o : Nat) (o_taped : Int32) (o_trouble : Int32) (o_fault : Int32) (o_where : Int32) (o_imageMany : Int32) (o_undoMany : Int32) (o_firstRest : Int32) (o_catAt : Int32) (o_tape : Value) (o_scanner : Value) (o_town : Value) (o_was : Value) (o_trial : Value) (o_night : Value) (o_plans : Value) (o_undone : Value) (o_images : Value) (o_often : Value) (o_next : Value) (res : (Int32 × Int32 × Int32)) (hM : MX1_nightN  = some res) : Met l yX1_night (ws_ yX1_night cX1_night 2 (some .int)) ({ frames := 1, cells := 0, slots := 0, locals := 21 }) (pre_ D dA [.ref h_o] [(h_o, .inr (0, [o_tape, .int o_taped, o_scanner, .null, .int o_trouble, .int o_fault, .int o_where, .int o_imageMany, .int o_undoMany, o_town, o_was, o_trial, o_night, o_plans, o_undone, o_images, o_often, .int o_firstRest, o_next, .int o_catAt]))] sz) (qi_ D res.1 (fun (u : Unit) => [(h_o, .inr (0, [o_tape, .int o_taped, o_scanner, .null, .int res.2.1, .int o_fault, .int res.2.2, .int o_imageMany, .int o_undoMany, o_town, o_was, o_trial, o_night, o_plans, o_undone, o_images, o_often, .int o_firstRest, o_next, .int o_catAt]))]) (va_A [(h_o, .inr (0, [o_tape, .int o_taped, o_scanner, .null, .int o_trouble, .int o_fault, .int o_where, .int o_imageMany, .int o_undoMany, o_town, o_was, o_trial, o_night, o_plans, o_undone, o_images, o_often, .int o_firstRest, o_next, .int o_catAt]))] sz)) 0 0 (va_A [(h_o, .inr (0, [o_tape, .int o_taped, o_scanner, .null, .int o_trouble, .int o_fault, .int o_where, .int o_imageMany, .int o_undoMany, o_town, o_was, o_trial, o_night, o_plans, o_undone, o_images, o_often, .int o_firstRest, o_next, .int o_catAt]))] sz) := by
  refine Met.ofW (cc := cX1_night) (maxL := 2) (ret := (some .int)) (by decide) rfl ?_
  intro p e s m args below meth c s₁ B hml hv
  obtain ⟨rfl, hsz, hP, hK, hD0⟩ := hv
  have hx := B.exec
  have hb := B.bytes
  have hr := B.returns
  have hts := atoms_spec (ws := (ws_ yX1_night cX1_night 2 (some .int))) B.pre
  have hts : ∀ w ∈ lw_all, w.before _ s = true := fun w h => hts w (List.mem_cons_of_mem _ h)
  have hown : s.vm.findClass RX1 = some m.cls := findClass_of_methodNamed B.named
  have hlocks := B.notSynchronized
  subst hsz
  have hD := hD0.self (sz := s.heap.size)
  generalize hAe : va_A [(h_o, .inr (0, [o_tape, .int o_taped, o_scanner, .null, .int o_trouble, .int o_fault, .int o_where, .int o_imageMany, .int o_undoMany, o_town, o_was, o_trial, o_night, o_plans, o_undone, o_images, o_often, .int o_firstRest, o_next, .int o_catAt]))] s.heap.size = A at hD ⊢
  have hA : ∀ q : Nat, s.heap.size ≤ q → A q := fun q h => by rw [← hAe]; exact Or.inr h
  have hS : va_S A s.heap s.heap [] := va_S.rf
  have hP : va_P D clG [(h_o, .inr (0, [o_tape, .int o_taped, o_scanner, .null, .int o_trouble, .int o_fault, .int o_where, .int o_imageMany, .int o_undoMany, o_town, o_was, o_trial, o_night, o_plans, o_undone, o_images, o_often, .int o_firstRest, o_next, .int o_catAt]))] s.heap := hP
  have hl := lv_entry ([.ref h_o]) (n := 2) (Nat.le_of_ble_eq_true rfl)
  rw [lg_entry_eq]
  generalize (lg_sl ([.ref h_o]) ++ List.replicate (2 - (lg_sl ([.ref h_o])).length) Slot.unset).toArray = ls at hl ⊢
  have hl : lv_has ls 2 [(0, .ref h_o)] := hl
  unfold MX1_nightN at hM
  refine lv_aload_n hx hb dX1_night_0 rfl (lv_at hl 0 rfl) ?_
  obtain ⟨r1, er1, hM⟩ := b_inv hM
  refine k_v0 [0] (va_runV (As := []) (rest := []) ⟨hx, hb, hml, hown, hts⟩ (ctX1_anew l D dA _ h_o o_taped o_trouble o_fault o_where o_imageMany o_undoMany o_firstRest o_catAt (o_tape) (o_scanner) (.null) (o_town) (o_was) (o_trial) (o_night) (o_plans) (o_undone) (o_images) (o_often) (o_next) r1 er1) (cwV 0 hts (lw_V q432 q434 qs2 q113 q435) rfl rfl rfl (by decide +kernel) ⟨Nat.le_of_ble_eq_true rfl, Nat.le_of_ble_eq_true rfl⟩) (pre_V (hP.sub [0] rfl) hK (hD.sub [0] (by decide) rfl) (ci := 0) (q0 := 0) rfl rfl) rfl rfl hl.1 rfl (lv_room (Nat.le_of_ble_eq_true rfl)) dX1_night_1 ⟨Nat.le_of_ble_eq_true rfl, Nat.le_of_ble_eq_true rfl⟩) hP hD hS hA rfl (fun _ => rfl) (fun u2 H locs hP hD hS => ?_)
  have hP : va_P D clG [(h_o, .inr (0, [o_tape, .int o_taped, o_scanner, .null, .int r1.1, .int o_fault, .int r1.2, .int o_imageMany, .int o_undoMany, o_town, o_was, o_trial, o_night, o_plans, o_undone, o_images, o_often, .int o_firstRest, o_next, .int o_catAt]))] H := hP
  have hD : va_D A [(h_o, .inr (0, [o_tape, .int o_taped, o_scanner, .null, .int r1.1, .int o_fault, .int r1.2, .int o_imageMany, .int o_undoMany, o_town, o_was, o_trial, o_night, o_plans, o_undone, o_images, o_often, .int o_firstRest, o_next, .int o_catAt]))] := hD
  refine lv_aload_n hx hb dX1_night_4 rfl (lv_at hl 0 rfl) ?_
  refine va_get (D := D) (ci := 0) (v := .null) (C := RX1) (T := TX1) (N := 20) hx hb hts in_X1 hown hK.1 hP 0 rfl rfl 3 (by decide) (hts _ q361) (fun _ h9 => h9) rfl dX1_night_5 ?_
  refine lv_ifnonnullN hx hb dX1_night_8 ?_
  refine lv_aload_n hx hb dX1_night_11 rfl (lv_at hl 0 rfl) ?_
  refine lv_iconst (v := (1 : Int32)) hx hb dX1_night_12 (by decide) ?_
  obtain ⟨r3, er3, hM⟩ := b_inv hM
  refine k_i0 [0] (va_runV (As := [.int (1 : Int32)]) (rest := []) ⟨hx, hb, hml, hown, hts⟩ (ctX1_no l D dA _ h_o (1 : Int32) o_taped r1.1 o_fault r1.2 o_imageMany o_undoMany o_firstRest o_catAt (o_tape) (o_scanner) (.null) (o_town) (o_was) (o_trial) (o_night) (o_plans) (o_undone) (o_images) (o_often) (o_next) r3 er3) (cwV 1 hts (lw_V q439 q441 qs3 q113 q442) rfl rfl rfl (by decide +kernel) ⟨Nat.le_of_ble_eq_true rfl, Nat.le_of_ble_eq_true rfl⟩) (pre_V (hP.sub [0] rfl) hK (hD.sub [0] (by decide) rfl) (ci := 0) (q0 := 0) rfl rfl) rfl rfl hl.1 rfl (lv_room (Nat.le_of_ble_eq_true rfl)) dX1_night_13 ⟨Nat.le_of_ble_eq_true rfl, Nat.le_of_ble_eq_true rfl⟩) hP hD hS hA rfl (fun _ => rfl) (fun u4 H locs hP hD hS => ?_)
  have hP : va_P D clG [(h_o, .inr (0, [o_tape, .int o_taped, o_scanner, .null, .int r3.2, .int o_fault, .int r1.2, .int o_imageMany, .int o_undoMany, o_town, o_was, o_trial, o_night, o_plans, o_undone, o_images, o_often, .int o_firstRest, o_next, .int o_catAt]))] H := hP
  have hD : va_D A [(h_o, .inr (0, [o_tape, .int o_taped, o_scanner, .null, .int r3.2, .int o_fault, .int r1.2, .int o_imageMany, .int o_undoMany, o_town, o_was, o_trial, o_night, o_plans, o_undone, o_images, o_often, .int o_firstRest, o_next, .int o_catAt]))] := hD
  have hM := Option.some.inj hM
  subst hM
  exact W.iret (v := r3.1) hx hb hr (fun t ht hW => ⟨⟨r3.1, (), rfl, rfl, by rw [ht]; exact hP, hD⟩, hS.F ht⟩) hS.2.2 dX1_night_16

set_option maxHeartbeats 40000000 in
set_option maxRecDepth 100000 in
theorem ctX7_nightN (l : Launch) (D : va_G) (dA : Nat → ClassId) (sz : Nat) (h_m : Nat) (m_thrown : Int32) (m_trouble : Int32) (m_where : Int32) (m_taped : Int32) (m_size : Int32) (m_spot : Int32) (m_sort : Int32) (m_place : Int32) (m_number : Int32) (m_fault : Int32) (m_wrongAt : Int32) (m_word : Int64) (m_askedOf : Int32) (m_acts : Int32) (m_images : Int32) (m_catGets : Int32) (m_whole : Int64) (m_bestSum : Int64) (m_tourHoursNow : Int32) (m_fitsNow : Int32) (m_foundHour : Int32) (m_lookLeft : Int32) (m_firstCatNow : Int32) (m_read : Value) (m_tape : Value) (m_v : Value) (m_x : Value) (m_past : Value) (m_kept : Value) (m_heir : Value) (m_then : Value) (m_come : Value) (m_comeThen : Value) (m_hour : Value) (m_partIn : Value) (m_heirIn : Value) (res : (Int32 × Int32 × Int32 × Int32)) (hM : MX7_nightN  = some res) : Met l yX7_night (ws_ yX7_night cX7_night 2 (some .int)) ({ frames := 1, cells := 0, slots := 0, locals := 21 }) (pre_ D dA [.ref h_m] [(h_m, .inr (11, [.int m_thrown, .int m_trouble, .int m_where, .null, m_read, m_tape, .int m_taped, .int m_size, .int m_spot, .int m_sort, .int m_place, .int m_number, .int m_fault, .int m_wrongAt, .long m_word, .int m_askedOf, m_v, m_x, m_past, m_kept, .int m_acts, .int m_images, m_heir, m_then, .int m_catGets, .long m_whole, .long m_bestSum, m_come, m_comeThen, .int m_tourHoursNow, m_hour, m_partIn, m_heirIn, .int m_fitsNow, .int m_foundHour, .int m_lookLeft, .int m_firstCatNow]))] sz) (qi_ D res.1 (fun (u : Unit) => [(h_m, .inr (11, [.int res.2.1, .int res.2.2.1, .int res.2.2.2, .null, m_read, m_tape, .int m_taped, .int m_size, .int m_spot, .int m_sort, .int m_place, .int m_number, .int m_fault, .int m_wrongAt, .long m_word, .int m_askedOf, m_v, m_x, m_past, m_kept, .int m_acts, .int m_images, m_heir, m_then, .int m_catGets, .long m_whole, .long m_bestSum, m_come, m_comeThen, .int m_tourHoursNow, m_hour, m_partIn, m_heirIn, .int m_fitsNow, .int m_foundHour, .int m_lookLeft, .int m_firstCatNow]))]) (va_A [(h_m, .inr (11, [.int m_thrown, .int m_trouble, .int m_where, .null, m_read, m_tape, .int m_taped, .int m_size, .int m_spot, .int m_sort, .int m_place, .int m_number, .int m_fault, .int m_wrongAt, .long m_word, .int m_askedOf, m_v, m_x, m_past, m_kept, .int m_acts, .int m_images, m_heir, m_then, .int m_catGets, .long m_whole, .long m_bestSum, m_come, m_comeThen, .int m_tourHoursNow, m_hour, m_partIn, m_heirIn, .int m_fitsNow, .int m_foundHour, .int m_lookLeft, .int m_firstCatNow]))] sz)) 0 0 (va_A [(h_m, .inr (11, [.int m_thrown, .int m_trouble, .int m_where, .null, m_read, m_tape, .int m_taped, .int m_size, .int m_spot, .int m_sort, .int m_place, .int m_number, .int m_fault, .int m_wrongAt, .long m_word, .int m_askedOf, m_v, m_x, m_past, m_kept, .int m_acts, .int m_images, m_heir, m_then, .int m_catGets, .long m_whole, .long m_bestSum, m_come, m_comeThen, .int m_tourHoursNow, m_hour, m_partIn, m_heirIn, .int m_fitsNow, .int m_foundHour, .int m_lookLeft, .int m_firstCatNow]))] sz) := by
  refine Met.ofW (cc := cX7_night) (maxL := 2) (ret := (some .int)) (by decide) rfl ?_
  intro p e s m args below meth c s₁ B hml hv
  obtain ⟨rfl, hsz, hP, hK, hD0⟩ := hv
  have hx := B.exec
  have hb := B.bytes
  have hr := B.returns
  have hts := atoms_spec (ws := (ws_ yX7_night cX7_night 2 (some .int))) B.pre
  have hts : ∀ w ∈ lw_all, w.before _ s = true := fun w h => hts w (List.mem_cons_of_mem _ h)
  have hown : s.vm.findClass RX7 = some m.cls := findClass_of_methodNamed B.named
  have hlocks := B.notSynchronized
  subst hsz
  have hD := hD0.self (sz := s.heap.size)
  generalize hAe : va_A [(h_m, .inr (11, [.int m_thrown, .int m_trouble, .int m_where, .null, m_read, m_tape, .int m_taped, .int m_size, .int m_spot, .int m_sort, .int m_place, .int m_number, .int m_fault, .int m_wrongAt, .long m_word, .int m_askedOf, m_v, m_x, m_past, m_kept, .int m_acts, .int m_images, m_heir, m_then, .int m_catGets, .long m_whole, .long m_bestSum, m_come, m_comeThen, .int m_tourHoursNow, m_hour, m_partIn, m_heirIn, .int m_fitsNow, .int m_foundHour, .int m_lookLeft, .int m_firstCatNow]))] s.heap.size = A at hD ⊢
  have hA : ∀ q : Nat, s.heap.size ≤ q → A q := fun q h => by rw [← hAe]; exact Or.inr h
  have hS : va_S A s.heap s.heap [] := va_S.rf
  have hP : va_P D clG [(h_m, .inr (11, [.int m_thrown, .int m_trouble, .int m_where, .null, m_read, m_tape, .int m_taped, .int m_size, .int m_spot, .int m_sort, .int m_place, .int m_number, .int m_fault, .int m_wrongAt, .long m_word, .int m_askedOf, m_v, m_x, m_past, m_kept, .int m_acts, .int m_images, m_heir, m_then, .int m_catGets, .long m_whole, .long m_bestSum, m_come, m_comeThen, .int m_tourHoursNow, m_hour, m_partIn, m_heirIn, .int m_fitsNow, .int m_foundHour, .int m_lookLeft, .int m_firstCatNow]))] s.heap := hP
  have hl := lv_entry ([.ref h_m]) (n := 2) (Nat.le_of_ble_eq_true rfl)
  rw [lg_entry_eq]
  generalize (lg_sl ([.ref h_m]) ++ List.replicate (2 - (lg_sl ([.ref h_m])).length) Slot.unset).toArray = ls at hl ⊢
  have hl : lv_has ls 2 [(0, .ref h_m)] := hl
  unfold MX7_nightN at hM
  refine lv_aload_n hx hb dX7_night_0 rfl (lv_at hl 0 rfl) ?_
  refine lv_iconst (v := (0 : Int32)) hx hb dX7_night_1 (by decide) ?_
  refine va_put (D := D) (ci := 11) (v := .int (0 : Int32)) (ty := .int) (C := RX7) (T := TX7) (N := 37) hx hb hts in_X7 tyX7 tyX7_ok nmX7 hown hK.1 hP hD hS 0 rfl rfl 0 (by decide) (hts _ q1372) (fun _ h9 => h9) rfl (by decide +kernel) rfl rfl (Nat.le_of_ble_eq_true rfl) dX7_night_2 (fun H locs hP hD hS => ?_)
  have hP : va_P D clG [(h_m, .inr (11, [.int (0 : Int32), .int m_trouble, .int m_where, .null, m_read, m_tape, .int m_taped, .int m_size, .int m_spot, .int m_sort, .int m_place, .int m_number, .int m_fault, .int m_wrongAt, .long m_word, .int m_askedOf, m_v, m_x, m_past, m_kept, .int m_acts, .int m_images, m_heir, m_then, .int m_catGets, .long m_whole, .long m_bestSum, m_come, m_comeThen, .int m_tourHoursNow, m_hour, m_partIn, m_heirIn, .int m_fitsNow, .int m_foundHour, .int m_lookLeft, .int m_firstCatNow]))] H := hP
  have hD : va_D A [(h_m, .inr (11, [.int (0 : Int32), .int m_trouble, .int m_where, .null, m_read, m_tape, .int m_taped, .int m_size, .int m_spot, .int m_sort, .int m_place, .int m_number, .int m_fault, .int m_wrongAt, .long m_word, .int m_askedOf, m_v, m_x, m_past, m_kept, .int m_acts, .int m_images, m_heir, m_then, .int m_catGets, .long m_whole, .long m_bestSum, m_come, m_comeThen, .int m_tourHoursNow, m_hour, m_partIn, m_heirIn, .int m_fitsNow, .int m_foundHour, .int m_lookLeft, .int m_firstCatNow]))] := hD
  refine lv_aload_n hx hb dX7_night_5 rfl (lv_at hl 0 rfl) ?_
  refine va_get (D := D) (ci := 11) (v := .null) (C := RX7) (T := TX7) (N := 37) hx hb hts in_X7 hown hK.1 hP 0 rfl rfl 3 (by decide) (hts _ q1375) (fun _ h9 => h9) rfl dX7_night_6 ?_
  refine lv_ifnonnullN hx hb dX7_night_9 ?_
  refine lv_aload_n hx hb dX7_night_12 rfl (lv_at hl 0 rfl) ?_
  refine lv_iconst (v := (1 : Int32)) hx hb dX7_night_13 (by decide) ?_
  obtain ⟨r1, er1, hM⟩ := b_inv hM
  refine k_i0 [0] (va_runV (As := [.int (1 : Int32)]) (rest := []) ⟨hx, hb, hml, hown, hts⟩ (ctX7_refused l D dA _ h_m (1 : Int32) (0 : Int32) m_trouble m_where m_taped m_size m_spot m_sort m_place m_number m_fault m_wrongAt m_word m_askedOf m_acts m_images m_catGets m_whole m_bestSum m_tourHoursNow m_fitsNow m_foundHour m_lookLeft m_firstCatNow (.null) (m_read) (m_tape) (m_v) (m_x) (m_past) (m_kept) (m_heir) (m_then) (m_come) (m_comeThen) (m_hour) (m_partIn) (m_heirIn) r1 er1) (cwV 1 hts (lw_V q1496 q1498 qs50 q122 q1499) rfl rfl rfl (by decide +kernel) ⟨Nat.le_of_ble_eq_true rfl, Nat.le_of_ble_eq_true rfl⟩) (pre_V (hP.sub [0] rfl) hK (hD.sub [0] (by decide) rfl) (ci := 11) (q0 := 0) rfl rfl) rfl rfl hl.1 rfl (lv_room (Nat.le_of_ble_eq_true rfl)) dX7_night_14 ⟨Nat.le_of_ble_eq_true rfl, Nat.le_of_ble_eq_true rfl⟩) hP hD hS hA rfl (fun _ => rfl) (fun u2 H locs hP hD hS => ?_)
  have hP : va_P D clG [(h_m, .inr (11, [.int (0 : Int32), .int r1.2.1, .int r1.2.2, .null, m_read, m_tape, .int m_taped, .int m_size, .int m_spot, .int m_sort, .int m_place, .int m_number, .int m_fault, .int m_wrongAt, .long m_word, .int m_askedOf, m_v, m_x, m_past, m_kept, .int m_acts, .int m_images, m_heir, m_then, .int m_catGets, .long m_whole, .long m_bestSum, m_come, m_comeThen, .int m_tourHoursNow, m_hour, m_partIn, m_heirIn, .int m_fitsNow, .int m_foundHour, .int m_lookLeft, .int m_firstCatNow]))] H := hP
  have hD : va_D A [(h_m, .inr (11, [.int (0 : Int32), .int r1.2.1, .int r1.2.2, .null, m_read, m_tape, .int m_taped, .int m_size, .int m_spot, .int m_sort, .int m_place, .int m_number, .int m_fault, .int m_wrongAt, .long m_word, .int m_askedOf, m_v, m_x, m_past, m_kept, .int m_acts, .int m_images, m_heir, m_then, .int m_catGets, .long m_whole, .long m_bestSum, m_come, m_comeThen, .int m_tourHoursNow, m_hour, m_partIn, m_heirIn, .int m_fitsNow, .int m_foundHour, .int m_lookLeft, .int m_firstCatNow]))] := hD
  have hM := Option.some.inj hM
  subst hM
  exact W.iret (v := r1.1) hx hb hr (fun t ht hW => ⟨⟨r1.1, (), rfl, rfl, by rw [ht]; exact hP, hD⟩, hS.F ht⟩) hS.2.2 dX7_night_17

set_option maxHeartbeats 40000000 in
set_option maxRecDepth 100000 in
theorem ctX1_seedN (l : Launch) (D : va_G) (dA : Nat → ClassId) (sz : Nat) (h_o : Nat) (p0 : Int32) (o_taped : Int32) (o_trouble : Int32) (o_fault : Int32) (o_where : Int32) (o_imageMany : Int32) (o_undoMany : Int32) (o_firstRest : Int32) (o_catAt : Int32) (o_tape : Value) (o_scanner : Value) (o_town : Value) (o_was : Value) (o_trial : Value) (o_night : Value) (o_plans : Value) (o_undone : Value) (o_images : Value) (o_often : Value) (o_next : Value) (res : (Bool × Int32 × Int32)) (hM : MX1_seedN p0 = some res) : Met l yX1_seed (ws_ yX1_seed cX1_seed 2 (some .boolean)) ({ frames := 2, cells := 0, slots := 0, locals := 41 }) (pre_ D dA [.ref h_o, .int p0] [(h_o, .inr (0, [o_tape, .int o_taped, o_scanner, .null, .int o_trouble, .int o_fault, .int o_where, .int o_imageMany, .int o_undoMany, o_town, o_was, o_trial, o_night, o_plans, o_undone, o_images, o_often, .int o_firstRest, o_next, .int o_catAt]))] sz) (qi_ D (b2i res.1) (fun (u : Unit) => [(h_o, .inr (0, [o_tape, .int o_taped, o_scanner, .null, .int res.2.1, .int o_fault, .int res.2.2, .int o_imageMany, .int o_undoMany, o_town, o_was, o_trial, o_night, o_plans, o_undone, o_images, o_often, .int o_firstRest, o_next, .int o_catAt]))]) (va_A [(h_o, .inr (0, [o_tape, .int o_taped, o_scanner, .null, .int o_trouble, .int o_fault, .int o_where, .int o_imageMany, .int o_undoMany, o_town, o_was, o_trial, o_night, o_plans, o_undone, o_images, o_often, .int o_firstRest, o_next, .int o_catAt]))] sz)) 0 0 (va_A [(h_o, .inr (0, [o_tape, .int o_taped, o_scanner, .null, .int o_trouble, .int o_fault, .int o_where, .int o_imageMany, .int o_undoMany, o_town, o_was, o_trial, o_night, o_plans, o_undone, o_images, o_often, .int o_firstRest, o_next, .int o_catAt]))] sz) := by
  refine Met.ofW (cc := cX1_seed) (maxL := 2) (ret := (some .boolean)) (by decide) rfl ?_
  intro p e s m args below meth c s₁ B hml hv
  obtain ⟨rfl, hsz, hP, hK, hD0⟩ := hv
  have hx := B.exec
  have hb := B.bytes
  have hr := B.returns
  have hts := atoms_spec (ws := (ws_ yX1_seed cX1_seed 2 (some .boolean))) B.pre
  have hts : ∀ w ∈ lw_all, w.before _ s = true := fun w h => hts w (List.mem_cons_of_mem _ h)
  have hown : s.vm.findClass RX1 = some m.cls := findClass_of_methodNamed B.named
  have hlocks := B.notSynchronized
  subst hsz
  have hD := hD0.self (sz := s.heap.size)
  generalize hAe : va_A [(h_o, .inr (0, [o_tape, .int o_taped, o_scanner, .null, .int o_trouble, .int o_fault, .int o_where, .int o_imageMany, .int o_undoMany, o_town, o_was, o_trial, o_night, o_plans, o_undone, o_images, o_often, .int o_firstRest, o_next, .int o_catAt]))] s.heap.size = A at hD ⊢
  have hA : ∀ q : Nat, s.heap.size ≤ q → A q := fun q h => by rw [← hAe]; exact Or.inr h
  have hS : va_S A s.heap s.heap [] := va_S.rf
  have hP : va_P D clG [(h_o, .inr (0, [o_tape, .int o_taped, o_scanner, .null, .int o_trouble, .int o_fault, .int o_where, .int o_imageMany, .int o_undoMany, o_town, o_was, o_trial, o_night, o_plans, o_undone, o_images, o_often, .int o_firstRest, o_next, .int o_catAt]))] s.heap := hP
  have hl := lv_entry ([.ref h_o, .int p0]) (n := 2) (Nat.le_of_ble_eq_true rfl)
  rw [lg_entry_eq]
  generalize (lg_sl ([.ref h_o, .int p0]) ++ List.replicate (2 - (lg_sl ([.ref h_o, .int p0])).length) Slot.unset).toArray = ls at hl ⊢
  have hl : lv_has ls 2 [(0, .ref h_o), (1, .int p0)] := hl
  unfold MX1_seedN at hM
  refine lv_aload_n hx hb dX1_seed_0 rfl (lv_at hl 0 rfl) ?_
  refine lv_aload_n hx hb dX1_seed_1 rfl (lv_at hl 0 rfl) ?_
  refine lv_aload_n hx hb dX1_seed_2 rfl (lv_at hl 0 rfl) ?_
  refine va_get (D := D) (ci := 0) (v := .null) (C := RX1) (T := TX1) (N := 20) hx hb hts in_X1 hown hK.1 hP 0 rfl rfl 3 (by decide) (hts _ q361) (fun _ h9 => h9) rfl dX1_seed_3 ?_
  refine lv_ifnullN (tgt := 13) hx hb dX1_seed_6 (by decide) ?_
  refine lv_iconst (v := (0 : Int32)) hx hb dX1_seed_13 (by decide) ?_
  refine lv_iload_n hx hb dX1_seed_14 rfl (lv_at hl 1 rfl) ?_
  refine lv_iconst (v := (0 : Int32)) hx hb dX1_seed_15 (by decide) ?_
  refine lv_ldcw (v := (65536 : Int32)) hx hb hown (hts _ q1273) dX1_seed_16 ?_
  obtain ⟨r1, er1, hM⟩ := b_inv hM
  refine k_i0 [] (va_runS (As := [.int p0, .int (0 : Int32), .int (65536 : Int32)]) (rest := [.int (0 : Int32), .ref h_o, .ref h_o]) ⟨hx, hb, hml, hown, hts⟩ (ctX1_in l D dA _ p0 (0 : Int32) (65536 : Int32) r1 er1) (va_cwS 3 hts (lw_S q436 q437 q113 q438) rfl rfl rfl (by decide +kernel) ⟨Nat.le_of_ble_eq_true rfl, Nat.le_of_ble_eq_true rfl⟩) (pre_S (hP.sub [] rfl) hK (hD.sub [] (by decide) rfl)) rfl rfl hl.1 rfl (lv_room (Nat.le_of_ble_eq_true rfl)) dX1_seed_19 ⟨Nat.le_of_ble_eq_true rfl, Nat.le_of_ble_eq_true rfl⟩) hP hD hS hA rfl (fun _ => rfl) (fun u2 H locs hP hD hS => ?_)
  have hP : va_P D clG [(h_o, .inr (0, [o_tape, .int o_taped, o_scanner, .null, .int o_trouble, .int o_fault, .int o_where, .int o_imageMany, .int o_undoMany, o_town, o_was, o_trial, o_night, o_plans, o_undone, o_images, o_often, .int o_firstRest, o_next, .int o_catAt]))] H := hP
  have hD : va_D A [(h_o, .inr (0, [o_tape, .int o_taped, o_scanner, .null, .int o_trouble, .int o_fault, .int o_where, .int o_imageMany, .int o_undoMany, o_town, o_was, o_trial, o_night, o_plans, o_undone, o_images, o_often, .int o_firstRest, o_next, .int o_catAt]))] := hD
  obtain ⟨r3, er3, hM⟩ := b_inv hM
  refine k_i0 [0] (va_runV (As := [.int (0 : Int32), .int (b2i r1)]) (rest := [.ref h_o]) ⟨hx, hb, hml, hown, hts⟩ (ctX1_numberWhy l D dA _ h_o false r1 o_taped o_trouble o_fault o_where o_imageMany o_undoMany o_firstRest o_catAt (o_tape) (o_scanner) (.null) (o_town) (o_was) (o_trial) (o_night) (o_plans) (o_undone) (o_images) (o_often) (o_next) r3 er3) (cwV 2 hts (lw_V q1022 q1024 qs31 q113 q1025) rfl rfl rfl (by decide +kernel) ⟨Nat.le_of_ble_eq_true rfl, Nat.le_of_ble_eq_true rfl⟩) (pre_V (hP.sub [0] rfl) hK (hD.sub [0] (by decide) rfl) (ci := 0) (q0 := 0) rfl rfl) rfl rfl hl.1 rfl (lv_room (Nat.le_of_ble_eq_true rfl)) dX1_seed_22 ⟨Nat.le_of_ble_eq_true rfl, Nat.le_of_ble_eq_true rfl⟩) hP hD hS hA rfl (fun _ => rfl) (fun u4 H locs hP hD hS => ?_)
  have hP : va_P D clG [(h_o, .inr (0, [o_tape, .int o_taped, o_scanner, .null, .int o_trouble, .int o_fault, .int o_where, .int o_imageMany, .int o_undoMany, o_town, o_was, o_trial, o_night, o_plans, o_undone, o_images, o_often, .int o_firstRest, o_next, .int o_catAt]))] H := hP
  have hD : va_D A [(h_o, .inr (0, [o_tape, .int o_taped, o_scanner, .null, .int o_trouble, .int o_fault, .int o_where, .int o_imageMany, .int o_undoMany, o_town, o_was, o_trial, o_night, o_plans, o_undone, o_images, o_often, .int o_firstRest, o_next, .int o_catAt]))] := hD
  have kr3 := knw er3
  refine lv_toi (v := (1 : Int32)) (by rw [kr3]) ?_
  obtain ⟨r5, er5, hM⟩ := b_inv hM
  refine k_i0 [0] (va_runV (As := [.int (1 : Int32)]) (rest := []) ⟨hx, hb, hml, hown, hts⟩ (ctX1_yes l D dA _ h_o (1 : Int32) o_taped o_trouble o_fault o_where o_imageMany o_undoMany o_firstRest o_catAt (o_tape) (o_scanner) (.null) (o_town) (o_was) (o_trial) (o_night) (o_plans) (o_undone) (o_images) (o_often) (o_next) r5 er5) (cwV 1 hts (lw_V q1313 q1315 qs49 q113 q1316) rfl rfl rfl (by decide +kernel) ⟨Nat.le_of_ble_eq_true rfl, Nat.le_of_ble_eq_true rfl⟩) (pre_V (hP.sub [0] rfl) hK (hD.sub [0] (by decide) rfl) (ci := 0) (q0 := 0) rfl rfl) rfl rfl hl.1 rfl (lv_room (Nat.le_of_ble_eq_true rfl)) dX1_seed_25 ⟨Nat.le_of_ble_eq_true rfl, Nat.le_of_ble_eq_true rfl⟩) hP hD hS hA rfl (fun _ => rfl) (fun u6 H locs hP hD hS => ?_)
  have hP : va_P D clG [(h_o, .inr (0, [o_tape, .int o_taped, o_scanner, .null, .int r5.2.1, .int o_fault, .int r5.2.2, .int o_imageMany, .int o_undoMany, o_town, o_was, o_trial, o_night, o_plans, o_undone, o_images, o_often, .int o_firstRest, o_next, .int o_catAt]))] H := hP
  have hD : va_D A [(h_o, .inr (0, [o_tape, .int o_taped, o_scanner, .null, .int r5.2.1, .int o_fault, .int r5.2.2, .int o_imageMany, .int o_undoMany, o_town, o_was, o_trial, o_night, o_plans, o_undone, o_images, o_often, .int o_firstRest, o_next, .int o_catAt]))] := hD
  have kr5 := (kyn (show ¬ (1 : Int32) = 0 by decide)) er5
  refine lv_toi (v := (0 : Int32)) (by rw [kr5]; rfl) ?_
  refine lv_if_ne (tgt := 33) hx hb dX1_seed_28 (by decide) (fun c7 => absurd c7 (by decide)) (fun _ => ?_)
  refine lv_iconst (v := (0 : Int32)) hx hb dX1_seed_31 (by decide) ?_
  have hM := Option.some.inj hM
  subst hM
  exact W.zret (v := b2i false) hx hb hr (nar_b _) (fun t ht hW => ⟨⟨b2i false, (), rfl, rfl, by rw [ht]; exact hP, hD⟩, hS.F ht⟩) hS.2.2 dX1_seed_32
theorem krX1_seedN (p0 : Int32) (res : (Bool × Int32 × Int32)) (h : MX1_seedN p0 = some res) : res.1 = false := by
  unfold MX1_seedN at h
  repeat first | (obtain ⟨_, _, h⟩ := b_inv h) | (split at h)
  all_goals (cases h; rfl)

set_option maxHeartbeats 40000000 in
set_option maxRecDepth 100000 in
theorem ctX7_seedN (l : Launch) (D : va_G) (dA : Nat → ClassId) (sz : Nat) (h_m : Nat) (p0 : Int32) (m_thrown : Int32) (m_trouble : Int32) (m_where : Int32) (m_taped : Int32) (m_size : Int32) (m_spot : Int32) (m_sort : Int32) (m_place : Int32) (m_number : Int32) (m_fault : Int32) (m_wrongAt : Int32) (m_word : Int64) (m_askedOf : Int32) (m_acts : Int32) (m_images : Int32) (m_catGets : Int32) (m_whole : Int64) (m_bestSum : Int64) (m_tourHoursNow : Int32) (m_fitsNow : Int32) (m_foundHour : Int32) (m_lookLeft : Int32) (m_firstCatNow : Int32) (m_read : Value) (m_tape : Value) (m_v : Value) (m_x : Value) (m_past : Value) (m_kept : Value) (m_heir : Value) (m_then : Value) (m_come : Value) (m_comeThen : Value) (m_hour : Value) (m_partIn : Value) (m_heirIn : Value) (res : (Bool × Int32 × Int32 × Int32)) (hM : MX7_seedN  = some res) : Met l yX7_seed (ws_ yX7_seed cX7_seed 2 (some .boolean)) ({ frames := 2, cells := 0, slots := 0, locals := 42 }) (pre_ D dA [.ref h_m, .int p0] [(h_m, .inr (11, [.int m_thrown, .int m_trouble, .int m_where, .null, m_read, m_tape, .int m_taped, .int m_size, .int m_spot, .int m_sort, .int m_place, .int m_number, .int m_fault, .int m_wrongAt, .long m_word, .int m_askedOf, m_v, m_x, m_past, m_kept, .int m_acts, .int m_images, m_heir, m_then, .int m_catGets, .long m_whole, .long m_bestSum, m_come, m_comeThen, .int m_tourHoursNow, m_hour, m_partIn, m_heirIn, .int m_fitsNow, .int m_foundHour, .int m_lookLeft, .int m_firstCatNow]))] sz) (qi_ D (b2i res.1) (fun (u : Unit) => [(h_m, .inr (11, [.int res.2.1, .int res.2.2.1, .int res.2.2.2, .null, m_read, m_tape, .int m_taped, .int m_size, .int m_spot, .int m_sort, .int m_place, .int m_number, .int m_fault, .int m_wrongAt, .long m_word, .int m_askedOf, m_v, m_x, m_past, m_kept, .int m_acts, .int m_images, m_heir, m_then, .int m_catGets, .long m_whole, .long m_bestSum, m_come, m_comeThen, .int m_tourHoursNow, m_hour, m_partIn, m_heirIn, .int m_fitsNow, .int m_foundHour, .int m_lookLeft, .int m_firstCatNow]))]) (va_A [(h_m, .inr (11, [.int m_thrown, .int m_trouble, .int m_where, .null, m_read, m_tape, .int m_taped, .int m_size, .int m_spot, .int m_sort, .int m_place, .int m_number, .int m_fault, .int m_wrongAt, .long m_word, .int m_askedOf, m_v, m_x, m_past, m_kept, .int m_acts, .int m_images, m_heir, m_then, .int m_catGets, .long m_whole, .long m_bestSum, m_come, m_comeThen, .int m_tourHoursNow, m_hour, m_partIn, m_heirIn, .int m_fitsNow, .int m_foundHour, .int m_lookLeft, .int m_firstCatNow]))] sz)) 0 0 (va_A [(h_m, .inr (11, [.int m_thrown, .int m_trouble, .int m_where, .null, m_read, m_tape, .int m_taped, .int m_size, .int m_spot, .int m_sort, .int m_place, .int m_number, .int m_fault, .int m_wrongAt, .long m_word, .int m_askedOf, m_v, m_x, m_past, m_kept, .int m_acts, .int m_images, m_heir, m_then, .int m_catGets, .long m_whole, .long m_bestSum, m_come, m_comeThen, .int m_tourHoursNow, m_hour, m_partIn, m_heirIn, .int m_fitsNow, .int m_foundHour, .int m_lookLeft, .int m_firstCatNow]))] sz) := by
  refine Met.ofW (cc := cX7_seed) (maxL := 2) (ret := (some .boolean)) (by decide) rfl ?_
  intro p e s m args below meth c s₁ B hml hv
  obtain ⟨rfl, hsz, hP, hK, hD0⟩ := hv
  have hx := B.exec
  have hb := B.bytes
  have hr := B.returns
  have hts := atoms_spec (ws := (ws_ yX7_seed cX7_seed 2 (some .boolean))) B.pre
  have hts : ∀ w ∈ lw_all, w.before _ s = true := fun w h => hts w (List.mem_cons_of_mem _ h)
  have hown : s.vm.findClass RX7 = some m.cls := findClass_of_methodNamed B.named
  have hlocks := B.notSynchronized
  subst hsz
  have hD := hD0.self (sz := s.heap.size)
  generalize hAe : va_A [(h_m, .inr (11, [.int m_thrown, .int m_trouble, .int m_where, .null, m_read, m_tape, .int m_taped, .int m_size, .int m_spot, .int m_sort, .int m_place, .int m_number, .int m_fault, .int m_wrongAt, .long m_word, .int m_askedOf, m_v, m_x, m_past, m_kept, .int m_acts, .int m_images, m_heir, m_then, .int m_catGets, .long m_whole, .long m_bestSum, m_come, m_comeThen, .int m_tourHoursNow, m_hour, m_partIn, m_heirIn, .int m_fitsNow, .int m_foundHour, .int m_lookLeft, .int m_firstCatNow]))] s.heap.size = A at hD ⊢
  have hA : ∀ q : Nat, s.heap.size ≤ q → A q := fun q h => by rw [← hAe]; exact Or.inr h
  have hS : va_S A s.heap s.heap [] := va_S.rf
  have hP : va_P D clG [(h_m, .inr (11, [.int m_thrown, .int m_trouble, .int m_where, .null, m_read, m_tape, .int m_taped, .int m_size, .int m_spot, .int m_sort, .int m_place, .int m_number, .int m_fault, .int m_wrongAt, .long m_word, .int m_askedOf, m_v, m_x, m_past, m_kept, .int m_acts, .int m_images, m_heir, m_then, .int m_catGets, .long m_whole, .long m_bestSum, m_come, m_comeThen, .int m_tourHoursNow, m_hour, m_partIn, m_heirIn, .int m_fitsNow, .int m_foundHour, .int m_lookLeft, .int m_firstCatNow]))] s.heap := hP
  have hl := lv_entry ([.ref h_m, .int p0]) (n := 2) (Nat.le_of_ble_eq_true rfl)
  rw [lg_entry_eq]
  generalize (lg_sl ([.ref h_m, .int p0]) ++ List.replicate (2 - (lg_sl ([.ref h_m, .int p0])).length) Slot.unset).toArray = ls at hl ⊢
  have hl : lv_has ls 2 [(0, .ref h_m), (1, .int p0)] := hl
  unfold MX7_seedN at hM
  refine lv_aload_n hx hb dX7_seed_0 rfl (lv_at hl 0 rfl) ?_
  refine lv_iconst (v := (0 : Int32)) hx hb dX7_seed_1 (by decide) ?_
  refine va_put (D := D) (ci := 11) (v := .int (0 : Int32)) (ty := .int) (C := RX7) (T := TX7) (N := 37) hx hb hts in_X7 tyX7 tyX7_ok nmX7 hown hK.1 hP hD hS 0 rfl rfl 0 (by decide) (hts _ q1372) (fun _ h9 => h9) rfl (by decide +kernel) rfl rfl (Nat.le_of_ble_eq_true rfl) dX7_seed_2 (fun H locs hP hD hS => ?_)
  have hP : va_P D clG [(h_m, .inr (11, [.int (0 : Int32), .int m_trouble, .int m_where, .null, m_read, m_tape, .int m_taped, .int m_size, .int m_spot, .int m_sort, .int m_place, .int m_number, .int m_fault, .int m_wrongAt, .long m_word, .int m_askedOf, m_v, m_x, m_past, m_kept, .int m_acts, .int m_images, m_heir, m_then, .int m_catGets, .long m_whole, .long m_bestSum, m_come, m_comeThen, .int m_tourHoursNow, m_hour, m_partIn, m_heirIn, .int m_fitsNow, .int m_foundHour, .int m_lookLeft, .int m_firstCatNow]))] H := hP
  have hD : va_D A [(h_m, .inr (11, [.int (0 : Int32), .int m_trouble, .int m_where, .null, m_read, m_tape, .int m_taped, .int m_size, .int m_spot, .int m_sort, .int m_place, .int m_number, .int m_fault, .int m_wrongAt, .long m_word, .int m_askedOf, m_v, m_x, m_past, m_kept, .int m_acts, .int m_images, m_heir, m_then, .int m_catGets, .long m_whole, .long m_bestSum, m_come, m_comeThen, .int m_tourHoursNow, m_hour, m_partIn, m_heirIn, .int m_fitsNow, .int m_foundHour, .int m_lookLeft, .int m_firstCatNow]))] := hD
  refine lv_aload_n hx hb dX7_seed_5 rfl (lv_at hl 0 rfl) ?_
  refine va_get (D := D) (ci := 11) (v := .null) (C := RX7) (T := TX7) (N := 37) hx hb hts in_X7 hown hK.1 hP 0 rfl rfl 3 (by decide) (hts _ q1375) (fun _ h9 => h9) rfl dX7_seed_6 ?_
  refine lv_ifnonnullN hx hb dX7_seed_9 ?_
  refine lv_aload_n hx hb dX7_seed_12 rfl (lv_at hl 0 rfl) ?_
  refine lv_iconst (v := (1 : Int32)) hx hb dX7_seed_13 (by decide) ?_
  obtain ⟨r1, er1, hM⟩ := b_inv hM
  refine k_i0 [0] (va_runV (As := [.int (1 : Int32)]) (rest := []) ⟨hx, hb, hml, hown, hts⟩ (ctX7_denied l D dA _ h_m (1 : Int32) (0 : Int32) m_trouble m_where m_taped m_size m_spot m_sort m_place m_number m_fault m_wrongAt m_word m_askedOf m_acts m_images m_catGets m_whole m_bestSum m_tourHoursNow m_fitsNow m_foundHour m_lookLeft m_firstCatNow (.null) (m_read) (m_tape) (m_v) (m_x) (m_past) (m_kept) (m_heir) (m_then) (m_come) (m_comeThen) (m_hour) (m_partIn) (m_heirIn) r1 er1) (cwV 1 hts (lw_V q2066 q2068 qs110 q122 q2069) rfl rfl rfl (by decide +kernel) ⟨Nat.le_of_ble_eq_true rfl, Nat.le_of_ble_eq_true rfl⟩) (pre_V (hP.sub [0] rfl) hK (hD.sub [0] (by decide) rfl) (ci := 11) (q0 := 0) rfl rfl) rfl rfl hl.1 rfl (lv_room (Nat.le_of_ble_eq_true rfl)) dX7_seed_14 ⟨Nat.le_of_ble_eq_true rfl, Nat.le_of_ble_eq_true rfl⟩) hP hD hS hA rfl (fun _ => rfl) (fun u2 H locs hP hD hS => ?_)
  have hP : va_P D clG [(h_m, .inr (11, [.int (0 : Int32), .int r1.2.1, .int r1.2.2, .null, m_read, m_tape, .int m_taped, .int m_size, .int m_spot, .int m_sort, .int m_place, .int m_number, .int m_fault, .int m_wrongAt, .long m_word, .int m_askedOf, m_v, m_x, m_past, m_kept, .int m_acts, .int m_images, m_heir, m_then, .int m_catGets, .long m_whole, .long m_bestSum, m_come, m_comeThen, .int m_tourHoursNow, m_hour, m_partIn, m_heirIn, .int m_fitsNow, .int m_foundHour, .int m_lookLeft, .int m_firstCatNow]))] H := hP
  have hD : va_D A [(h_m, .inr (11, [.int (0 : Int32), .int r1.2.1, .int r1.2.2, .null, m_read, m_tape, .int m_taped, .int m_size, .int m_spot, .int m_sort, .int m_place, .int m_number, .int m_fault, .int m_wrongAt, .long m_word, .int m_askedOf, m_v, m_x, m_past, m_kept, .int m_acts, .int m_images, m_heir, m_then, .int m_catGets, .long m_whole, .long m_bestSum, m_come, m_comeThen, .int m_tourHoursNow, m_hour, m_partIn, m_heirIn, .int m_fitsNow, .int m_foundHour, .int m_lookLeft, .int m_firstCatNow]))] := hD
  have hM := Option.some.inj hM
  subst hM
  exact W.zret (v := b2i r1.1) hx hb hr (nar_b _) (fun t ht hW => ⟨⟨b2i r1.1, (), rfl, rfl, by rw [ht]; exact hP, hD⟩, hS.F ht⟩) hS.2.2 dX7_seed_17

set_option maxHeartbeats 40000000 in
set_option maxRecDepth 100000 in
theorem ctX1_undoN (l : Launch) (D : va_G) (dA : Nat → ClassId) (sz : Nat) (h_o : Nat) (h_o_undone : Nat) (o_taped : Int32) (o_trouble : Int32) (o_fault : Int32) (o_where : Int32) (o_imageMany : Int32) (o_undoMany : Int32) (o_firstRest : Int32) (o_catAt : Int32) (o_tape : Value) (o_scanner : Value) (o_town : Value) (o_was : Value) (o_trial : Value) (o_night : Value) (o_plans : Value) (o_images : Value) (o_often : Value) (o_next : Value) (o_undone_r : Nat → Option Nat) (res : (Bool × Int32 × Int32)) (hM : MX1_undoN o_undoMany = some res) : Met l yX1_undo (ws_ yX1_undo cX1_undo 1 (some .boolean)) ({ frames := 2, cells := 0, slots := 0, locals := 41 }) (pre_ D dA [.ref h_o] [(h_o, .inr (0, [o_tape, .int o_taped, o_scanner, .null, .int o_trouble, .int o_fault, .int o_where, .int o_imageMany, .int o_undoMany, o_town, o_was, o_trial, o_night, o_plans, .ref h_o_undone, o_images, o_often, .int o_firstRest, o_next, .int o_catAt])), (h_o_undone, .inl (dA 5, 16, .inr (.inr (.inr (.inr o_undone_r)))))] sz) (qi_ D (b2i res.1) (fun (u : Unit) => [(h_o, .inr (0, [o_tape, .int o_taped, o_scanner, .null, .int res.2.1, .int o_fault, .int res.2.2, .int o_imageMany, .int o_undoMany, o_town, o_was, o_trial, o_night, o_plans, .ref h_o_undone, o_images, o_often, .int o_firstRest, o_next, .int o_catAt])), (h_o_undone, .inl (dA 5, 16, .inr (.inr (.inr (.inr o_undone_r)))))]) (va_A [(h_o, .inr (0, [o_tape, .int o_taped, o_scanner, .null, .int o_trouble, .int o_fault, .int o_where, .int o_imageMany, .int o_undoMany, o_town, o_was, o_trial, o_night, o_plans, .ref h_o_undone, o_images, o_often, .int o_firstRest, o_next, .int o_catAt])), (h_o_undone, .inl (dA 5, 16, .inr (.inr (.inr (.inr o_undone_r)))))] sz)) 0 0 (va_A [(h_o, .inr (0, [o_tape, .int o_taped, o_scanner, .null, .int o_trouble, .int o_fault, .int o_where, .int o_imageMany, .int o_undoMany, o_town, o_was, o_trial, o_night, o_plans, .ref h_o_undone, o_images, o_often, .int o_firstRest, o_next, .int o_catAt])), (h_o_undone, .inl (dA 5, 16, .inr (.inr (.inr (.inr o_undone_r)))))] sz) := by
  refine Met.ofW (cc := cX1_undo) (maxL := 1) (ret := (some .boolean)) (by decide) rfl ?_
  intro p e s m args below meth c s₁ B hml hv
  obtain ⟨rfl, hsz, hP, hK, hD0⟩ := hv
  have hx := B.exec
  have hb := B.bytes
  have hr := B.returns
  have hts := atoms_spec (ws := (ws_ yX1_undo cX1_undo 1 (some .boolean))) B.pre
  have hts : ∀ w ∈ lw_all, w.before _ s = true := fun w h => hts w (List.mem_cons_of_mem _ h)
  have hown : s.vm.findClass RX1 = some m.cls := findClass_of_methodNamed B.named
  have hlocks := B.notSynchronized
  subst hsz
  have hD := hD0.self (sz := s.heap.size)
  generalize hAe : va_A [(h_o, .inr (0, [o_tape, .int o_taped, o_scanner, .null, .int o_trouble, .int o_fault, .int o_where, .int o_imageMany, .int o_undoMany, o_town, o_was, o_trial, o_night, o_plans, .ref h_o_undone, o_images, o_often, .int o_firstRest, o_next, .int o_catAt])), (h_o_undone, .inl (dA 5, 16, .inr (.inr (.inr (.inr o_undone_r)))))] s.heap.size = A at hD ⊢
  have hA : ∀ q : Nat, s.heap.size ≤ q → A q := fun q h => by rw [← hAe]; exact Or.inr h
  have hS : va_S A s.heap s.heap [] := va_S.rf
  have hP : va_P D clG [(h_o, .inr (0, [o_tape, .int o_taped, o_scanner, .null, .int o_trouble, .int o_fault, .int o_where, .int o_imageMany, .int o_undoMany, o_town, o_was, o_trial, o_night, o_plans, .ref h_o_undone, o_images, o_often, .int o_firstRest, o_next, .int o_catAt])), (h_o_undone, .inl (dA 5, 16, .inr (.inr (.inr (.inr o_undone_r)))))] s.heap := hP
  have hl := lv_entry ([.ref h_o]) (n := 1) (Nat.le_of_ble_eq_true rfl)
  rw [lg_entry_eq]
  generalize (lg_sl ([.ref h_o]) ++ List.replicate (1 - (lg_sl ([.ref h_o])).length) Slot.unset).toArray = ls at hl ⊢
  have hl : lv_has ls 1 [(0, .ref h_o)] := hl
  unfold MX1_undoN at hM
  refine lv_aload_n hx hb dX1_undo_0 rfl (lv_at hl 0 rfl) ?_
  refine lv_aload_n hx hb dX1_undo_1 rfl (lv_at hl 0 rfl) ?_
  refine va_get (D := D) (ci := 0) (v := .int o_undoMany) (C := RX1) (T := TX1) (N := 20) hx hb hts in_X1 hown hK.1 hP 0 rfl rfl 8 (by decide) (hts _ q366) (fun _ h9 => h9) rfl dX1_undo_2 ?_
  refine lv_if_ne (tgt := 13) hx hb dX1_undo_5 (by decide) (fun c1 => ?_) (fun c1 => ?_)
  · rw [if_neg c1] at hM
    refine lv_iconst (v := (0 : Int32)) hx hb dX1_undo_13 (by decide) ?_
    obtain ⟨r2, er2, hM⟩ := b_inv hM
    refine k_i0 [0] (va_runV (As := [.int (0 : Int32)]) (rest := []) ⟨hx, hb, hml, hown, hts⟩ (ctX1_yes l D dA _ h_o (0 : Int32) o_taped o_trouble o_fault o_where o_imageMany o_undoMany o_firstRest o_catAt (o_tape) (o_scanner) (.null) (o_town) (o_was) (o_trial) (o_night) (o_plans) (.ref h_o_undone) (o_images) (o_often) (o_next) r2 er2) (cwV 1 hts (lw_V q1313 q1315 qs49 q113 q1316) rfl rfl rfl (by decide +kernel) ⟨Nat.le_of_ble_eq_true rfl, Nat.le_of_ble_eq_true rfl⟩) (pre_V (hP.sub [0] rfl) hK (hD.sub [0] (by decide) rfl) (ci := 0) (q0 := 0) rfl rfl) rfl rfl hl.1 rfl (lv_room (Nat.le_of_ble_eq_true rfl)) dX1_undo_14 ⟨Nat.le_of_ble_eq_true rfl, Nat.le_of_ble_eq_true rfl⟩) hP hD hS hA rfl (fun _ => rfl) (fun u3 H locs hP hD hS => ?_)
    have hP : va_P D clG [(h_o, .inr (0, [o_tape, .int o_taped, o_scanner, .null, .int r2.2.1, .int o_fault, .int r2.2.2, .int o_imageMany, .int o_undoMany, o_town, o_was, o_trial, o_night, o_plans, .ref h_o_undone, o_images, o_often, .int o_firstRest, o_next, .int o_catAt])), (h_o_undone, .inl (dA 5, 16, .inr (.inr (.inr (.inr o_undone_r)))))] H := hP
    have hD : va_D A [(h_o, .inr (0, [o_tape, .int o_taped, o_scanner, .null, .int r2.2.1, .int o_fault, .int r2.2.2, .int o_imageMany, .int o_undoMany, o_town, o_was, o_trial, o_night, o_plans, .ref h_o_undone, o_images, o_often, .int o_firstRest, o_next, .int o_catAt])), (h_o_undone, .inl (dA 5, 16, .inr (.inr (.inr (.inr o_undone_r)))))] := hD
    have kr2 := ky0 er2
    refine lv_toi (v := (1 : Int32)) (by rw [kr2]; rfl) ?_
    refine lv_if_ne (tgt := 22) hx hb dX1_undo_17 (by decide) (fun _ => ?_) (fun c4 => absurd c4 (by decide))
    refine lv_aload_n hx hb dX1_undo_22 rfl (lv_at hl 0 rfl) ?_
    refine lv_dup hx hb dX1_undo_23 rfl ?_
    refine va_get (D := D) (ci := 0) (v := .int o_undoMany) (C := RX1) (T := TX1) (N := 20) hx hb hts in_X1 hown hK.1 hP 0 rfl rfl 8 (by decide) (hts _ q366) (fun _ h9 => h9) rfl dX1_undo_24 ?_
    refine lv_iconst (v := (1 : Int32)) hx hb dX1_undo_27 (by decide) ?_
    refine lv_isub hx hb dX1_undo_28 ?_
    refine va_put (D := D) (ci := 0) (v := .int (o_undoMany - (1 : Int32))) (ty := .int) (C := RX1) (T := TX1) (N := 20) hx hb hts in_X1 tyX1 tyX1_ok nmX1 hown hK.1 hP hD hS 0 rfl rfl 8 (by decide) (hts _ q366) (fun _ h9 => h9) rfl (by decide +kernel) rfl rfl (Nat.le_of_ble_eq_true rfl) dX1_undo_29 (fun H locs hP hD hS => ?_)
    have hP : va_P D clG [(h_o, .inr (0, [o_tape, .int o_taped, o_scanner, .null, .int r2.2.1, .int o_fault, .int r2.2.2, .int o_imageMany, .int (o_undoMany - (1 : Int32)), o_town, o_was, o_trial, o_night, o_plans, .ref h_o_undone, o_images, o_often, .int o_firstRest, o_next, .int o_catAt])), (h_o_undone, .inl (dA 5, 16, .inr (.inr (.inr (.inr o_undone_r)))))] H := hP
    have hD : va_D A [(h_o, .inr (0, [o_tape, .int o_taped, o_scanner, .null, .int r2.2.1, .int o_fault, .int r2.2.2, .int o_imageMany, .int (o_undoMany - (1 : Int32)), o_town, o_was, o_trial, o_night, o_plans, .ref h_o_undone, o_images, o_often, .int o_firstRest, o_next, .int o_catAt])), (h_o_undone, .inl (dA 5, 16, .inr (.inr (.inr (.inr o_undone_r)))))] := hD
    refine lv_aload_n hx hb dX1_undo_32 rfl (lv_at hl 0 rfl) ?_
    refine va_get (D := D) (ci := 0) (v := o_town) (C := RX1) (T := TX1) (N := 20) hx hb hts in_X1 hown hK.1 hP 0 rfl rfl 9 (by decide) (hts _ q367) (fun _ h9 => h9) rfl dX1_undo_33 ?_
    refine lv_aload_n hx hb dX1_undo_36 rfl (lv_at hl 0 rfl) ?_
    refine va_get (D := D) (ci := 0) (v := .ref h_o_undone) (C := RX1) (T := TX1) (N := 20) hx hb hts in_X1 hown hK.1 hP 0 rfl rfl 14 (by decide) (hts _ q372) (fun _ h9 => h9) rfl dX1_undo_37 ?_
    refine lv_aload_n hx hb dX1_undo_40 rfl (lv_at hl 0 rfl) ?_
    refine va_get (D := D) (ci := 0) (v := .int (o_undoMany - (1 : Int32))) (C := RX1) (T := TX1) (N := 20) hx hb hts in_X1 hown hK.1 hP 0 rfl rfl 8 (by decide) (hts _ q366) (fun _ h9 => h9) rfl dX1_undo_41 ?_
    cases hM
  · rw [if_pos c1] at hM
    refine lv_bipush (v := (6 : Int32)) hx hb dX1_undo_8 (by decide) ?_
    refine lv_goto (tgt := 14) hx hb dX1_undo_10 (by decide) ?_
    obtain ⟨r5, er5, hM⟩ := b_inv hM
    refine k_i0 [0] (va_runV (As := [.int (6 : Int32)]) (rest := []) ⟨hx, hb, hml, hown, hts⟩ (ctX1_yes l D dA _ h_o (6 : Int32) o_taped o_trouble o_fault o_where o_imageMany o_undoMany o_firstRest o_catAt (o_tape) (o_scanner) (.null) (o_town) (o_was) (o_trial) (o_night) (o_plans) (.ref h_o_undone) (o_images) (o_often) (o_next) r5 er5) (cwV 1 hts (lw_V q1313 q1315 qs49 q113 q1316) rfl rfl rfl (by decide +kernel) ⟨Nat.le_of_ble_eq_true rfl, Nat.le_of_ble_eq_true rfl⟩) (pre_V (hP.sub [0] rfl) hK (hD.sub [0] (by decide) rfl) (ci := 0) (q0 := 0) rfl rfl) rfl rfl hl.1 rfl (lv_room (Nat.le_of_ble_eq_true rfl)) dX1_undo_14 ⟨Nat.le_of_ble_eq_true rfl, Nat.le_of_ble_eq_true rfl⟩) hP hD hS hA rfl (fun _ => rfl) (fun u6 H locs hP hD hS => ?_)
    have hP : va_P D clG [(h_o, .inr (0, [o_tape, .int o_taped, o_scanner, .null, .int r5.2.1, .int o_fault, .int r5.2.2, .int o_imageMany, .int o_undoMany, o_town, o_was, o_trial, o_night, o_plans, .ref h_o_undone, o_images, o_often, .int o_firstRest, o_next, .int o_catAt])), (h_o_undone, .inl (dA 5, 16, .inr (.inr (.inr (.inr o_undone_r)))))] H := hP
    have hD : va_D A [(h_o, .inr (0, [o_tape, .int o_taped, o_scanner, .null, .int r5.2.1, .int o_fault, .int r5.2.2, .int o_imageMany, .int o_undoMany, o_town, o_was, o_trial, o_night, o_plans, .ref h_o_undone, o_images, o_often, .int o_firstRest, o_next, .int o_catAt])), (h_o_undone, .inl (dA 5, 16, .inr (.inr (.inr (.inr o_undone_r)))))] := hD
    have kr5 := (kyn (show ¬ (6 : Int32) = 0 by decide)) er5
    refine lv_toi (v := (0 : Int32)) (by rw [kr5]; rfl) ?_
    refine lv_if_ne (tgt := 22) hx hb dX1_undo_17 (by decide) (fun c7 => absurd c7 (by decide)) (fun _ => ?_)
    refine lv_iconst (v := (0 : Int32)) hx hb dX1_undo_20 (by decide) ?_
    have hM := Option.some.inj hM
    subst hM
    exact W.zret (v := b2i false) hx hb hr (nar_b _) (fun t ht hW => ⟨⟨b2i false, (), rfl, rfl, by rw [ht]; exact hP, hD⟩, hS.F ht⟩) hS.2.2 dX1_undo_21
theorem krX1_undoN (o_undoMany : Int32) (res : (Bool × Int32 × Int32)) (h : MX1_undoN o_undoMany = some res) : res.1 = false := by
  unfold MX1_undoN at h
  repeat first | (obtain ⟨_, _, h⟩ := b_inv h) | (split at h)
  all_goals (cases h; rfl)

set_option maxHeartbeats 40000000 in
set_option maxRecDepth 100000 in
theorem ctX7_undoN (l : Launch) (D : va_G) (dA : Nat → ClassId) (sz : Nat) (h_m : Nat) (m_thrown : Int32) (m_trouble : Int32) (m_where : Int32) (m_taped : Int32) (m_size : Int32) (m_spot : Int32) (m_sort : Int32) (m_place : Int32) (m_number : Int32) (m_fault : Int32) (m_wrongAt : Int32) (m_word : Int64) (m_askedOf : Int32) (m_acts : Int32) (m_images : Int32) (m_catGets : Int32) (m_whole : Int64) (m_bestSum : Int64) (m_tourHoursNow : Int32) (m_fitsNow : Int32) (m_foundHour : Int32) (m_lookLeft : Int32) (m_firstCatNow : Int32) (m_read : Value) (m_tape : Value) (m_v : Value) (m_x : Value) (m_past : Value) (m_kept : Value) (m_heir : Value) (m_then : Value) (m_come : Value) (m_comeThen : Value) (m_hour : Value) (m_partIn : Value) (m_heirIn : Value) (res : (Bool × Int32 × Int32 × Int32)) (hM : MX7_undoN  = some res) : Met l yX7_undo (ws_ yX7_undo cX7_undo 2 (some .boolean)) ({ frames := 2, cells := 0, slots := 0, locals := 42 }) (pre_ D dA [.ref h_m] [(h_m, .inr (11, [.int m_thrown, .int m_trouble, .int m_where, .null, m_read, m_tape, .int m_taped, .int m_size, .int m_spot, .int m_sort, .int m_place, .int m_number, .int m_fault, .int m_wrongAt, .long m_word, .int m_askedOf, m_v, m_x, m_past, m_kept, .int m_acts, .int m_images, m_heir, m_then, .int m_catGets, .long m_whole, .long m_bestSum, m_come, m_comeThen, .int m_tourHoursNow, m_hour, m_partIn, m_heirIn, .int m_fitsNow, .int m_foundHour, .int m_lookLeft, .int m_firstCatNow]))] sz) (qi_ D (b2i res.1) (fun (u : Unit) => [(h_m, .inr (11, [.int res.2.1, .int res.2.2.1, .int res.2.2.2, .null, m_read, m_tape, .int m_taped, .int m_size, .int m_spot, .int m_sort, .int m_place, .int m_number, .int m_fault, .int m_wrongAt, .long m_word, .int m_askedOf, m_v, m_x, m_past, m_kept, .int m_acts, .int m_images, m_heir, m_then, .int m_catGets, .long m_whole, .long m_bestSum, m_come, m_comeThen, .int m_tourHoursNow, m_hour, m_partIn, m_heirIn, .int m_fitsNow, .int m_foundHour, .int m_lookLeft, .int m_firstCatNow]))]) (va_A [(h_m, .inr (11, [.int m_thrown, .int m_trouble, .int m_where, .null, m_read, m_tape, .int m_taped, .int m_size, .int m_spot, .int m_sort, .int m_place, .int m_number, .int m_fault, .int m_wrongAt, .long m_word, .int m_askedOf, m_v, m_x, m_past, m_kept, .int m_acts, .int m_images, m_heir, m_then, .int m_catGets, .long m_whole, .long m_bestSum, m_come, m_comeThen, .int m_tourHoursNow, m_hour, m_partIn, m_heirIn, .int m_fitsNow, .int m_foundHour, .int m_lookLeft, .int m_firstCatNow]))] sz)) 0 0 (va_A [(h_m, .inr (11, [.int m_thrown, .int m_trouble, .int m_where, .null, m_read, m_tape, .int m_taped, .int m_size, .int m_spot, .int m_sort, .int m_place, .int m_number, .int m_fault, .int m_wrongAt, .long m_word, .int m_askedOf, m_v, m_x, m_past, m_kept, .int m_acts, .int m_images, m_heir, m_then, .int m_catGets, .long m_whole, .long m_bestSum, m_come, m_comeThen, .int m_tourHoursNow, m_hour, m_partIn, m_heirIn, .int m_fitsNow, .int m_foundHour, .int m_lookLeft, .int m_firstCatNow]))] sz) := by
  refine Met.ofW (cc := cX7_undo) (maxL := 2) (ret := (some .boolean)) (by decide) rfl ?_
  intro p e s m args below meth c s₁ B hml hv
  obtain ⟨rfl, hsz, hP, hK, hD0⟩ := hv
  have hx := B.exec
  have hb := B.bytes
  have hr := B.returns
  have hts := atoms_spec (ws := (ws_ yX7_undo cX7_undo 2 (some .boolean))) B.pre
  have hts : ∀ w ∈ lw_all, w.before _ s = true := fun w h => hts w (List.mem_cons_of_mem _ h)
  have hown : s.vm.findClass RX7 = some m.cls := findClass_of_methodNamed B.named
  have hlocks := B.notSynchronized
  subst hsz
  have hD := hD0.self (sz := s.heap.size)
  generalize hAe : va_A [(h_m, .inr (11, [.int m_thrown, .int m_trouble, .int m_where, .null, m_read, m_tape, .int m_taped, .int m_size, .int m_spot, .int m_sort, .int m_place, .int m_number, .int m_fault, .int m_wrongAt, .long m_word, .int m_askedOf, m_v, m_x, m_past, m_kept, .int m_acts, .int m_images, m_heir, m_then, .int m_catGets, .long m_whole, .long m_bestSum, m_come, m_comeThen, .int m_tourHoursNow, m_hour, m_partIn, m_heirIn, .int m_fitsNow, .int m_foundHour, .int m_lookLeft, .int m_firstCatNow]))] s.heap.size = A at hD ⊢
  have hA : ∀ q : Nat, s.heap.size ≤ q → A q := fun q h => by rw [← hAe]; exact Or.inr h
  have hS : va_S A s.heap s.heap [] := va_S.rf
  have hP : va_P D clG [(h_m, .inr (11, [.int m_thrown, .int m_trouble, .int m_where, .null, m_read, m_tape, .int m_taped, .int m_size, .int m_spot, .int m_sort, .int m_place, .int m_number, .int m_fault, .int m_wrongAt, .long m_word, .int m_askedOf, m_v, m_x, m_past, m_kept, .int m_acts, .int m_images, m_heir, m_then, .int m_catGets, .long m_whole, .long m_bestSum, m_come, m_comeThen, .int m_tourHoursNow, m_hour, m_partIn, m_heirIn, .int m_fitsNow, .int m_foundHour, .int m_lookLeft, .int m_firstCatNow]))] s.heap := hP
  have hl := lv_entry ([.ref h_m]) (n := 2) (Nat.le_of_ble_eq_true rfl)
  rw [lg_entry_eq]
  generalize (lg_sl ([.ref h_m]) ++ List.replicate (2 - (lg_sl ([.ref h_m])).length) Slot.unset).toArray = ls at hl ⊢
  have hl : lv_has ls 2 [(0, .ref h_m)] := hl
  unfold MX7_undoN at hM
  refine lv_aload_n hx hb dX7_undo_0 rfl (lv_at hl 0 rfl) ?_
  refine lv_iconst (v := (0 : Int32)) hx hb dX7_undo_1 (by decide) ?_
  refine va_put (D := D) (ci := 11) (v := .int (0 : Int32)) (ty := .int) (C := RX7) (T := TX7) (N := 37) hx hb hts in_X7 tyX7 tyX7_ok nmX7 hown hK.1 hP hD hS 0 rfl rfl 0 (by decide) (hts _ q1372) (fun _ h9 => h9) rfl (by decide +kernel) rfl rfl (Nat.le_of_ble_eq_true rfl) dX7_undo_2 (fun H locs hP hD hS => ?_)
  have hP : va_P D clG [(h_m, .inr (11, [.int (0 : Int32), .int m_trouble, .int m_where, .null, m_read, m_tape, .int m_taped, .int m_size, .int m_spot, .int m_sort, .int m_place, .int m_number, .int m_fault, .int m_wrongAt, .long m_word, .int m_askedOf, m_v, m_x, m_past, m_kept, .int m_acts, .int m_images, m_heir, m_then, .int m_catGets, .long m_whole, .long m_bestSum, m_come, m_comeThen, .int m_tourHoursNow, m_hour, m_partIn, m_heirIn, .int m_fitsNow, .int m_foundHour, .int m_lookLeft, .int m_firstCatNow]))] H := hP
  have hD : va_D A [(h_m, .inr (11, [.int (0 : Int32), .int m_trouble, .int m_where, .null, m_read, m_tape, .int m_taped, .int m_size, .int m_spot, .int m_sort, .int m_place, .int m_number, .int m_fault, .int m_wrongAt, .long m_word, .int m_askedOf, m_v, m_x, m_past, m_kept, .int m_acts, .int m_images, m_heir, m_then, .int m_catGets, .long m_whole, .long m_bestSum, m_come, m_comeThen, .int m_tourHoursNow, m_hour, m_partIn, m_heirIn, .int m_fitsNow, .int m_foundHour, .int m_lookLeft, .int m_firstCatNow]))] := hD
  refine lv_aload_n hx hb dX7_undo_5 rfl (lv_at hl 0 rfl) ?_
  refine va_get (D := D) (ci := 11) (v := .null) (C := RX7) (T := TX7) (N := 37) hx hb hts in_X7 hown hK.1 hP 0 rfl rfl 3 (by decide) (hts _ q1375) (fun _ h9 => h9) rfl dX7_undo_6 ?_
  refine lv_ifnullN (tgt := 19) hx hb dX7_undo_9 (by decide) ?_
  refine lv_aload_n hx hb dX7_undo_19 rfl (lv_at hl 0 rfl) ?_
  refine lv_bipush (v := (6 : Int32)) hx hb dX7_undo_20 (by decide) ?_
  obtain ⟨r1, er1, hM⟩ := b_inv hM
  refine k_i0 [0] (va_runV (As := [.int (6 : Int32)]) (rest := []) ⟨hx, hb, hml, hown, hts⟩ (ctX7_denied l D dA _ h_m (6 : Int32) (0 : Int32) m_trouble m_where m_taped m_size m_spot m_sort m_place m_number m_fault m_wrongAt m_word m_askedOf m_acts m_images m_catGets m_whole m_bestSum m_tourHoursNow m_fitsNow m_foundHour m_lookLeft m_firstCatNow (.null) (m_read) (m_tape) (m_v) (m_x) (m_past) (m_kept) (m_heir) (m_then) (m_come) (m_comeThen) (m_hour) (m_partIn) (m_heirIn) r1 er1) (cwV 1 hts (lw_V q2066 q2068 qs110 q122 q2069) rfl rfl rfl (by decide +kernel) ⟨Nat.le_of_ble_eq_true rfl, Nat.le_of_ble_eq_true rfl⟩) (pre_V (hP.sub [0] rfl) hK (hD.sub [0] (by decide) rfl) (ci := 11) (q0 := 0) rfl rfl) rfl rfl hl.1 rfl (lv_room (Nat.le_of_ble_eq_true rfl)) dX7_undo_22 ⟨Nat.le_of_ble_eq_true rfl, Nat.le_of_ble_eq_true rfl⟩) hP hD hS hA rfl (fun _ => rfl) (fun u2 H locs hP hD hS => ?_)
  have hP : va_P D clG [(h_m, .inr (11, [.int (0 : Int32), .int r1.2.1, .int r1.2.2, .null, m_read, m_tape, .int m_taped, .int m_size, .int m_spot, .int m_sort, .int m_place, .int m_number, .int m_fault, .int m_wrongAt, .long m_word, .int m_askedOf, m_v, m_x, m_past, m_kept, .int m_acts, .int m_images, m_heir, m_then, .int m_catGets, .long m_whole, .long m_bestSum, m_come, m_comeThen, .int m_tourHoursNow, m_hour, m_partIn, m_heirIn, .int m_fitsNow, .int m_foundHour, .int m_lookLeft, .int m_firstCatNow]))] H := hP
  have hD : va_D A [(h_m, .inr (11, [.int (0 : Int32), .int r1.2.1, .int r1.2.2, .null, m_read, m_tape, .int m_taped, .int m_size, .int m_spot, .int m_sort, .int m_place, .int m_number, .int m_fault, .int m_wrongAt, .long m_word, .int m_askedOf, m_v, m_x, m_past, m_kept, .int m_acts, .int m_images, m_heir, m_then, .int m_catGets, .long m_whole, .long m_bestSum, m_come, m_comeThen, .int m_tourHoursNow, m_hour, m_partIn, m_heirIn, .int m_fitsNow, .int m_foundHour, .int m_lookLeft, .int m_firstCatNow]))] := hD
  have hM := Option.some.inj hM
  subst hM
  exact W.zret (v := b2i r1.1) hx hb hr (nar_b _) (fun t ht hW => ⟨⟨b2i r1.1, (), rfl, rfl, by rw [ht]; exact hP, hD⟩, hS.F ht⟩) hS.2.2 dX7_undo_25

set_option maxHeartbeats 40000000 in
set_option maxRecDepth 100000 in
theorem ctX1_imageN (l : Launch) (D : va_G) (dA : Nat → ClassId) (sz : Nat) (h_o : Nat) (o_taped : Int32) (o_trouble : Int32) (o_fault : Int32) (o_where : Int32) (o_imageMany : Int32) (o_undoMany : Int32) (o_firstRest : Int32) (o_catAt : Int32) (o_tape : Value) (o_scanner : Value) (o_town : Value) (o_was : Value) (o_trial : Value) (o_night : Value) (o_plans : Value) (o_undone : Value) (o_images : Value) (o_often : Value) (o_next : Value) (res : (Int32 × Int32 × Int32)) (hM : MX1_imageN  = some res) : Met l yX1_image (ws_ yX1_image cX1_image 1 (some .int)) ({ frames := 1, cells := 0, slots := 0, locals := 21 }) (pre_ D dA [.ref h_o] [(h_o, .inr (0, [o_tape, .int o_taped, o_scanner, .null, .int o_trouble, .int o_fault, .int o_where, .int o_imageMany, .int o_undoMany, o_town, o_was, o_trial, o_night, o_plans, o_undone, o_images, o_often, .int o_firstRest, o_next, .int o_catAt]))] sz) (qi_ D res.1 (fun (u : Unit) => [(h_o, .inr (0, [o_tape, .int o_taped, o_scanner, .null, .int res.2.1, .int o_fault, .int res.2.2, .int o_imageMany, .int o_undoMany, o_town, o_was, o_trial, o_night, o_plans, o_undone, o_images, o_often, .int o_firstRest, o_next, .int o_catAt]))]) (va_A [(h_o, .inr (0, [o_tape, .int o_taped, o_scanner, .null, .int o_trouble, .int o_fault, .int o_where, .int o_imageMany, .int o_undoMany, o_town, o_was, o_trial, o_night, o_plans, o_undone, o_images, o_often, .int o_firstRest, o_next, .int o_catAt]))] sz)) 0 0 (va_A [(h_o, .inr (0, [o_tape, .int o_taped, o_scanner, .null, .int o_trouble, .int o_fault, .int o_where, .int o_imageMany, .int o_undoMany, o_town, o_was, o_trial, o_night, o_plans, o_undone, o_images, o_often, .int o_firstRest, o_next, .int o_catAt]))] sz) := by
  refine Met.ofW (cc := cX1_image) (maxL := 1) (ret := (some .int)) (by decide) rfl ?_
  intro p e s m args below meth c s₁ B hml hv
  obtain ⟨rfl, hsz, hP, hK, hD0⟩ := hv
  have hx := B.exec
  have hb := B.bytes
  have hr := B.returns
  have hts := atoms_spec (ws := (ws_ yX1_image cX1_image 1 (some .int))) B.pre
  have hts : ∀ w ∈ lw_all, w.before _ s = true := fun w h => hts w (List.mem_cons_of_mem _ h)
  have hown : s.vm.findClass RX1 = some m.cls := findClass_of_methodNamed B.named
  have hlocks := B.notSynchronized
  subst hsz
  have hD := hD0.self (sz := s.heap.size)
  generalize hAe : va_A [(h_o, .inr (0, [o_tape, .int o_taped, o_scanner, .null, .int o_trouble, .int o_fault, .int o_where, .int o_imageMany, .int o_undoMany, o_town, o_was, o_trial, o_night, o_plans, o_undone, o_images, o_often, .int o_firstRest, o_next, .int o_catAt]))] s.heap.size = A at hD ⊢
  have hA : ∀ q : Nat, s.heap.size ≤ q → A q := fun q h => by rw [← hAe]; exact Or.inr h
  have hS : va_S A s.heap s.heap [] := va_S.rf
  have hP : va_P D clG [(h_o, .inr (0, [o_tape, .int o_taped, o_scanner, .null, .int o_trouble, .int o_fault, .int o_where, .int o_imageMany, .int o_undoMany, o_town, o_was, o_trial, o_night, o_plans, o_undone, o_images, o_often, .int o_firstRest, o_next, .int o_catAt]))] s.heap := hP
  have hl := lv_entry ([.ref h_o]) (n := 1) (Nat.le_of_ble_eq_true rfl)
  rw [lg_entry_eq]
  generalize (lg_sl ([.ref h_o]) ++ List.replicate (1 - (lg_sl ([.ref h_o])).length) Slot.unset).toArray = ls at hl ⊢
  have hl : lv_has ls 1 [(0, .ref h_o)] := hl
  unfold MX1_imageN at hM
  refine lv_aload_n hx hb dX1_image_0 rfl (lv_at hl 0 rfl) ?_
  obtain ⟨r1, er1, hM⟩ := b_inv hM
  refine k_v0 [0] (va_runV (As := []) (rest := []) ⟨hx, hb, hml, hown, hts⟩ (ctX1_anew l D dA _ h_o o_taped o_trouble o_fault o_where o_imageMany o_undoMany o_firstRest o_catAt (o_tape) (o_scanner) (.null) (o_town) (o_was) (o_trial) (o_night) (o_plans) (o_undone) (o_images) (o_often) (o_next) r1 er1) (cwV 0 hts (lw_V q432 q434 qs2 q113 q435) rfl rfl rfl (by decide +kernel) ⟨Nat.le_of_ble_eq_true rfl, Nat.le_of_ble_eq_true rfl⟩) (pre_V (hP.sub [0] rfl) hK (hD.sub [0] (by decide) rfl) (ci := 0) (q0 := 0) rfl rfl) rfl rfl hl.1 rfl (lv_room (Nat.le_of_ble_eq_true rfl)) dX1_image_1 ⟨Nat.le_of_ble_eq_true rfl, Nat.le_of_ble_eq_true rfl⟩) hP hD hS hA rfl (fun _ => rfl) (fun u2 H locs hP hD hS => ?_)
  have hP : va_P D clG [(h_o, .inr (0, [o_tape, .int o_taped, o_scanner, .null, .int r1.1, .int o_fault, .int r1.2, .int o_imageMany, .int o_undoMany, o_town, o_was, o_trial, o_night, o_plans, o_undone, o_images, o_often, .int o_firstRest, o_next, .int o_catAt]))] H := hP
  have hD : va_D A [(h_o, .inr (0, [o_tape, .int o_taped, o_scanner, .null, .int r1.1, .int o_fault, .int r1.2, .int o_imageMany, .int o_undoMany, o_town, o_was, o_trial, o_night, o_plans, o_undone, o_images, o_often, .int o_firstRest, o_next, .int o_catAt]))] := hD
  refine lv_aload_n hx hb dX1_image_4 rfl (lv_at hl 0 rfl) ?_
  refine va_get (D := D) (ci := 0) (v := .null) (C := RX1) (T := TX1) (N := 20) hx hb hts in_X1 hown hK.1 hP 0 rfl rfl 3 (by decide) (hts _ q361) (fun _ h9 => h9) rfl dX1_image_5 ?_
  refine lv_ifnonnullN hx hb dX1_image_8 ?_
  refine lv_aload_n hx hb dX1_image_11 rfl (lv_at hl 0 rfl) ?_
  refine lv_iconst (v := (1 : Int32)) hx hb dX1_image_12 (by decide) ?_
  obtain ⟨r3, er3, hM⟩ := b_inv hM
  refine k_i0 [0] (va_runV (As := [.int (1 : Int32)]) (rest := []) ⟨hx, hb, hml, hown, hts⟩ (ctX1_no l D dA _ h_o (1 : Int32) o_taped r1.1 o_fault r1.2 o_imageMany o_undoMany o_firstRest o_catAt (o_tape) (o_scanner) (.null) (o_town) (o_was) (o_trial) (o_night) (o_plans) (o_undone) (o_images) (o_often) (o_next) r3 er3) (cwV 1 hts (lw_V q439 q441 qs3 q113 q442) rfl rfl rfl (by decide +kernel) ⟨Nat.le_of_ble_eq_true rfl, Nat.le_of_ble_eq_true rfl⟩) (pre_V (hP.sub [0] rfl) hK (hD.sub [0] (by decide) rfl) (ci := 0) (q0 := 0) rfl rfl) rfl rfl hl.1 rfl (lv_room (Nat.le_of_ble_eq_true rfl)) dX1_image_13 ⟨Nat.le_of_ble_eq_true rfl, Nat.le_of_ble_eq_true rfl⟩) hP hD hS hA rfl (fun _ => rfl) (fun u4 H locs hP hD hS => ?_)
  have hP : va_P D clG [(h_o, .inr (0, [o_tape, .int o_taped, o_scanner, .null, .int r3.2, .int o_fault, .int r1.2, .int o_imageMany, .int o_undoMany, o_town, o_was, o_trial, o_night, o_plans, o_undone, o_images, o_often, .int o_firstRest, o_next, .int o_catAt]))] H := hP
  have hD : va_D A [(h_o, .inr (0, [o_tape, .int o_taped, o_scanner, .null, .int r3.2, .int o_fault, .int r1.2, .int o_imageMany, .int o_undoMany, o_town, o_was, o_trial, o_night, o_plans, o_undone, o_images, o_often, .int o_firstRest, o_next, .int o_catAt]))] := hD
  have hM := Option.some.inj hM
  subst hM
  exact W.iret (v := r3.1) hx hb hr (fun t ht hW => ⟨⟨r3.1, (), rfl, rfl, by rw [ht]; exact hP, hD⟩, hS.F ht⟩) hS.2.2 dX1_image_16

set_option maxHeartbeats 40000000 in
set_option maxRecDepth 100000 in
theorem ctX7_imageN (l : Launch) (D : va_G) (dA : Nat → ClassId) (sz : Nat) (h_m : Nat) (m_thrown : Int32) (m_trouble : Int32) (m_where : Int32) (m_taped : Int32) (m_size : Int32) (m_spot : Int32) (m_sort : Int32) (m_place : Int32) (m_number : Int32) (m_fault : Int32) (m_wrongAt : Int32) (m_word : Int64) (m_askedOf : Int32) (m_acts : Int32) (m_images : Int32) (m_catGets : Int32) (m_whole : Int64) (m_bestSum : Int64) (m_tourHoursNow : Int32) (m_fitsNow : Int32) (m_foundHour : Int32) (m_lookLeft : Int32) (m_firstCatNow : Int32) (m_read : Value) (m_tape : Value) (m_v : Value) (m_x : Value) (m_past : Value) (m_kept : Value) (m_heir : Value) (m_then : Value) (m_come : Value) (m_comeThen : Value) (m_hour : Value) (m_partIn : Value) (m_heirIn : Value) (res : (Int32 × Int32 × Int32 × Int32)) (hM : MX7_imageN  = some res) : Met l yX7_image (ws_ yX7_image cX7_image 2 (some .int)) ({ frames := 1, cells := 0, slots := 0, locals := 21 }) (pre_ D dA [.ref h_m] [(h_m, .inr (11, [.int m_thrown, .int m_trouble, .int m_where, .null, m_read, m_tape, .int m_taped, .int m_size, .int m_spot, .int m_sort, .int m_place, .int m_number, .int m_fault, .int m_wrongAt, .long m_word, .int m_askedOf, m_v, m_x, m_past, m_kept, .int m_acts, .int m_images, m_heir, m_then, .int m_catGets, .long m_whole, .long m_bestSum, m_come, m_comeThen, .int m_tourHoursNow, m_hour, m_partIn, m_heirIn, .int m_fitsNow, .int m_foundHour, .int m_lookLeft, .int m_firstCatNow]))] sz) (qi_ D res.1 (fun (u : Unit) => [(h_m, .inr (11, [.int res.2.1, .int res.2.2.1, .int res.2.2.2, .null, m_read, m_tape, .int m_taped, .int m_size, .int m_spot, .int m_sort, .int m_place, .int m_number, .int m_fault, .int m_wrongAt, .long m_word, .int m_askedOf, m_v, m_x, m_past, m_kept, .int m_acts, .int m_images, m_heir, m_then, .int m_catGets, .long m_whole, .long m_bestSum, m_come, m_comeThen, .int m_tourHoursNow, m_hour, m_partIn, m_heirIn, .int m_fitsNow, .int m_foundHour, .int m_lookLeft, .int m_firstCatNow]))]) (va_A [(h_m, .inr (11, [.int m_thrown, .int m_trouble, .int m_where, .null, m_read, m_tape, .int m_taped, .int m_size, .int m_spot, .int m_sort, .int m_place, .int m_number, .int m_fault, .int m_wrongAt, .long m_word, .int m_askedOf, m_v, m_x, m_past, m_kept, .int m_acts, .int m_images, m_heir, m_then, .int m_catGets, .long m_whole, .long m_bestSum, m_come, m_comeThen, .int m_tourHoursNow, m_hour, m_partIn, m_heirIn, .int m_fitsNow, .int m_foundHour, .int m_lookLeft, .int m_firstCatNow]))] sz)) 0 0 (va_A [(h_m, .inr (11, [.int m_thrown, .int m_trouble, .int m_where, .null, m_read, m_tape, .int m_taped, .int m_size, .int m_spot, .int m_sort, .int m_place, .int m_number, .int m_fault, .int m_wrongAt, .long m_word, .int m_askedOf, m_v, m_x, m_past, m_kept, .int m_acts, .int m_images, m_heir, m_then, .int m_catGets, .long m_whole, .long m_bestSum, m_come, m_comeThen, .int m_tourHoursNow, m_hour, m_partIn, m_heirIn, .int m_fitsNow, .int m_foundHour, .int m_lookLeft, .int m_firstCatNow]))] sz) := by
  refine Met.ofW (cc := cX7_image) (maxL := 2) (ret := (some .int)) (by decide) rfl ?_
  intro p e s m args below meth c s₁ B hml hv
  obtain ⟨rfl, hsz, hP, hK, hD0⟩ := hv
  have hx := B.exec
  have hb := B.bytes
  have hr := B.returns
  have hts := atoms_spec (ws := (ws_ yX7_image cX7_image 2 (some .int))) B.pre
  have hts : ∀ w ∈ lw_all, w.before _ s = true := fun w h => hts w (List.mem_cons_of_mem _ h)
  have hown : s.vm.findClass RX7 = some m.cls := findClass_of_methodNamed B.named
  have hlocks := B.notSynchronized
  subst hsz
  have hD := hD0.self (sz := s.heap.size)
  generalize hAe : va_A [(h_m, .inr (11, [.int m_thrown, .int m_trouble, .int m_where, .null, m_read, m_tape, .int m_taped, .int m_size, .int m_spot, .int m_sort, .int m_place, .int m_number, .int m_fault, .int m_wrongAt, .long m_word, .int m_askedOf, m_v, m_x, m_past, m_kept, .int m_acts, .int m_images, m_heir, m_then, .int m_catGets, .long m_whole, .long m_bestSum, m_come, m_comeThen, .int m_tourHoursNow, m_hour, m_partIn, m_heirIn, .int m_fitsNow, .int m_foundHour, .int m_lookLeft, .int m_firstCatNow]))] s.heap.size = A at hD ⊢
  have hA : ∀ q : Nat, s.heap.size ≤ q → A q := fun q h => by rw [← hAe]; exact Or.inr h
  have hS : va_S A s.heap s.heap [] := va_S.rf
  have hP : va_P D clG [(h_m, .inr (11, [.int m_thrown, .int m_trouble, .int m_where, .null, m_read, m_tape, .int m_taped, .int m_size, .int m_spot, .int m_sort, .int m_place, .int m_number, .int m_fault, .int m_wrongAt, .long m_word, .int m_askedOf, m_v, m_x, m_past, m_kept, .int m_acts, .int m_images, m_heir, m_then, .int m_catGets, .long m_whole, .long m_bestSum, m_come, m_comeThen, .int m_tourHoursNow, m_hour, m_partIn, m_heirIn, .int m_fitsNow, .int m_foundHour, .int m_lookLeft, .int m_firstCatNow]))] s.heap := hP
  have hl := lv_entry ([.ref h_m]) (n := 2) (Nat.le_of_ble_eq_true rfl)
  rw [lg_entry_eq]
  generalize (lg_sl ([.ref h_m]) ++ List.replicate (2 - (lg_sl ([.ref h_m])).length) Slot.unset).toArray = ls at hl ⊢
  have hl : lv_has ls 2 [(0, .ref h_m)] := hl
  unfold MX7_imageN at hM
  refine lv_aload_n hx hb dX7_image_0 rfl (lv_at hl 0 rfl) ?_
  refine lv_iconst (v := (0 : Int32)) hx hb dX7_image_1 (by decide) ?_
  refine va_put (D := D) (ci := 11) (v := .int (0 : Int32)) (ty := .int) (C := RX7) (T := TX7) (N := 37) hx hb hts in_X7 tyX7 tyX7_ok nmX7 hown hK.1 hP hD hS 0 rfl rfl 0 (by decide) (hts _ q1372) (fun _ h9 => h9) rfl (by decide +kernel) rfl rfl (Nat.le_of_ble_eq_true rfl) dX7_image_2 (fun H locs hP hD hS => ?_)
  have hP : va_P D clG [(h_m, .inr (11, [.int (0 : Int32), .int m_trouble, .int m_where, .null, m_read, m_tape, .int m_taped, .int m_size, .int m_spot, .int m_sort, .int m_place, .int m_number, .int m_fault, .int m_wrongAt, .long m_word, .int m_askedOf, m_v, m_x, m_past, m_kept, .int m_acts, .int m_images, m_heir, m_then, .int m_catGets, .long m_whole, .long m_bestSum, m_come, m_comeThen, .int m_tourHoursNow, m_hour, m_partIn, m_heirIn, .int m_fitsNow, .int m_foundHour, .int m_lookLeft, .int m_firstCatNow]))] H := hP
  have hD : va_D A [(h_m, .inr (11, [.int (0 : Int32), .int m_trouble, .int m_where, .null, m_read, m_tape, .int m_taped, .int m_size, .int m_spot, .int m_sort, .int m_place, .int m_number, .int m_fault, .int m_wrongAt, .long m_word, .int m_askedOf, m_v, m_x, m_past, m_kept, .int m_acts, .int m_images, m_heir, m_then, .int m_catGets, .long m_whole, .long m_bestSum, m_come, m_comeThen, .int m_tourHoursNow, m_hour, m_partIn, m_heirIn, .int m_fitsNow, .int m_foundHour, .int m_lookLeft, .int m_firstCatNow]))] := hD
  refine lv_aload_n hx hb dX7_image_5 rfl (lv_at hl 0 rfl) ?_
  refine va_get (D := D) (ci := 11) (v := .null) (C := RX7) (T := TX7) (N := 37) hx hb hts in_X7 hown hK.1 hP 0 rfl rfl 3 (by decide) (hts _ q1375) (fun _ h9 => h9) rfl dX7_image_6 ?_
  refine lv_ifnonnullN hx hb dX7_image_9 ?_
  refine lv_aload_n hx hb dX7_image_12 rfl (lv_at hl 0 rfl) ?_
  refine lv_iconst (v := (1 : Int32)) hx hb dX7_image_13 (by decide) ?_
  obtain ⟨r1, er1, hM⟩ := b_inv hM
  refine k_i0 [0] (va_runV (As := [.int (1 : Int32)]) (rest := []) ⟨hx, hb, hml, hown, hts⟩ (ctX7_refused l D dA _ h_m (1 : Int32) (0 : Int32) m_trouble m_where m_taped m_size m_spot m_sort m_place m_number m_fault m_wrongAt m_word m_askedOf m_acts m_images m_catGets m_whole m_bestSum m_tourHoursNow m_fitsNow m_foundHour m_lookLeft m_firstCatNow (.null) (m_read) (m_tape) (m_v) (m_x) (m_past) (m_kept) (m_heir) (m_then) (m_come) (m_comeThen) (m_hour) (m_partIn) (m_heirIn) r1 er1) (cwV 1 hts (lw_V q1496 q1498 qs50 q122 q1499) rfl rfl rfl (by decide +kernel) ⟨Nat.le_of_ble_eq_true rfl, Nat.le_of_ble_eq_true rfl⟩) (pre_V (hP.sub [0] rfl) hK (hD.sub [0] (by decide) rfl) (ci := 11) (q0 := 0) rfl rfl) rfl rfl hl.1 rfl (lv_room (Nat.le_of_ble_eq_true rfl)) dX7_image_14 ⟨Nat.le_of_ble_eq_true rfl, Nat.le_of_ble_eq_true rfl⟩) hP hD hS hA rfl (fun _ => rfl) (fun u2 H locs hP hD hS => ?_)
  have hP : va_P D clG [(h_m, .inr (11, [.int (0 : Int32), .int r1.2.1, .int r1.2.2, .null, m_read, m_tape, .int m_taped, .int m_size, .int m_spot, .int m_sort, .int m_place, .int m_number, .int m_fault, .int m_wrongAt, .long m_word, .int m_askedOf, m_v, m_x, m_past, m_kept, .int m_acts, .int m_images, m_heir, m_then, .int m_catGets, .long m_whole, .long m_bestSum, m_come, m_comeThen, .int m_tourHoursNow, m_hour, m_partIn, m_heirIn, .int m_fitsNow, .int m_foundHour, .int m_lookLeft, .int m_firstCatNow]))] H := hP
  have hD : va_D A [(h_m, .inr (11, [.int (0 : Int32), .int r1.2.1, .int r1.2.2, .null, m_read, m_tape, .int m_taped, .int m_size, .int m_spot, .int m_sort, .int m_place, .int m_number, .int m_fault, .int m_wrongAt, .long m_word, .int m_askedOf, m_v, m_x, m_past, m_kept, .int m_acts, .int m_images, m_heir, m_then, .int m_catGets, .long m_whole, .long m_bestSum, m_come, m_comeThen, .int m_tourHoursNow, m_hour, m_partIn, m_heirIn, .int m_fitsNow, .int m_foundHour, .int m_lookLeft, .int m_firstCatNow]))] := hD
  have hM := Option.some.inj hM
  subst hM
  exact W.iret (v := r1.1) hx hb hr (fun t ht hW => ⟨⟨r1.1, (), rfl, rfl, by rw [ht]; exact hP, hD⟩, hS.F ht⟩) hS.2.2 dX7_image_17

set_option maxHeartbeats 40000000 in
set_option maxRecDepth 100000 in
theorem ctX1_backN (l : Launch) (D : va_G) (dA : Nat → ClassId) (sz : Nat) (h_o : Nat) (h_o_images : Nat) (p0 : Int32) (o_taped : Int32) (o_trouble : Int32) (o_fault : Int32) (o_where : Int32) (o_imageMany : Int32) (o_undoMany : Int32) (o_firstRest : Int32) (o_catAt : Int32) (o_tape : Value) (o_scanner : Value) (o_town : Value) (o_was : Value) (o_trial : Value) (o_night : Value) (o_plans : Value) (o_undone : Value) (o_often : Value) (o_next : Value) (o_images_r : Nat → Option Nat) (res : (Bool × Int32 × Int32)) (hM : MX1_backN p0 o_imageMany = some res) : Met l yX1_back (ws_ yX1_back cX1_back 2 (some .boolean)) ({ frames := 2, cells := 0, slots := 0, locals := 41 }) (pre_ D dA [.ref h_o, .int p0] [(h_o, .inr (0, [o_tape, .int o_taped, o_scanner, .null, .int o_trouble, .int o_fault, .int o_where, .int o_imageMany, .int o_undoMany, o_town, o_was, o_trial, o_night, o_plans, o_undone, .ref h_o_images, o_often, .int o_firstRest, o_next, .int o_catAt])), (h_o_images, .inl (dA 5, 3, .inr (.inr (.inr (.inr o_images_r)))))] sz) (qi_ D (b2i res.1) (fun (u : Unit) => [(h_o, .inr (0, [o_tape, .int o_taped, o_scanner, .null, .int res.2.1, .int o_fault, .int res.2.2, .int o_imageMany, .int o_undoMany, o_town, o_was, o_trial, o_night, o_plans, o_undone, .ref h_o_images, o_often, .int o_firstRest, o_next, .int o_catAt])), (h_o_images, .inl (dA 5, 3, .inr (.inr (.inr (.inr o_images_r)))))]) (va_A [(h_o, .inr (0, [o_tape, .int o_taped, o_scanner, .null, .int o_trouble, .int o_fault, .int o_where, .int o_imageMany, .int o_undoMany, o_town, o_was, o_trial, o_night, o_plans, o_undone, .ref h_o_images, o_often, .int o_firstRest, o_next, .int o_catAt])), (h_o_images, .inl (dA 5, 3, .inr (.inr (.inr (.inr o_images_r)))))] sz)) 0 0 (va_A [(h_o, .inr (0, [o_tape, .int o_taped, o_scanner, .null, .int o_trouble, .int o_fault, .int o_where, .int o_imageMany, .int o_undoMany, o_town, o_was, o_trial, o_night, o_plans, o_undone, .ref h_o_images, o_often, .int o_firstRest, o_next, .int o_catAt])), (h_o_images, .inl (dA 5, 3, .inr (.inr (.inr (.inr o_images_r)))))] sz) := by
  refine Met.ofW (cc := cX1_back) (maxL := 2) (ret := (some .boolean)) (by decide) rfl ?_
  intro p e s m args below meth c s₁ B hml hv
  obtain ⟨rfl, hsz, hP, hK, hD0⟩ := hv
  have hx := B.exec
  have hb := B.bytes
  have hr := B.returns
  have hts := atoms_spec (ws := (ws_ yX1_back cX1_back 2 (some .boolean))) B.pre
  have hts : ∀ w ∈ lw_all, w.before _ s = true := fun w h => hts w (List.mem_cons_of_mem _ h)
  have hown : s.vm.findClass RX1 = some m.cls := findClass_of_methodNamed B.named
  have hlocks := B.notSynchronized
  subst hsz
  have hD := hD0.self (sz := s.heap.size)
  generalize hAe : va_A [(h_o, .inr (0, [o_tape, .int o_taped, o_scanner, .null, .int o_trouble, .int o_fault, .int o_where, .int o_imageMany, .int o_undoMany, o_town, o_was, o_trial, o_night, o_plans, o_undone, .ref h_o_images, o_often, .int o_firstRest, o_next, .int o_catAt])), (h_o_images, .inl (dA 5, 3, .inr (.inr (.inr (.inr o_images_r)))))] s.heap.size = A at hD ⊢
  have hA : ∀ q : Nat, s.heap.size ≤ q → A q := fun q h => by rw [← hAe]; exact Or.inr h
  have hS : va_S A s.heap s.heap [] := va_S.rf
  have hP : va_P D clG [(h_o, .inr (0, [o_tape, .int o_taped, o_scanner, .null, .int o_trouble, .int o_fault, .int o_where, .int o_imageMany, .int o_undoMany, o_town, o_was, o_trial, o_night, o_plans, o_undone, .ref h_o_images, o_often, .int o_firstRest, o_next, .int o_catAt])), (h_o_images, .inl (dA 5, 3, .inr (.inr (.inr (.inr o_images_r)))))] s.heap := hP
  have hl := lv_entry ([.ref h_o, .int p0]) (n := 2) (Nat.le_of_ble_eq_true rfl)
  rw [lg_entry_eq]
  generalize (lg_sl ([.ref h_o, .int p0]) ++ List.replicate (2 - (lg_sl ([.ref h_o, .int p0])).length) Slot.unset).toArray = ls at hl ⊢
  have hl : lv_has ls 2 [(0, .ref h_o), (1, .int p0)] := hl
  unfold MX1_backN at hM
  refine lv_aload_n hx hb dX1_back_0 rfl (lv_at hl 0 rfl) ?_
  refine lv_iload_n hx hb dX1_back_1 rfl (lv_at hl 1 rfl) ?_
  refine lv_iconst (v := (0 : Int32)) hx hb dX1_back_2 (by decide) ?_
  refine lv_aload_n hx hb dX1_back_3 rfl (lv_at hl 0 rfl) ?_
  refine va_get (D := D) (ci := 0) (v := .int o_imageMany) (C := RX1) (T := TX1) (N := 20) hx hb hts in_X1 hown hK.1 hP 0 rfl rfl 7 (by decide) (hts _ q365) (fun _ h9 => h9) rfl dX1_back_4 ?_
  refine lv_iconst (v := (1 : Int32)) hx hb dX1_back_7 (by decide) ?_
  refine lv_isub hx hb dX1_back_8 ?_
  obtain ⟨r1, er1, hM⟩ := b_inv hM
  refine k_i0 [] (va_runS (As := [.int p0, .int (0 : Int32), .int (o_imageMany - (1 : Int32))]) (rest := [.ref h_o]) ⟨hx, hb, hml, hown, hts⟩ (ctX1_in l D dA _ p0 (0 : Int32) (o_imageMany - (1 : Int32)) r1 er1) (va_cwS 3 hts (lw_S q436 q437 q113 q438) rfl rfl rfl (by decide +kernel) ⟨Nat.le_of_ble_eq_true rfl, Nat.le_of_ble_eq_true rfl⟩) (pre_S (hP.sub [] rfl) hK (hD.sub [] (by decide) rfl)) rfl rfl hl.1 rfl (lv_room (Nat.le_of_ble_eq_true rfl)) dX1_back_9 ⟨Nat.le_of_ble_eq_true rfl, Nat.le_of_ble_eq_true rfl⟩) hP hD hS hA rfl (fun _ => rfl) (fun u2 H locs hP hD hS => ?_)
  have hP : va_P D clG [(h_o, .inr (0, [o_tape, .int o_taped, o_scanner, .null, .int o_trouble, .int o_fault, .int o_where, .int o_imageMany, .int o_undoMany, o_town, o_was, o_trial, o_night, o_plans, o_undone, .ref h_o_images, o_often, .int o_firstRest, o_next, .int o_catAt])), (h_o_images, .inl (dA 5, 3, .inr (.inr (.inr (.inr o_images_r)))))] H := hP
  have hD : va_D A [(h_o, .inr (0, [o_tape, .int o_taped, o_scanner, .null, .int o_trouble, .int o_fault, .int o_where, .int o_imageMany, .int o_undoMany, o_town, o_was, o_trial, o_night, o_plans, o_undone, .ref h_o_images, o_often, .int o_firstRest, o_next, .int o_catAt])), (h_o_images, .inl (dA 5, 3, .inr (.inr (.inr (.inr o_images_r)))))] := hD
  refine lv_if_eq (tgt := 19) hx hb dX1_back_12 (by decide) (fun c3 => ?_) (fun c3 => ?_)
  · rw [if_pos c3] at hM
    refine lv_iconst (v := (1 : Int32)) hx hb dX1_back_19 (by decide) ?_
    obtain ⟨r4, er4, hM⟩ := b_inv hM
    refine k_i0 [0] (va_runV (As := [.int (1 : Int32)]) (rest := []) ⟨hx, hb, hml, hown, hts⟩ (ctX1_yes l D dA _ h_o (1 : Int32) o_taped o_trouble o_fault o_where o_imageMany o_undoMany o_firstRest o_catAt (o_tape) (o_scanner) (.null) (o_town) (o_was) (o_trial) (o_night) (o_plans) (o_undone) (.ref h_o_images) (o_often) (o_next) r4 er4) (cwV 1 hts (lw_V q1313 q1315 qs49 q113 q1316) rfl rfl rfl (by decide +kernel) ⟨Nat.le_of_ble_eq_true rfl, Nat.le_of_ble_eq_true rfl⟩) (pre_V (hP.sub [0] rfl) hK (hD.sub [0] (by decide) rfl) (ci := 0) (q0 := 0) rfl rfl) rfl rfl hl.1 rfl (lv_room (Nat.le_of_ble_eq_true rfl)) dX1_back_20 ⟨Nat.le_of_ble_eq_true rfl, Nat.le_of_ble_eq_true rfl⟩) hP hD hS hA rfl (fun _ => rfl) (fun u5 H locs hP hD hS => ?_)
    have hP : va_P D clG [(h_o, .inr (0, [o_tape, .int o_taped, o_scanner, .null, .int r4.2.1, .int o_fault, .int r4.2.2, .int o_imageMany, .int o_undoMany, o_town, o_was, o_trial, o_night, o_plans, o_undone, .ref h_o_images, o_often, .int o_firstRest, o_next, .int o_catAt])), (h_o_images, .inl (dA 5, 3, .inr (.inr (.inr (.inr o_images_r)))))] H := hP
    have hD : va_D A [(h_o, .inr (0, [o_tape, .int o_taped, o_scanner, .null, .int r4.2.1, .int o_fault, .int r4.2.2, .int o_imageMany, .int o_undoMany, o_town, o_was, o_trial, o_night, o_plans, o_undone, .ref h_o_images, o_often, .int o_firstRest, o_next, .int o_catAt])), (h_o_images, .inl (dA 5, 3, .inr (.inr (.inr (.inr o_images_r)))))] := hD
    have kr4 := (kyn (show ¬ (1 : Int32) = 0 by decide)) er4
    refine lv_toi (v := (0 : Int32)) (by rw [kr4]; rfl) ?_
    refine lv_if_ne (tgt := 28) hx hb dX1_back_23 (by decide) (fun c6 => absurd c6 (by decide)) (fun _ => ?_)
    refine lv_iconst (v := (0 : Int32)) hx hb dX1_back_26 (by decide) ?_
    have hM := Option.some.inj hM
    subst hM
    exact W.zret (v := b2i false) hx hb hr (nar_b _) (fun t ht hW => ⟨⟨b2i false, (), rfl, rfl, by rw [ht]; exact hP, hD⟩, hS.F ht⟩) hS.2.2 dX1_back_27
  · rw [if_neg c3] at hM
    refine lv_iconst (v := (0 : Int32)) hx hb dX1_back_15 (by decide) ?_
    refine lv_goto (tgt := 20) hx hb dX1_back_16 (by decide) ?_
    obtain ⟨r7, er7, hM⟩ := b_inv hM
    refine k_i0 [0] (va_runV (As := [.int (0 : Int32)]) (rest := []) ⟨hx, hb, hml, hown, hts⟩ (ctX1_yes l D dA _ h_o (0 : Int32) o_taped o_trouble o_fault o_where o_imageMany o_undoMany o_firstRest o_catAt (o_tape) (o_scanner) (.null) (o_town) (o_was) (o_trial) (o_night) (o_plans) (o_undone) (.ref h_o_images) (o_often) (o_next) r7 er7) (cwV 1 hts (lw_V q1313 q1315 qs49 q113 q1316) rfl rfl rfl (by decide +kernel) ⟨Nat.le_of_ble_eq_true rfl, Nat.le_of_ble_eq_true rfl⟩) (pre_V (hP.sub [0] rfl) hK (hD.sub [0] (by decide) rfl) (ci := 0) (q0 := 0) rfl rfl) rfl rfl hl.1 rfl (lv_room (Nat.le_of_ble_eq_true rfl)) dX1_back_20 ⟨Nat.le_of_ble_eq_true rfl, Nat.le_of_ble_eq_true rfl⟩) hP hD hS hA rfl (fun _ => rfl) (fun u8 H locs hP hD hS => ?_)
    have hP : va_P D clG [(h_o, .inr (0, [o_tape, .int o_taped, o_scanner, .null, .int r7.2.1, .int o_fault, .int r7.2.2, .int o_imageMany, .int o_undoMany, o_town, o_was, o_trial, o_night, o_plans, o_undone, .ref h_o_images, o_often, .int o_firstRest, o_next, .int o_catAt])), (h_o_images, .inl (dA 5, 3, .inr (.inr (.inr (.inr o_images_r)))))] H := hP
    have hD : va_D A [(h_o, .inr (0, [o_tape, .int o_taped, o_scanner, .null, .int r7.2.1, .int o_fault, .int r7.2.2, .int o_imageMany, .int o_undoMany, o_town, o_was, o_trial, o_night, o_plans, o_undone, .ref h_o_images, o_often, .int o_firstRest, o_next, .int o_catAt])), (h_o_images, .inl (dA 5, 3, .inr (.inr (.inr (.inr o_images_r)))))] := hD
    have kr7 := ky0 er7
    refine lv_toi (v := (1 : Int32)) (by rw [kr7]; rfl) ?_
    refine lv_if_ne (tgt := 28) hx hb dX1_back_23 (by decide) (fun _ => ?_) (fun c9 => absurd c9 (by decide))
    refine lv_aload_n hx hb dX1_back_28 rfl (lv_at hl 0 rfl) ?_
    refine va_get (D := D) (ci := 0) (v := o_town) (C := RX1) (T := TX1) (N := 20) hx hb hts in_X1 hown hK.1 hP 0 rfl rfl 9 (by decide) (hts _ q367) (fun _ h9 => h9) rfl dX1_back_29 ?_
    refine lv_aload_n hx hb dX1_back_32 rfl (lv_at hl 0 rfl) ?_
    refine va_get (D := D) (ci := 0) (v := .ref h_o_images) (C := RX1) (T := TX1) (N := 20) hx hb hts in_X1 hown hK.1 hP 0 rfl rfl 15 (by decide) (hts _ q373) (fun _ h9 => h9) rfl dX1_back_33 ?_
    refine lv_iload_n hx hb dX1_back_36 rfl (lv_at hl 1 rfl) ?_
    cases hM
theorem krX1_backN (p0 : Int32) (o_imageMany : Int32) (res : (Bool × Int32 × Int32)) (h : MX1_backN p0 o_imageMany = some res) : res.1 = false := by
  unfold MX1_backN at h
  repeat first | (obtain ⟨_, _, h⟩ := b_inv h) | (split at h)
  all_goals (cases h; rfl)

set_option maxHeartbeats 40000000 in
set_option maxRecDepth 100000 in
theorem ctX7_backN (l : Launch) (D : va_G) (dA : Nat → ClassId) (sz : Nat) (h_m : Nat) (p0 : Int32) (m_thrown : Int32) (m_trouble : Int32) (m_where : Int32) (m_taped : Int32) (m_size : Int32) (m_spot : Int32) (m_sort : Int32) (m_place : Int32) (m_number : Int32) (m_fault : Int32) (m_wrongAt : Int32) (m_word : Int64) (m_askedOf : Int32) (m_acts : Int32) (m_images : Int32) (m_catGets : Int32) (m_whole : Int64) (m_bestSum : Int64) (m_tourHoursNow : Int32) (m_fitsNow : Int32) (m_foundHour : Int32) (m_lookLeft : Int32) (m_firstCatNow : Int32) (m_read : Value) (m_tape : Value) (m_v : Value) (m_x : Value) (m_past : Value) (m_kept : Value) (m_heir : Value) (m_then : Value) (m_come : Value) (m_comeThen : Value) (m_hour : Value) (m_partIn : Value) (m_heirIn : Value) (res : (Bool × Int32 × Int32 × Int32)) (hM : MX7_backN  = some res) : Met l yX7_back (ws_ yX7_back cX7_back 3 (some .boolean)) ({ frames := 2, cells := 0, slots := 0, locals := 42 }) (pre_ D dA [.ref h_m, .int p0] [(h_m, .inr (11, [.int m_thrown, .int m_trouble, .int m_where, .null, m_read, m_tape, .int m_taped, .int m_size, .int m_spot, .int m_sort, .int m_place, .int m_number, .int m_fault, .int m_wrongAt, .long m_word, .int m_askedOf, m_v, m_x, m_past, m_kept, .int m_acts, .int m_images, m_heir, m_then, .int m_catGets, .long m_whole, .long m_bestSum, m_come, m_comeThen, .int m_tourHoursNow, m_hour, m_partIn, m_heirIn, .int m_fitsNow, .int m_foundHour, .int m_lookLeft, .int m_firstCatNow]))] sz) (qi_ D (b2i res.1) (fun (u : Unit) => [(h_m, .inr (11, [.int res.2.1, .int res.2.2.1, .int res.2.2.2, .null, m_read, m_tape, .int m_taped, .int m_size, .int m_spot, .int m_sort, .int m_place, .int m_number, .int m_fault, .int m_wrongAt, .long m_word, .int m_askedOf, m_v, m_x, m_past, m_kept, .int m_acts, .int m_images, m_heir, m_then, .int m_catGets, .long m_whole, .long m_bestSum, m_come, m_comeThen, .int m_tourHoursNow, m_hour, m_partIn, m_heirIn, .int m_fitsNow, .int m_foundHour, .int m_lookLeft, .int m_firstCatNow]))]) (va_A [(h_m, .inr (11, [.int m_thrown, .int m_trouble, .int m_where, .null, m_read, m_tape, .int m_taped, .int m_size, .int m_spot, .int m_sort, .int m_place, .int m_number, .int m_fault, .int m_wrongAt, .long m_word, .int m_askedOf, m_v, m_x, m_past, m_kept, .int m_acts, .int m_images, m_heir, m_then, .int m_catGets, .long m_whole, .long m_bestSum, m_come, m_comeThen, .int m_tourHoursNow, m_hour, m_partIn, m_heirIn, .int m_fitsNow, .int m_foundHour, .int m_lookLeft, .int m_firstCatNow]))] sz)) 0 0 (va_A [(h_m, .inr (11, [.int m_thrown, .int m_trouble, .int m_where, .null, m_read, m_tape, .int m_taped, .int m_size, .int m_spot, .int m_sort, .int m_place, .int m_number, .int m_fault, .int m_wrongAt, .long m_word, .int m_askedOf, m_v, m_x, m_past, m_kept, .int m_acts, .int m_images, m_heir, m_then, .int m_catGets, .long m_whole, .long m_bestSum, m_come, m_comeThen, .int m_tourHoursNow, m_hour, m_partIn, m_heirIn, .int m_fitsNow, .int m_foundHour, .int m_lookLeft, .int m_firstCatNow]))] sz) := by
  refine Met.ofW (cc := cX7_back) (maxL := 3) (ret := (some .boolean)) (by decide) rfl ?_
  intro p e s m args below meth c s₁ B hml hv
  obtain ⟨rfl, hsz, hP, hK, hD0⟩ := hv
  have hx := B.exec
  have hb := B.bytes
  have hr := B.returns
  have hts := atoms_spec (ws := (ws_ yX7_back cX7_back 3 (some .boolean))) B.pre
  have hts : ∀ w ∈ lw_all, w.before _ s = true := fun w h => hts w (List.mem_cons_of_mem _ h)
  have hown : s.vm.findClass RX7 = some m.cls := findClass_of_methodNamed B.named
  have hlocks := B.notSynchronized
  subst hsz
  have hD := hD0.self (sz := s.heap.size)
  generalize hAe : va_A [(h_m, .inr (11, [.int m_thrown, .int m_trouble, .int m_where, .null, m_read, m_tape, .int m_taped, .int m_size, .int m_spot, .int m_sort, .int m_place, .int m_number, .int m_fault, .int m_wrongAt, .long m_word, .int m_askedOf, m_v, m_x, m_past, m_kept, .int m_acts, .int m_images, m_heir, m_then, .int m_catGets, .long m_whole, .long m_bestSum, m_come, m_comeThen, .int m_tourHoursNow, m_hour, m_partIn, m_heirIn, .int m_fitsNow, .int m_foundHour, .int m_lookLeft, .int m_firstCatNow]))] s.heap.size = A at hD ⊢
  have hA : ∀ q : Nat, s.heap.size ≤ q → A q := fun q h => by rw [← hAe]; exact Or.inr h
  have hS : va_S A s.heap s.heap [] := va_S.rf
  have hP : va_P D clG [(h_m, .inr (11, [.int m_thrown, .int m_trouble, .int m_where, .null, m_read, m_tape, .int m_taped, .int m_size, .int m_spot, .int m_sort, .int m_place, .int m_number, .int m_fault, .int m_wrongAt, .long m_word, .int m_askedOf, m_v, m_x, m_past, m_kept, .int m_acts, .int m_images, m_heir, m_then, .int m_catGets, .long m_whole, .long m_bestSum, m_come, m_comeThen, .int m_tourHoursNow, m_hour, m_partIn, m_heirIn, .int m_fitsNow, .int m_foundHour, .int m_lookLeft, .int m_firstCatNow]))] s.heap := hP
  have hl := lv_entry ([.ref h_m, .int p0]) (n := 3) (Nat.le_of_ble_eq_true rfl)
  rw [lg_entry_eq]
  generalize (lg_sl ([.ref h_m, .int p0]) ++ List.replicate (3 - (lg_sl ([.ref h_m, .int p0])).length) Slot.unset).toArray = ls at hl ⊢
  have hl : lv_has ls 3 [(0, .ref h_m), (1, .int p0)] := hl
  unfold MX7_backN at hM
  refine lv_aload_n hx hb dX7_back_0 rfl (lv_at hl 0 rfl) ?_
  refine lv_iconst (v := (0 : Int32)) hx hb dX7_back_1 (by decide) ?_
  refine va_put (D := D) (ci := 11) (v := .int (0 : Int32)) (ty := .int) (C := RX7) (T := TX7) (N := 37) hx hb hts in_X7 tyX7 tyX7_ok nmX7 hown hK.1 hP hD hS 0 rfl rfl 0 (by decide) (hts _ q1372) (fun _ h9 => h9) rfl (by decide +kernel) rfl rfl (Nat.le_of_ble_eq_true rfl) dX7_back_2 (fun H locs hP hD hS => ?_)
  have hP : va_P D clG [(h_m, .inr (11, [.int (0 : Int32), .int m_trouble, .int m_where, .null, m_read, m_tape, .int m_taped, .int m_size, .int m_spot, .int m_sort, .int m_place, .int m_number, .int m_fault, .int m_wrongAt, .long m_word, .int m_askedOf, m_v, m_x, m_past, m_kept, .int m_acts, .int m_images, m_heir, m_then, .int m_catGets, .long m_whole, .long m_bestSum, m_come, m_comeThen, .int m_tourHoursNow, m_hour, m_partIn, m_heirIn, .int m_fitsNow, .int m_foundHour, .int m_lookLeft, .int m_firstCatNow]))] H := hP
  have hD : va_D A [(h_m, .inr (11, [.int (0 : Int32), .int m_trouble, .int m_where, .null, m_read, m_tape, .int m_taped, .int m_size, .int m_spot, .int m_sort, .int m_place, .int m_number, .int m_fault, .int m_wrongAt, .long m_word, .int m_askedOf, m_v, m_x, m_past, m_kept, .int m_acts, .int m_images, m_heir, m_then, .int m_catGets, .long m_whole, .long m_bestSum, m_come, m_comeThen, .int m_tourHoursNow, m_hour, m_partIn, m_heirIn, .int m_fitsNow, .int m_foundHour, .int m_lookLeft, .int m_firstCatNow]))] := hD
  refine lv_aload_n hx hb dX7_back_5 rfl (lv_at hl 0 rfl) ?_
  refine va_get (D := D) (ci := 11) (v := .null) (C := RX7) (T := TX7) (N := 37) hx hb hts in_X7 hown hK.1 hP 0 rfl rfl 3 (by decide) (hts _ q1375) (fun _ h9 => h9) rfl dX7_back_6 ?_
  refine lv_ifnullN (tgt := 24) hx hb dX7_back_9 (by decide) ?_
  refine lv_aload_n hx hb dX7_back_24 rfl (lv_at hl 0 rfl) ?_
  refine lv_iconst (v := (1 : Int32)) hx hb dX7_back_25 (by decide) ?_
  obtain ⟨r1, er1, hM⟩ := b_inv hM
  refine k_i0 [0] (va_runV (As := [.int (1 : Int32)]) (rest := []) ⟨hx, hb, hml, hown, hts⟩ (ctX7_denied l D dA _ h_m (1 : Int32) (0 : Int32) m_trouble m_where m_taped m_size m_spot m_sort m_place m_number m_fault m_wrongAt m_word m_askedOf m_acts m_images m_catGets m_whole m_bestSum m_tourHoursNow m_fitsNow m_foundHour m_lookLeft m_firstCatNow (.null) (m_read) (m_tape) (m_v) (m_x) (m_past) (m_kept) (m_heir) (m_then) (m_come) (m_comeThen) (m_hour) (m_partIn) (m_heirIn) r1 er1) (cwV 1 hts (lw_V q2066 q2068 qs110 q122 q2069) rfl rfl rfl (by decide +kernel) ⟨Nat.le_of_ble_eq_true rfl, Nat.le_of_ble_eq_true rfl⟩) (pre_V (hP.sub [0] rfl) hK (hD.sub [0] (by decide) rfl) (ci := 11) (q0 := 0) rfl rfl) rfl rfl hl.1 rfl (lv_room (Nat.le_of_ble_eq_true rfl)) dX7_back_26 ⟨Nat.le_of_ble_eq_true rfl, Nat.le_of_ble_eq_true rfl⟩) hP hD hS hA rfl (fun _ => rfl) (fun u2 H locs hP hD hS => ?_)
  have hP : va_P D clG [(h_m, .inr (11, [.int (0 : Int32), .int r1.2.1, .int r1.2.2, .null, m_read, m_tape, .int m_taped, .int m_size, .int m_spot, .int m_sort, .int m_place, .int m_number, .int m_fault, .int m_wrongAt, .long m_word, .int m_askedOf, m_v, m_x, m_past, m_kept, .int m_acts, .int m_images, m_heir, m_then, .int m_catGets, .long m_whole, .long m_bestSum, m_come, m_comeThen, .int m_tourHoursNow, m_hour, m_partIn, m_heirIn, .int m_fitsNow, .int m_foundHour, .int m_lookLeft, .int m_firstCatNow]))] H := hP
  have hD : va_D A [(h_m, .inr (11, [.int (0 : Int32), .int r1.2.1, .int r1.2.2, .null, m_read, m_tape, .int m_taped, .int m_size, .int m_spot, .int m_sort, .int m_place, .int m_number, .int m_fault, .int m_wrongAt, .long m_word, .int m_askedOf, m_v, m_x, m_past, m_kept, .int m_acts, .int m_images, m_heir, m_then, .int m_catGets, .long m_whole, .long m_bestSum, m_come, m_comeThen, .int m_tourHoursNow, m_hour, m_partIn, m_heirIn, .int m_fitsNow, .int m_foundHour, .int m_lookLeft, .int m_firstCatNow]))] := hD
  have hM := Option.some.inj hM
  subst hM
  exact W.zret (v := b2i r1.1) hx hb hr (nar_b _) (fun t ht hW => ⟨⟨b2i r1.1, (), rfl, rfl, by rw [ht]; exact hP, hD⟩, hS.F ht⟩) hS.2.2 dX7_back_29

set_option maxHeartbeats 40000000 in
set_option maxRecDepth 100000 in
theorem wX7_ledN_20 {p : Program} {l : Launch} {e : Env} {s : State} {m : MethodId} {args : Array Value} {below : List Frame} {meth : Method} {c : Code} {D : va_G} {dA : Nat → ClassId} {A : Nat → Prop} {Q : State → Prop} (hx : p.tables.exec = Jvm.exec) (hb : c.code = cX7_led) (hml : c.maxLocals = 4) (hown : s.vm.findClass RX7 = some m.cls) (hts : ∀ w ∈ lw_all, w.before args s = true) (hK : KK D dA s) (hA : ∀ q : Nat, s.heap.size ≤ q → A q) (h_m : Nat) (p0 : Int32) (m_thrown : Int32) (m_trouble : Int32) (m_where : Int32) (m_taped : Int32) (m_size : Int32) (m_spot : Int32) (m_sort : Int32) (m_place : Int32) (m_number : Int32) (m_fault : Int32) (m_wrongAt : Int32) (m_word : Int64) (m_askedOf : Int32) (m_acts : Int32) (m_images : Int32) (m_catGets : Int32) (m_whole : Int64) (m_bestSum : Int64) (m_tourHoursNow : Int32) (m_fitsNow : Int32) (m_foundHour : Int32) (m_lookLeft : Int32) (m_firstCatNow : Int32) (m_read : Value) (m_tape : Value) (m_v : Value) (m_x : Value) (m_past : Value) (m_kept : Value) (m_heir : Value) (m_then : Value) (m_come : Value) (m_comeThen : Value) (m_hour : Value) (m_partIn : Value) (m_heirIn : Value) :
    ∀ (k_ : Nat)  (rx : Unit) (H : Heap) (locs : List Loc) (ls : Array Slot), loopN k_ (fun s_ => BX7_ledN_20 ) () = some rx → va_P D clG [(h_m, .inr (11, [.int (0 : Int32), .int m_trouble, .int m_where, .null, m_read, m_tape, .int m_taped, .int m_size, .int m_spot, .int m_sort, .int m_place, .int m_number, .int m_fault, .int m_wrongAt, .long m_word, .int m_askedOf, m_v, m_x, m_past, m_kept, .int m_acts, .int m_images, m_heir, m_then, .int m_catGets, .long m_whole, .long m_bestSum, m_come, m_comeThen, .int m_tourHoursNow, m_hour, m_partIn, m_heirIn, .int m_fitsNow, .int m_foundHour, .int m_lookLeft, .int m_firstCatNow]))] H → va_D A [(h_m, .inr (11, [.int (0 : Int32), .int m_trouble, .int m_where, .null, m_read, m_tape, .int m_taped, .int m_size, .int m_spot, .int m_sort, .int m_place, .int m_number, .int m_fault, .int m_wrongAt, .long m_word, .int m_askedOf, m_v, m_x, m_past, m_kept, .int m_acts, .int m_images, m_heir, m_then, .int m_catGets, .long m_whole, .long m_bestSum, m_come, m_comeThen, .int m_tourHoursNow, m_hour, m_partIn, m_heirIn, .int m_fitsNow, .int m_foundHour, .int m_lookLeft, .int m_firstCatNow]))] → va_S A s.heap H locs → lv_has ls 4 [(0, .ref h_m), (1, .int p0), (2, .int (0 : Int32)), (3, .int (0 : Int32))] → (∀ (H1 : Heap) (locs1 : List Loc) (ls1 : Array Slot), va_P D clG [(h_m, .inr (11, [.int (0 : Int32), .int m_trouble, .int m_where, .null, m_read, m_tape, .int m_taped, .int m_size, .int m_spot, .int m_sort, .int m_place, .int m_number, .int m_fault, .int m_wrongAt, .long m_word, .int m_askedOf, m_v, m_x, m_past, m_kept, .int m_acts, .int m_images, m_heir, m_then, .int m_catGets, .long m_whole, .long m_bestSum, m_come, m_comeThen, .int m_tourHoursNow, m_hour, m_partIn, m_heirIn, .int m_fitsNow, .int m_foundHour, .int m_lookLeft, .int m_firstCatNow]))] H1 → va_D A [(h_m, .inr (11, [.int (0 : Int32), .int m_trouble, .int m_where, .null, m_read, m_tape, .int m_taped, .int m_size, .int m_spot, .int m_sort, .int m_place, .int m_number, .int m_fault, .int m_wrongAt, .long m_word, .int m_askedOf, m_v, m_x, m_past, m_kept, .int m_acts, .int m_images, m_heir, m_then, .int m_catGets, .long m_whole, .long m_bestSum, m_come, m_comeThen, .int m_tourHoursNow, m_hour, m_partIn, m_heirIn, .int m_fitsNow, .int m_foundHour, .int m_lookLeft, .int m_firstCatNow]))] → va_S A s.heap H1 locs1 → lv_has ls1 4 [(0, .ref h_m)] → W p l e (headSpec (ws_ yX7_led cX7_led 4 (some .int)) ({ frames := 0, cells := 0, slots := 0, locals := 0 })).room s m args below meth c H1 locs1 0 0 Q (F0 m 75 ls1 [])) → W p l e (headSpec (ws_ yX7_led cX7_led 4 (some .int)) ({ frames := 0, cells := 0, slots := 0, locals := 0 })).room s m args below meth c H locs 0 0 Q (F0 m 20 ls []) := by
  intro k_
  induction k_ with
  | zero =>
    intro  rx H locs ls hN
    cases hN
  | succ k_ ih =>
    intro  rx H locs ls hN hP hD hS hl kx0
    obtain ⟨r_, hM, hN⟩ := b_inv hN
    replace hM : BX7_ledN_20  = some r_ := hM
    unfold BX7_ledN_20 at hM
    refine lv_aload_n hx hb dX7_led_20 rfl (lv_at hl 0 rfl) ?_
    refine va_get (D := D) (ci := 11) (v := .null) (C := RX7) (T := TX7) (N := 37) hx hb hts in_X7 hown hK.1 hP 0 rfl rfl 3 (by decide) (hts _ q1375) (fun _ h9 => h9) rfl dX7_led_21 ?_
    refine lv_ifnullN (tgt := 75) hx hb dX7_led_24 (by decide) ?_
    have hM := Option.some.inj hM
    subst hM
    have hN := Option.some.inj hN
    subst hN
    exact kx0 _ _ _ hP hD hS (lv_sub hl [0] rfl)
set_option maxHeartbeats 40000000 in
set_option maxRecDepth 100000 in
theorem ctX7_ledN (l : Launch) (D : va_G) (dA : Nat → ClassId) (sz : Nat) (h_m : Nat) (p0 : Int32) (m_thrown : Int32) (m_trouble : Int32) (m_where : Int32) (m_taped : Int32) (m_size : Int32) (m_spot : Int32) (m_sort : Int32) (m_place : Int32) (m_number : Int32) (m_fault : Int32) (m_wrongAt : Int32) (m_word : Int64) (m_askedOf : Int32) (m_acts : Int32) (m_images : Int32) (m_catGets : Int32) (m_whole : Int64) (m_bestSum : Int64) (m_tourHoursNow : Int32) (m_fitsNow : Int32) (m_foundHour : Int32) (m_lookLeft : Int32) (m_firstCatNow : Int32) (m_read : Value) (m_tape : Value) (m_v : Value) (m_x : Value) (m_past : Value) (m_kept : Value) (m_heir : Value) (m_then : Value) (m_come : Value) (m_comeThen : Value) (m_hour : Value) (m_partIn : Value) (m_heirIn : Value) (res : (Int32 × Int32)) (hM : MX7_ledN  = some res) : Met l yX7_led (ws_ yX7_led cX7_led 4 (some .int)) ({ frames := 0, cells := 0, slots := 0, locals := 0 }) (pre_ D dA [.ref h_m, .int p0] [(h_m, .inr (11, [.int m_thrown, .int m_trouble, .int m_where, .null, m_read, m_tape, .int m_taped, .int m_size, .int m_spot, .int m_sort, .int m_place, .int m_number, .int m_fault, .int m_wrongAt, .long m_word, .int m_askedOf, m_v, m_x, m_past, m_kept, .int m_acts, .int m_images, m_heir, m_then, .int m_catGets, .long m_whole, .long m_bestSum, m_come, m_comeThen, .int m_tourHoursNow, m_hour, m_partIn, m_heirIn, .int m_fitsNow, .int m_foundHour, .int m_lookLeft, .int m_firstCatNow]))] sz) (qi_ D res.1 (fun (u : Unit) => [(h_m, .inr (11, [.int res.2, .int m_trouble, .int m_where, .null, m_read, m_tape, .int m_taped, .int m_size, .int m_spot, .int m_sort, .int m_place, .int m_number, .int m_fault, .int m_wrongAt, .long m_word, .int m_askedOf, m_v, m_x, m_past, m_kept, .int m_acts, .int m_images, m_heir, m_then, .int m_catGets, .long m_whole, .long m_bestSum, m_come, m_comeThen, .int m_tourHoursNow, m_hour, m_partIn, m_heirIn, .int m_fitsNow, .int m_foundHour, .int m_lookLeft, .int m_firstCatNow]))]) (va_A [(h_m, .inr (11, [.int m_thrown, .int m_trouble, .int m_where, .null, m_read, m_tape, .int m_taped, .int m_size, .int m_spot, .int m_sort, .int m_place, .int m_number, .int m_fault, .int m_wrongAt, .long m_word, .int m_askedOf, m_v, m_x, m_past, m_kept, .int m_acts, .int m_images, m_heir, m_then, .int m_catGets, .long m_whole, .long m_bestSum, m_come, m_comeThen, .int m_tourHoursNow, m_hour, m_partIn, m_heirIn, .int m_fitsNow, .int m_foundHour, .int m_lookLeft, .int m_firstCatNow]))] sz)) 0 0 (va_A [(h_m, .inr (11, [.int m_thrown, .int m_trouble, .int m_where, .null, m_read, m_tape, .int m_taped, .int m_size, .int m_spot, .int m_sort, .int m_place, .int m_number, .int m_fault, .int m_wrongAt, .long m_word, .int m_askedOf, m_v, m_x, m_past, m_kept, .int m_acts, .int m_images, m_heir, m_then, .int m_catGets, .long m_whole, .long m_bestSum, m_come, m_comeThen, .int m_tourHoursNow, m_hour, m_partIn, m_heirIn, .int m_fitsNow, .int m_foundHour, .int m_lookLeft, .int m_firstCatNow]))] sz) := by
  refine Met.ofW (cc := cX7_led) (maxL := 4) (ret := (some .int)) (by decide) rfl ?_
  intro p e s m args below meth c s₁ B hml hv
  obtain ⟨rfl, hsz, hP, hK, hD0⟩ := hv
  have hx := B.exec
  have hb := B.bytes
  have hr := B.returns
  have hts := atoms_spec (ws := (ws_ yX7_led cX7_led 4 (some .int))) B.pre
  have hts : ∀ w ∈ lw_all, w.before _ s = true := fun w h => hts w (List.mem_cons_of_mem _ h)
  have hown : s.vm.findClass RX7 = some m.cls := findClass_of_methodNamed B.named
  have hlocks := B.notSynchronized
  subst hsz
  have hD := hD0.self (sz := s.heap.size)
  generalize hAe : va_A [(h_m, .inr (11, [.int m_thrown, .int m_trouble, .int m_where, .null, m_read, m_tape, .int m_taped, .int m_size, .int m_spot, .int m_sort, .int m_place, .int m_number, .int m_fault, .int m_wrongAt, .long m_word, .int m_askedOf, m_v, m_x, m_past, m_kept, .int m_acts, .int m_images, m_heir, m_then, .int m_catGets, .long m_whole, .long m_bestSum, m_come, m_comeThen, .int m_tourHoursNow, m_hour, m_partIn, m_heirIn, .int m_fitsNow, .int m_foundHour, .int m_lookLeft, .int m_firstCatNow]))] s.heap.size = A at hD ⊢
  have hA : ∀ q : Nat, s.heap.size ≤ q → A q := fun q h => by rw [← hAe]; exact Or.inr h
  have hS : va_S A s.heap s.heap [] := va_S.rf
  have hP : va_P D clG [(h_m, .inr (11, [.int m_thrown, .int m_trouble, .int m_where, .null, m_read, m_tape, .int m_taped, .int m_size, .int m_spot, .int m_sort, .int m_place, .int m_number, .int m_fault, .int m_wrongAt, .long m_word, .int m_askedOf, m_v, m_x, m_past, m_kept, .int m_acts, .int m_images, m_heir, m_then, .int m_catGets, .long m_whole, .long m_bestSum, m_come, m_comeThen, .int m_tourHoursNow, m_hour, m_partIn, m_heirIn, .int m_fitsNow, .int m_foundHour, .int m_lookLeft, .int m_firstCatNow]))] s.heap := hP
  have hl := lv_entry ([.ref h_m, .int p0]) (n := 4) (Nat.le_of_ble_eq_true rfl)
  rw [lg_entry_eq]
  generalize (lg_sl ([.ref h_m, .int p0]) ++ List.replicate (4 - (lg_sl ([.ref h_m, .int p0])).length) Slot.unset).toArray = ls at hl ⊢
  have hl : lv_has ls 4 [(0, .ref h_m), (1, .int p0)] := hl
  unfold MX7_ledN at hM
  refine lv_aload_n hx hb dX7_led_0 rfl (lv_at hl 0 rfl) ?_
  refine lv_iconst (v := (0 : Int32)) hx hb dX7_led_1 (by decide) ?_
  refine va_put (D := D) (ci := 11) (v := .int (0 : Int32)) (ty := .int) (C := RX7) (T := TX7) (N := 37) hx hb hts in_X7 tyX7 tyX7_ok nmX7 hown hK.1 hP hD hS 0 rfl rfl 0 (by decide) (hts _ q1372) (fun _ h9 => h9) rfl (by decide +kernel) rfl rfl (Nat.le_of_ble_eq_true rfl) dX7_led_2 (fun H locs hP hD hS => ?_)
  have hP : va_P D clG [(h_m, .inr (11, [.int (0 : Int32), .int m_trouble, .int m_where, .null, m_read, m_tape, .int m_taped, .int m_size, .int m_spot, .int m_sort, .int m_place, .int m_number, .int m_fault, .int m_wrongAt, .long m_word, .int m_askedOf, m_v, m_x, m_past, m_kept, .int m_acts, .int m_images, m_heir, m_then, .int m_catGets, .long m_whole, .long m_bestSum, m_come, m_comeThen, .int m_tourHoursNow, m_hour, m_partIn, m_heirIn, .int m_fitsNow, .int m_foundHour, .int m_lookLeft, .int m_firstCatNow]))] H := hP
  have hD : va_D A [(h_m, .inr (11, [.int (0 : Int32), .int m_trouble, .int m_where, .null, m_read, m_tape, .int m_taped, .int m_size, .int m_spot, .int m_sort, .int m_place, .int m_number, .int m_fault, .int m_wrongAt, .long m_word, .int m_askedOf, m_v, m_x, m_past, m_kept, .int m_acts, .int m_images, m_heir, m_then, .int m_catGets, .long m_whole, .long m_bestSum, m_come, m_comeThen, .int m_tourHoursNow, m_hour, m_partIn, m_heirIn, .int m_fitsNow, .int m_foundHour, .int m_lookLeft, .int m_firstCatNow]))] := hD
  refine lv_iconst (v := (0 : Int32)) hx hb dX7_led_5 (by decide) ?_
  refine lv_istore_n (lv' := [(2, .int (0 : Int32)), (0, .ref h_m), (1, .int p0)]) hx hb dX7_led_6 rfl hl (by decide) rfl (fun ls hl => ?_)
  refine lv_aload_n hx hb dX7_led_7 rfl (lv_at hl 1 rfl) ?_
  refine va_get (D := D) (ci := 11) (v := .null) (C := RX7) (T := TX7) (N := 37) hx hb hts in_X7 hown hK.1 hP 0 rfl rfl 3 (by decide) (hts _ q1375) (fun _ h9 => h9) rfl dX7_led_8 ?_
  refine lv_ifnullN (tgt := 18) hx hb dX7_led_11 (by decide) ?_
  refine lv_iconst (v := (0 : Int32)) hx hb dX7_led_18 (by decide) ?_
  refine lv_istore_n (lv' := [(3, .int (0 : Int32)), (2, .int (0 : Int32)), (0, .ref h_m), (1, .int p0)]) hx hb dX7_led_19 rfl hl (by decide) rfl (fun ls hl => ?_)
  obtain ⟨r1, er1, hM⟩ := b_inv hM
  refine wX7_ledN_20 hx hb hml hown hts hK hA h_m p0 m_thrown m_trouble m_where m_taped m_size m_spot m_sort m_place m_number m_fault m_wrongAt m_word m_askedOf m_acts m_images m_catGets m_whole m_bestSum m_tourHoursNow m_fitsNow m_foundHour m_lookLeft m_firstCatNow m_read m_tape m_v m_x m_past m_kept m_heir m_then m_come m_comeThen m_hour m_partIn m_heirIn _  _ _ _ _ er1 hP hD hS (lv_sub hl [2, 3, 1, 0] rfl) (fun H locs ls hP hD hS hl => ?_)
  refine lv_aload_n hx hb dX7_led_75 rfl (lv_at hl 0 rfl) ?_
  refine lv_iconst (v := (1 : Int32)) hx hb dX7_led_76 (by decide) ?_
  refine va_put (D := D) (ci := 11) (v := .int (1 : Int32)) (ty := .int) (C := RX7) (T := TX7) (N := 37) hx hb hts in_X7 tyX7 tyX7_ok nmX7 hown hK.1 hP hD hS 0 rfl rfl 0 (by decide) (hts _ q1372) (fun _ h9 => h9) rfl (by decide +kernel) rfl rfl (Nat.le_of_ble_eq_true rfl) dX7_led_77 (fun H locs hP hD hS => ?_)
  have hP : va_P D clG [(h_m, .inr (11, [.int (1 : Int32), .int m_trouble, .int m_where, .null, m_read, m_tape, .int m_taped, .int m_size, .int m_spot, .int m_sort, .int m_place, .int m_number, .int m_fault, .int m_wrongAt, .long m_word, .int m_askedOf, m_v, m_x, m_past, m_kept, .int m_acts, .int m_images, m_heir, m_then, .int m_catGets, .long m_whole, .long m_bestSum, m_come, m_comeThen, .int m_tourHoursNow, m_hour, m_partIn, m_heirIn, .int m_fitsNow, .int m_foundHour, .int m_lookLeft, .int m_firstCatNow]))] H := hP
  have hD : va_D A [(h_m, .inr (11, [.int (1 : Int32), .int m_trouble, .int m_where, .null, m_read, m_tape, .int m_taped, .int m_size, .int m_spot, .int m_sort, .int m_place, .int m_number, .int m_fault, .int m_wrongAt, .long m_word, .int m_askedOf, m_v, m_x, m_past, m_kept, .int m_acts, .int m_images, m_heir, m_then, .int m_catGets, .long m_whole, .long m_bestSum, m_come, m_comeThen, .int m_tourHoursNow, m_hour, m_partIn, m_heirIn, .int m_fitsNow, .int m_foundHour, .int m_lookLeft, .int m_firstCatNow]))] := hD
  refine lv_iconst (v := (0 : Int32)) hx hb dX7_led_80 (by decide) ?_
  have hM := Option.some.inj hM
  subst hM
  exact W.iret (v := (0 : Int32)) hx hb hr (fun t ht hW => ⟨⟨(0 : Int32), (), rfl, rfl, by rw [ht]; exact hP, hD⟩, hS.F ht⟩) hS.2.2 dX7_led_81
theorem krX7_ledN  (res : (Int32 × Int32)) (h : MX7_ledN  = some res) : res.1 = (0 : Int32) := by
  unfold MX7_ledN at h
  repeat first | (obtain ⟨_, _, h⟩ := b_inv h) | (split at h)
  all_goals (cases h; rfl)

set_option maxHeartbeats 40000000 in
set_option maxRecDepth 100000 in
theorem ctX1_sizeN (l : Launch) (D : va_G) (dA : Nat → ClassId) (sz : Nat) (h_o : Nat) (p0 : Int32) (o_taped : Int32) (o_trouble : Int32) (o_fault : Int32) (o_where : Int32) (o_imageMany : Int32) (o_undoMany : Int32) (o_firstRest : Int32) (o_catAt : Int32) (o_tape : Value) (o_scanner : Value) (o_town : Value) (o_was : Value) (o_trial : Value) (o_night : Value) (o_plans : Value) (o_undone : Value) (o_images : Value) (o_often : Value) (o_next : Value) (res : Int32) (hM : MX1_sizeN p0 o_taped = some res) : Met l yX1_size (ws_ yX1_size cX1_size 2 (some .int)) ({ frames := 1, cells := 0, slots := 0, locals := 22 }) (pre_ D dA [.ref h_o, .int p0] [(h_o, .inr (0, [o_tape, .int o_taped, o_scanner, .null, .int o_trouble, .int o_fault, .int o_where, .int o_imageMany, .int o_undoMany, o_town, o_was, o_trial, o_night, o_plans, o_undone, o_images, o_often, .int o_firstRest, o_next, .int o_catAt]))] sz) (qi_ D res (fun (u : Unit) => [(h_o, .inr (0, [o_tape, .int o_taped, o_scanner, .null, .int o_trouble, .int o_fault, .int o_where, .int o_imageMany, .int o_undoMany, o_town, o_was, o_trial, o_night, o_plans, o_undone, o_images, o_often, .int o_firstRest, o_next, .int o_catAt]))]) (va_A [(h_o, .inr (0, [o_tape, .int o_taped, o_scanner, .null, .int o_trouble, .int o_fault, .int o_where, .int o_imageMany, .int o_undoMany, o_town, o_was, o_trial, o_night, o_plans, o_undone, o_images, o_often, .int o_firstRest, o_next, .int o_catAt]))] sz)) 0 0 (va_A [(h_o, .inr (0, [o_tape, .int o_taped, o_scanner, .null, .int o_trouble, .int o_fault, .int o_where, .int o_imageMany, .int o_undoMany, o_town, o_was, o_trial, o_night, o_plans, o_undone, o_images, o_often, .int o_firstRest, o_next, .int o_catAt]))] sz) := by
  refine Met.ofW (cc := cX1_size) (maxL := 2) (ret := (some .int)) (by decide) rfl ?_
  intro p e s m args below meth c s₁ B hml hv
  obtain ⟨rfl, hsz, hP, hK, hD0⟩ := hv
  have hx := B.exec
  have hb := B.bytes
  have hr := B.returns
  have hts := atoms_spec (ws := (ws_ yX1_size cX1_size 2 (some .int))) B.pre
  have hts : ∀ w ∈ lw_all, w.before _ s = true := fun w h => hts w (List.mem_cons_of_mem _ h)
  have hown : s.vm.findClass RX1 = some m.cls := findClass_of_methodNamed B.named
  have hlocks := B.notSynchronized
  subst hsz
  have hD := hD0.self (sz := s.heap.size)
  generalize hAe : va_A [(h_o, .inr (0, [o_tape, .int o_taped, o_scanner, .null, .int o_trouble, .int o_fault, .int o_where, .int o_imageMany, .int o_undoMany, o_town, o_was, o_trial, o_night, o_plans, o_undone, o_images, o_often, .int o_firstRest, o_next, .int o_catAt]))] s.heap.size = A at hD ⊢
  have hA : ∀ q : Nat, s.heap.size ≤ q → A q := fun q h => by rw [← hAe]; exact Or.inr h
  have hS : va_S A s.heap s.heap [] := va_S.rf
  have hP : va_P D clG [(h_o, .inr (0, [o_tape, .int o_taped, o_scanner, .null, .int o_trouble, .int o_fault, .int o_where, .int o_imageMany, .int o_undoMany, o_town, o_was, o_trial, o_night, o_plans, o_undone, o_images, o_often, .int o_firstRest, o_next, .int o_catAt]))] s.heap := hP
  have hl := lv_entry ([.ref h_o, .int p0]) (n := 2) (Nat.le_of_ble_eq_true rfl)
  rw [lg_entry_eq]
  generalize (lg_sl ([.ref h_o, .int p0]) ++ List.replicate (2 - (lg_sl ([.ref h_o, .int p0])).length) Slot.unset).toArray = ls at hl ⊢
  have hl : lv_has ls 2 [(0, .ref h_o), (1, .int p0)] := hl
  unfold MX1_sizeN at hM
  refine lv_iload_n hx hb dX1_size_0 rfl (lv_at hl 1 rfl) ?_
  refine lv_bipush (v := (12 : Int32)) hx hb dX1_size_1 (by decide) ?_
  refine lv_icmp_ne (tgt := 11) hx hb dX1_size_3 (by decide) (fun c1 => ?_) (fun c1 => ?_)
  · rw [if_neg c1] at hM
    refine lv_aload_n hx hb dX1_size_11 rfl (lv_at hl 0 rfl) ?_
    refine va_get (D := D) (ci := 0) (v := .null) (C := RX1) (T := TX1) (N := 20) hx hb hts in_X1 hown hK.1 hP 0 rfl rfl 3 (by decide) (hts _ q361) (fun _ h9 => h9) rfl dX1_size_12 ?_
    refine lv_ifnonnullN hx hb dX1_size_15 ?_
    refine lv_iload_n hx hb dX1_size_18 rfl (lv_at hl 1 rfl) ?_
    refine lv_iconst (v := (0 : Int32)) hx hb dX1_size_19 (by decide) ?_
    refine lv_bipush (v := (11 : Int32)) hx hb dX1_size_20 (by decide) ?_
    obtain ⟨r2, er2, hM⟩ := b_inv hM
    refine k_i0 [] (va_runS (As := [.int p0, .int (0 : Int32), .int (11 : Int32)]) (rest := []) ⟨hx, hb, hml, hown, hts⟩ (ctX1_in l D dA _ p0 (0 : Int32) (11 : Int32) r2 er2) (va_cwS 3 hts (lw_S q436 q437 q113 q438) rfl rfl rfl (by decide +kernel) ⟨Nat.le_of_ble_eq_true rfl, Nat.le_of_ble_eq_true rfl⟩) (pre_S (hP.sub [] rfl) hK (hD.sub [] (by decide) rfl)) rfl rfl hl.1 rfl (lv_room (Nat.le_of_ble_eq_true rfl)) dX1_size_22 ⟨Nat.le_of_ble_eq_true rfl, Nat.le_of_ble_eq_true rfl⟩) hP hD hS hA rfl (fun _ => rfl) (fun u3 H locs hP hD hS => ?_)
    have hP : va_P D clG [(h_o, .inr (0, [o_tape, .int o_taped, o_scanner, .null, .int o_trouble, .int o_fault, .int o_where, .int o_imageMany, .int o_undoMany, o_town, o_was, o_trial, o_night, o_plans, o_undone, o_images, o_often, .int o_firstRest, o_next, .int o_catAt]))] H := hP
    have hD : va_D A [(h_o, .inr (0, [o_tape, .int o_taped, o_scanner, .null, .int o_trouble, .int o_fault, .int o_where, .int o_imageMany, .int o_undoMany, o_town, o_was, o_trial, o_night, o_plans, o_undone, o_images, o_often, .int o_firstRest, o_next, .int o_catAt]))] := hD
    refine lv_if_eq (tgt := 32) hx hb dX1_size_25 (by decide) (fun c4 => ?_) (fun c4 => ?_)
    · rw [if_pos c4] at hM
      refine lv_iconst (v := (-1 : Int32)) hx hb dX1_size_32 (by decide) ?_
      have hM := Option.some.inj hM
      subst hM
      exact W.iret (v := (-1 : Int32)) hx hb hr (fun t ht hW => ⟨⟨(-1 : Int32), (), rfl, rfl, by rw [ht]; exact hP, hD⟩, hS.F ht⟩) hS.2.2 dX1_size_33
    · rw [if_neg c4] at hM
      refine lv_iconst (v := (0 : Int32)) hx hb dX1_size_28 (by decide) ?_
      refine lv_goto (tgt := 33) hx hb dX1_size_29 (by decide) ?_
      have hM := Option.some.inj hM
      subst hM
      exact W.iret (v := (0 : Int32)) hx hb hr (fun t ht hW => ⟨⟨(0 : Int32), (), rfl, rfl, by rw [ht]; exact hP, hD⟩, hS.F ht⟩) hS.2.2 dX1_size_33
  · rw [if_pos c1] at hM
    refine lv_aload_n hx hb dX1_size_6 rfl (lv_at hl 0 rfl) ?_
    refine va_get (D := D) (ci := 0) (v := .int o_taped) (C := RX1) (T := TX1) (N := 20) hx hb hts in_X1 hown hK.1 hP 0 rfl rfl 1 (by decide) (hts _ q359) (fun _ h9 => h9) rfl dX1_size_7 ?_
    have hM := Option.some.inj hM
    subst hM
    exact W.iret (v := o_taped) hx hb hr (fun t ht hW => ⟨⟨o_taped, (), rfl, rfl, by rw [ht]; exact hP, hD⟩, hS.F ht⟩) hS.2.2 dX1_size_10

set_option maxHeartbeats 40000000 in
set_option maxRecDepth 100000 in
theorem ctX7_sizeN (l : Launch) (D : va_G) (dA : Nat → ClassId) (sz : Nat) (h_m : Nat) (p0 : Int32) (m_thrown : Int32) (m_trouble : Int32) (m_where : Int32) (m_taped : Int32) (m_size : Int32) (m_spot : Int32) (m_sort : Int32) (m_place : Int32) (m_number : Int32) (m_fault : Int32) (m_wrongAt : Int32) (m_word : Int64) (m_askedOf : Int32) (m_acts : Int32) (m_images : Int32) (m_catGets : Int32) (m_whole : Int64) (m_bestSum : Int64) (m_tourHoursNow : Int32) (m_fitsNow : Int32) (m_foundHour : Int32) (m_lookLeft : Int32) (m_firstCatNow : Int32) (m_read : Value) (m_tape : Value) (m_v : Value) (m_x : Value) (m_past : Value) (m_kept : Value) (m_heir : Value) (m_then : Value) (m_come : Value) (m_comeThen : Value) (m_hour : Value) (m_partIn : Value) (m_heirIn : Value) (res : (Int32 × Int32)) (hM : MX7_sizeN p0 m_taped = some res) : Met l yX7_size (ws_ yX7_size cX7_size 2 (some .int)) ({ frames := 1, cells := 0, slots := 0, locals := 22 }) (pre_ D dA [.ref h_m, .int p0] [(h_m, .inr (11, [.int m_thrown, .int m_trouble, .int m_where, .null, m_read, m_tape, .int m_taped, .int m_size, .int m_spot, .int m_sort, .int m_place, .int m_number, .int m_fault, .int m_wrongAt, .long m_word, .int m_askedOf, m_v, m_x, m_past, m_kept, .int m_acts, .int m_images, m_heir, m_then, .int m_catGets, .long m_whole, .long m_bestSum, m_come, m_comeThen, .int m_tourHoursNow, m_hour, m_partIn, m_heirIn, .int m_fitsNow, .int m_foundHour, .int m_lookLeft, .int m_firstCatNow]))] sz) (qi_ D res.1 (fun (u : Unit) => [(h_m, .inr (11, [.int res.2, .int m_trouble, .int m_where, .null, m_read, m_tape, .int m_taped, .int m_size, .int m_spot, .int m_sort, .int m_place, .int m_number, .int m_fault, .int m_wrongAt, .long m_word, .int m_askedOf, m_v, m_x, m_past, m_kept, .int m_acts, .int m_images, m_heir, m_then, .int m_catGets, .long m_whole, .long m_bestSum, m_come, m_comeThen, .int m_tourHoursNow, m_hour, m_partIn, m_heirIn, .int m_fitsNow, .int m_foundHour, .int m_lookLeft, .int m_firstCatNow]))]) (va_A [(h_m, .inr (11, [.int m_thrown, .int m_trouble, .int m_where, .null, m_read, m_tape, .int m_taped, .int m_size, .int m_spot, .int m_sort, .int m_place, .int m_number, .int m_fault, .int m_wrongAt, .long m_word, .int m_askedOf, m_v, m_x, m_past, m_kept, .int m_acts, .int m_images, m_heir, m_then, .int m_catGets, .long m_whole, .long m_bestSum, m_come, m_comeThen, .int m_tourHoursNow, m_hour, m_partIn, m_heirIn, .int m_fitsNow, .int m_foundHour, .int m_lookLeft, .int m_firstCatNow]))] sz)) 0 0 (va_A [(h_m, .inr (11, [.int m_thrown, .int m_trouble, .int m_where, .null, m_read, m_tape, .int m_taped, .int m_size, .int m_spot, .int m_sort, .int m_place, .int m_number, .int m_fault, .int m_wrongAt, .long m_word, .int m_askedOf, m_v, m_x, m_past, m_kept, .int m_acts, .int m_images, m_heir, m_then, .int m_catGets, .long m_whole, .long m_bestSum, m_come, m_comeThen, .int m_tourHoursNow, m_hour, m_partIn, m_heirIn, .int m_fitsNow, .int m_foundHour, .int m_lookLeft, .int m_firstCatNow]))] sz) := by
  refine Met.ofW (cc := cX7_size) (maxL := 2) (ret := (some .int)) (by decide) rfl ?_
  intro p e s m args below meth c s₁ B hml hv
  obtain ⟨rfl, hsz, hP, hK, hD0⟩ := hv
  have hx := B.exec
  have hb := B.bytes
  have hr := B.returns
  have hts := atoms_spec (ws := (ws_ yX7_size cX7_size 2 (some .int))) B.pre
  have hts : ∀ w ∈ lw_all, w.before _ s = true := fun w h => hts w (List.mem_cons_of_mem _ h)
  have hown : s.vm.findClass RX7 = some m.cls := findClass_of_methodNamed B.named
  have hlocks := B.notSynchronized
  subst hsz
  have hD := hD0.self (sz := s.heap.size)
  generalize hAe : va_A [(h_m, .inr (11, [.int m_thrown, .int m_trouble, .int m_where, .null, m_read, m_tape, .int m_taped, .int m_size, .int m_spot, .int m_sort, .int m_place, .int m_number, .int m_fault, .int m_wrongAt, .long m_word, .int m_askedOf, m_v, m_x, m_past, m_kept, .int m_acts, .int m_images, m_heir, m_then, .int m_catGets, .long m_whole, .long m_bestSum, m_come, m_comeThen, .int m_tourHoursNow, m_hour, m_partIn, m_heirIn, .int m_fitsNow, .int m_foundHour, .int m_lookLeft, .int m_firstCatNow]))] s.heap.size = A at hD ⊢
  have hA : ∀ q : Nat, s.heap.size ≤ q → A q := fun q h => by rw [← hAe]; exact Or.inr h
  have hS : va_S A s.heap s.heap [] := va_S.rf
  have hP : va_P D clG [(h_m, .inr (11, [.int m_thrown, .int m_trouble, .int m_where, .null, m_read, m_tape, .int m_taped, .int m_size, .int m_spot, .int m_sort, .int m_place, .int m_number, .int m_fault, .int m_wrongAt, .long m_word, .int m_askedOf, m_v, m_x, m_past, m_kept, .int m_acts, .int m_images, m_heir, m_then, .int m_catGets, .long m_whole, .long m_bestSum, m_come, m_comeThen, .int m_tourHoursNow, m_hour, m_partIn, m_heirIn, .int m_fitsNow, .int m_foundHour, .int m_lookLeft, .int m_firstCatNow]))] s.heap := hP
  have hl := lv_entry ([.ref h_m, .int p0]) (n := 2) (Nat.le_of_ble_eq_true rfl)
  rw [lg_entry_eq]
  generalize (lg_sl ([.ref h_m, .int p0]) ++ List.replicate (2 - (lg_sl ([.ref h_m, .int p0])).length) Slot.unset).toArray = ls at hl ⊢
  have hl : lv_has ls 2 [(0, .ref h_m), (1, .int p0)] := hl
  unfold MX7_sizeN at hM
  refine lv_aload_n hx hb dX7_size_0 rfl (lv_at hl 0 rfl) ?_
  refine lv_iconst (v := (0 : Int32)) hx hb dX7_size_1 (by decide) ?_
  refine va_put (D := D) (ci := 11) (v := .int (0 : Int32)) (ty := .int) (C := RX7) (T := TX7) (N := 37) hx hb hts in_X7 tyX7 tyX7_ok nmX7 hown hK.1 hP hD hS 0 rfl rfl 0 (by decide) (hts _ q1372) (fun _ h9 => h9) rfl (by decide +kernel) rfl rfl (Nat.le_of_ble_eq_true rfl) dX7_size_2 (fun H locs hP hD hS => ?_)
  have hP : va_P D clG [(h_m, .inr (11, [.int (0 : Int32), .int m_trouble, .int m_where, .null, m_read, m_tape, .int m_taped, .int m_size, .int m_spot, .int m_sort, .int m_place, .int m_number, .int m_fault, .int m_wrongAt, .long m_word, .int m_askedOf, m_v, m_x, m_past, m_kept, .int m_acts, .int m_images, m_heir, m_then, .int m_catGets, .long m_whole, .long m_bestSum, m_come, m_comeThen, .int m_tourHoursNow, m_hour, m_partIn, m_heirIn, .int m_fitsNow, .int m_foundHour, .int m_lookLeft, .int m_firstCatNow]))] H := hP
  have hD : va_D A [(h_m, .inr (11, [.int (0 : Int32), .int m_trouble, .int m_where, .null, m_read, m_tape, .int m_taped, .int m_size, .int m_spot, .int m_sort, .int m_place, .int m_number, .int m_fault, .int m_wrongAt, .long m_word, .int m_askedOf, m_v, m_x, m_past, m_kept, .int m_acts, .int m_images, m_heir, m_then, .int m_catGets, .long m_whole, .long m_bestSum, m_come, m_comeThen, .int m_tourHoursNow, m_hour, m_partIn, m_heirIn, .int m_fitsNow, .int m_foundHour, .int m_lookLeft, .int m_firstCatNow]))] := hD
  refine lv_iload_n hx hb dX7_size_5 rfl (lv_at hl 1 rfl) ?_
  refine lv_bipush (v := (12 : Int32)) hx hb dX7_size_6 (by decide) ?_
  refine lv_icmp_ne (tgt := 16) hx hb dX7_size_8 (by decide) (fun c1 => ?_) (fun c1 => ?_)
  · rw [if_neg c1] at hM
    refine lv_iload_n hx hb dX7_size_16 rfl (lv_at hl 1 rfl) ?_
    refine lv_iconst (v := (0 : Int32)) hx hb dX7_size_17 (by decide) ?_
    refine lv_bipush (v := (11 : Int32)) hx hb dX7_size_18 (by decide) ?_
    obtain ⟨r2, er2, hM⟩ := b_inv hM
    refine k_i0 [] (va_runS (As := [.int p0, .int (0 : Int32), .int (11 : Int32)]) (rest := []) ⟨hx, hb, hml, hown, hts⟩ (ctX7_in l D dA _ p0 (0 : Int32) (11 : Int32) r2 er2) (va_cwS 3 hts (lw_S q1643 q1644 q122 q1645) rfl rfl rfl (by decide +kernel) ⟨Nat.le_of_ble_eq_true rfl, Nat.le_of_ble_eq_true rfl⟩) (pre_S (hP.sub [] rfl) hK (hD.sub [] (by decide) rfl)) rfl rfl hl.1 rfl (lv_room (Nat.le_of_ble_eq_true rfl)) dX7_size_20 ⟨Nat.le_of_ble_eq_true rfl, Nat.le_of_ble_eq_true rfl⟩) hP hD hS hA rfl (fun _ => rfl) (fun u3 H locs hP hD hS => ?_)
    have hP : va_P D clG [(h_m, .inr (11, [.int (0 : Int32), .int m_trouble, .int m_where, .null, m_read, m_tape, .int m_taped, .int m_size, .int m_spot, .int m_sort, .int m_place, .int m_number, .int m_fault, .int m_wrongAt, .long m_word, .int m_askedOf, m_v, m_x, m_past, m_kept, .int m_acts, .int m_images, m_heir, m_then, .int m_catGets, .long m_whole, .long m_bestSum, m_come, m_comeThen, .int m_tourHoursNow, m_hour, m_partIn, m_heirIn, .int m_fitsNow, .int m_foundHour, .int m_lookLeft, .int m_firstCatNow]))] H := hP
    have hD : va_D A [(h_m, .inr (11, [.int (0 : Int32), .int m_trouble, .int m_where, .null, m_read, m_tape, .int m_taped, .int m_size, .int m_spot, .int m_sort, .int m_place, .int m_number, .int m_fault, .int m_wrongAt, .long m_word, .int m_askedOf, m_v, m_x, m_past, m_kept, .int m_acts, .int m_images, m_heir, m_then, .int m_catGets, .long m_whole, .long m_bestSum, m_come, m_comeThen, .int m_tourHoursNow, m_hour, m_partIn, m_heirIn, .int m_fitsNow, .int m_foundHour, .int m_lookLeft, .int m_firstCatNow]))] := hD
    refine lv_if_ne (tgt := 28) hx hb dX7_size_23 (by decide) (fun c4 => ?_) (fun c4 => ?_)
    · rw [if_neg c4] at hM
      refine lv_aload_n hx hb dX7_size_28 rfl (lv_at hl 0 rfl) ?_
      refine va_get (D := D) (ci := 11) (v := .null) (C := RX7) (T := TX7) (N := 37) hx hb hts in_X7 hown hK.1 hP 0 rfl rfl 3 (by decide) (hts _ q1375) (fun _ h9 => h9) rfl dX7_size_29 ?_
      refine lv_ifnonnullN hx hb dX7_size_32 ?_
      refine lv_iconst (v := (0 : Int32)) hx hb dX7_size_35 (by decide) ?_
      have hM := Option.some.inj hM
      subst hM
      exact W.iret (v := (0 : Int32)) hx hb hr (fun t ht hW => ⟨⟨(0 : Int32), (), rfl, rfl, by rw [ht]; exact hP, hD⟩, hS.F ht⟩) hS.2.2 dX7_size_36
    · rw [if_pos c4] at hM
      refine lv_iconst (v := (-1 : Int32)) hx hb dX7_size_26 (by decide) ?_
      have hM := Option.some.inj hM
      subst hM
      exact W.iret (v := (-1 : Int32)) hx hb hr (fun t ht hW => ⟨⟨(-1 : Int32), (), rfl, rfl, by rw [ht]; exact hP, hD⟩, hS.F ht⟩) hS.2.2 dX7_size_27
  · rw [if_pos c1] at hM
    refine lv_aload_n hx hb dX7_size_11 rfl (lv_at hl 0 rfl) ?_
    refine va_get (D := D) (ci := 11) (v := .int m_taped) (C := RX7) (T := TX7) (N := 37) hx hb hts in_X7 hown hK.1 hP 0 rfl rfl 6 (by decide) (hts _ q1378) (fun _ h9 => h9) rfl dX7_size_12 ?_
    have hM := Option.some.inj hM
    subst hM
    exact W.iret (v := m_taped) hx hb hr (fun t ht hW => ⟨⟨m_taped, (), rfl, rfl, by rw [ht]; exact hP, hD⟩, hS.F ht⟩) hS.2.2 dX7_size_15
