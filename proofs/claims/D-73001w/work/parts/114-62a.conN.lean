set_option maxRecDepth 100000
set_option maxHeartbeats 40000000 in
set_option maxRecDepth 100000 in
theorem ctX1_isPersonN (l : Launch) (D : va_G) (dA : Nat → ClassId) (sz : Nat) (h_o : Nat) (p0 : Int32) (o_taped : Int32) (o_trouble : Int32) (o_fault : Int32) (o_where : Int32) (o_imageMany : Int32) (o_undoMany : Int32) (o_firstRest : Int32) (o_catAt : Int32) (o_tape : Value) (o_scanner : Value) (o_town : Value) (o_was : Value) (o_trial : Value) (o_night : Value) (o_plans : Value) (o_undone : Value) (o_images : Value) (o_often : Value) (o_next : Value) (res : Bool) (hM : MX1_isPersonN  = some res) : Met l yX1_isPerson (ws_ yX1_isPerson cX1_isPerson 2 (some .boolean)) ({ frames := 0, cells := 0, slots := 0, locals := 0 }) (pre_ D dA [.ref h_o, .int p0] [(h_o, .inr (0, [o_tape, .int o_taped, o_scanner, .null, .int o_trouble, .int o_fault, .int o_where, .int o_imageMany, .int o_undoMany, o_town, o_was, o_trial, o_night, o_plans, o_undone, o_images, o_often, .int o_firstRest, o_next, .int o_catAt]))] sz) (qi_ D (b2i res) (fun (u : Unit) => [(h_o, .inr (0, [o_tape, .int o_taped, o_scanner, .null, .int o_trouble, .int o_fault, .int o_where, .int o_imageMany, .int o_undoMany, o_town, o_was, o_trial, o_night, o_plans, o_undone, o_images, o_often, .int o_firstRest, o_next, .int o_catAt]))]) (va_A [(h_o, .inr (0, [o_tape, .int o_taped, o_scanner, .null, .int o_trouble, .int o_fault, .int o_where, .int o_imageMany, .int o_undoMany, o_town, o_was, o_trial, o_night, o_plans, o_undone, o_images, o_often, .int o_firstRest, o_next, .int o_catAt]))] sz)) 0 0 (va_A [(h_o, .inr (0, [o_tape, .int o_taped, o_scanner, .null, .int o_trouble, .int o_fault, .int o_where, .int o_imageMany, .int o_undoMany, o_town, o_was, o_trial, o_night, o_plans, o_undone, o_images, o_often, .int o_firstRest, o_next, .int o_catAt]))] sz) := by
  refine Met.ofW (cc := cX1_isPerson) (maxL := 2) (ret := (some .boolean)) (by decide) rfl ?_
  intro p e s m args below meth c s₁ B hml hv
  obtain ⟨rfl, hsz, hP, hK, hD0⟩ := hv
  have hx := B.exec
  have hb := B.bytes
  have hr := B.returns
  have hts := atoms_spec (ws := (ws_ yX1_isPerson cX1_isPerson 2 (some .boolean))) B.pre
  have hts : ∀ w ∈ lw_all, w.before _ s = true := fun w h => hts w (List.mem_cons_of_mem _ h)
  have hown : s.vm.findClass RX1 = some m.cls := findClass_of_methodNamed B.named
  have hlocks := B.notSynchronized
  subst hsz
  have hD := hD0.self (sz := s.heap.size)
  generalize hAe : va_A [(h_o, .inr (0, [o_tape, .int o_taped, o_scanner, .null, .int o_trouble, .int o_fault, .int o_where, .int o_imageMany, .int o_undoMany, o_town, o_was, o_trial, o_night, o_plans, o_undone, o_images, o_often, .int o_firstRest, o_next, .int o_catAt]))] s.heap.size = A at hD ⊢
  have hA : ∀ q : Nat, s.heap.size ≤ q → A q := fun q h => by rw [← hAe]; exact Or.inr h
  have hS : va_S A s.heap s.heap [] := va_S.rf
  have hP : va_P D clG [(h_o, .inr (0, [o_tape, .int o_taped, o_scanner, .null, .int o_trouble, .int o_fault, .int o_where, .int o_imageMany, .int o_undoMany, o_town, o_was, o_trial, o_night, o_plans, o_undone, o_images, o_often, .int o_firstRest, o_next, .int o_catAt]))] s.heap := hP
  have hl := lv_entry ([.ref h_o, .int p0]) (n := 2) (Nat.le_of_ble_eq_true rfl)
  rw [lg_entry_eq]
  generalize (lg_sl ([.ref h_o, .int p0]) ++ List.replicate (2 - (lg_sl ([.ref h_o, .int p0])).length) Slot.unset).toArray = ls at hl ⊢
  have hl : lv_has ls 2 [(0, .ref h_o), (1, .int p0)] := hl
  unfold MX1_isPersonN at hM
  refine lv_aload_n hx hb dX1_isPerson_0 rfl (lv_at hl 0 rfl) ?_
  refine va_get (D := D) (ci := 0) (v := .null) (C := RX1) (T := TX1) (N := 20) hx hb hts in_X1 hown hK.1 hP 0 rfl rfl 3 (by decide) (hts _ q361) (fun _ h9 => h9) rfl dX1_isPerson_1 ?_
  refine lv_ifnullN (tgt := 28) hx hb dX1_isPerson_4 (by decide) ?_
  refine lv_iconst (v := (0 : Int32)) hx hb dX1_isPerson_28 (by decide) ?_
  have hM := Option.some.inj hM
  subst hM
  exact W.zret (v := b2i false) hx hb hr (nar_b _) (fun t ht hW => ⟨⟨b2i false, (), rfl, rfl, by rw [ht]; exact hP, hD⟩, hS.F ht⟩) hS.2.2 dX1_isPerson_29
theorem krX1_isPersonN  (res : Bool) (h : MX1_isPersonN  = some res) : res = false := by
  unfold MX1_isPersonN at h
  repeat first | (obtain ⟨_, _, h⟩ := b_inv h) | (split at h)
  all_goals (cases h; rfl)

set_option maxHeartbeats 40000000 in
set_option maxRecDepth 100000 in
theorem ctX1_personN (l : Launch) (D : va_G) (dA : Nat → ClassId) (sz : Nat) (h_o : Nat) (p0 : Int32) (p1 : Int32) (o_taped : Int32) (o_trouble : Int32) (o_fault : Int32) (o_where : Int32) (o_imageMany : Int32) (o_undoMany : Int32) (o_firstRest : Int32) (o_catAt : Int32) (o_tape : Value) (o_scanner : Value) (o_town : Value) (o_was : Value) (o_trial : Value) (o_night : Value) (o_plans : Value) (o_undone : Value) (o_images : Value) (o_often : Value) (o_next : Value) (res : (Int32 × Int32 × Int32)) (hM : MX1_personN  = some res) : Met l yX1_person (ws_ yX1_person cX1_person 3 (some .int)) ({ frames := 1, cells := 0, slots := 0, locals := 21 }) (pre_ D dA [.ref h_o, .int p0, .int p1] [(h_o, .inr (0, [o_tape, .int o_taped, o_scanner, .null, .int o_trouble, .int o_fault, .int o_where, .int o_imageMany, .int o_undoMany, o_town, o_was, o_trial, o_night, o_plans, o_undone, o_images, o_often, .int o_firstRest, o_next, .int o_catAt]))] sz) (qi_ D res.1 (fun (u : Unit) => [(h_o, .inr (0, [o_tape, .int o_taped, o_scanner, .null, .int res.2.1, .int o_fault, .int res.2.2, .int o_imageMany, .int o_undoMany, o_town, o_was, o_trial, o_night, o_plans, o_undone, o_images, o_often, .int o_firstRest, o_next, .int o_catAt]))]) (va_A [(h_o, .inr (0, [o_tape, .int o_taped, o_scanner, .null, .int o_trouble, .int o_fault, .int o_where, .int o_imageMany, .int o_undoMany, o_town, o_was, o_trial, o_night, o_plans, o_undone, o_images, o_often, .int o_firstRest, o_next, .int o_catAt]))] sz)) 0 0 (va_A [(h_o, .inr (0, [o_tape, .int o_taped, o_scanner, .null, .int o_trouble, .int o_fault, .int o_where, .int o_imageMany, .int o_undoMany, o_town, o_was, o_trial, o_night, o_plans, o_undone, o_images, o_often, .int o_firstRest, o_next, .int o_catAt]))] sz) := by
  refine Met.ofW (cc := cX1_person) (maxL := 3) (ret := (some .int)) (by decide) rfl ?_
  intro p e s m args below meth c s₁ B hml hv
  obtain ⟨rfl, hsz, hP, hK, hD0⟩ := hv
  have hx := B.exec
  have hb := B.bytes
  have hr := B.returns
  have hts := atoms_spec (ws := (ws_ yX1_person cX1_person 3 (some .int))) B.pre
  have hts : ∀ w ∈ lw_all, w.before _ s = true := fun w h => hts w (List.mem_cons_of_mem _ h)
  have hown : s.vm.findClass RX1 = some m.cls := findClass_of_methodNamed B.named
  have hlocks := B.notSynchronized
  subst hsz
  have hD := hD0.self (sz := s.heap.size)
  generalize hAe : va_A [(h_o, .inr (0, [o_tape, .int o_taped, o_scanner, .null, .int o_trouble, .int o_fault, .int o_where, .int o_imageMany, .int o_undoMany, o_town, o_was, o_trial, o_night, o_plans, o_undone, o_images, o_often, .int o_firstRest, o_next, .int o_catAt]))] s.heap.size = A at hD ⊢
  have hA : ∀ q : Nat, s.heap.size ≤ q → A q := fun q h => by rw [← hAe]; exact Or.inr h
  have hS : va_S A s.heap s.heap [] := va_S.rf
  have hP : va_P D clG [(h_o, .inr (0, [o_tape, .int o_taped, o_scanner, .null, .int o_trouble, .int o_fault, .int o_where, .int o_imageMany, .int o_undoMany, o_town, o_was, o_trial, o_night, o_plans, o_undone, o_images, o_often, .int o_firstRest, o_next, .int o_catAt]))] s.heap := hP
  have hl := lv_entry ([.ref h_o, .int p0, .int p1]) (n := 3) (Nat.le_of_ble_eq_true rfl)
  rw [lg_entry_eq]
  generalize (lg_sl ([.ref h_o, .int p0, .int p1]) ++ List.replicate (3 - (lg_sl ([.ref h_o, .int p0, .int p1])).length) Slot.unset).toArray = ls at hl ⊢
  have hl : lv_has ls 3 [(0, .ref h_o), (1, .int p0), (2, .int p1)] := hl
  unfold MX1_personN at hM
  refine lv_aload_n hx hb dX1_person_0 rfl (lv_at hl 0 rfl) ?_
  obtain ⟨r1, er1, hM⟩ := b_inv hM
  refine k_v0 [0] (va_runV (As := []) (rest := []) ⟨hx, hb, hml, hown, hts⟩ (ctX1_anew l D dA _ h_o o_taped o_trouble o_fault o_where o_imageMany o_undoMany o_firstRest o_catAt (o_tape) (o_scanner) (.null) (o_town) (o_was) (o_trial) (o_night) (o_plans) (o_undone) (o_images) (o_often) (o_next) r1 er1) (cwV 0 hts (lw_V q432 q434 qs2 q113 q435) rfl rfl rfl (by decide +kernel) ⟨Nat.le_of_ble_eq_true rfl, Nat.le_of_ble_eq_true rfl⟩) (pre_V (hP.sub [0] rfl) hK (hD.sub [0] (by decide) rfl) (ci := 0) (q0 := 0) rfl rfl) rfl rfl hl.1 rfl (lv_room (Nat.le_of_ble_eq_true rfl)) dX1_person_1 ⟨Nat.le_of_ble_eq_true rfl, Nat.le_of_ble_eq_true rfl⟩) hP hD hS hA rfl (fun _ => rfl) (fun u2 H locs hP hD hS => ?_)
  have hP : va_P D clG [(h_o, .inr (0, [o_tape, .int o_taped, o_scanner, .null, .int r1.1, .int o_fault, .int r1.2, .int o_imageMany, .int o_undoMany, o_town, o_was, o_trial, o_night, o_plans, o_undone, o_images, o_often, .int o_firstRest, o_next, .int o_catAt]))] H := hP
  have hD : va_D A [(h_o, .inr (0, [o_tape, .int o_taped, o_scanner, .null, .int r1.1, .int o_fault, .int r1.2, .int o_imageMany, .int o_undoMany, o_town, o_was, o_trial, o_night, o_plans, o_undone, o_images, o_often, .int o_firstRest, o_next, .int o_catAt]))] := hD
  refine lv_aload_n hx hb dX1_person_4 rfl (lv_at hl 0 rfl) ?_
  refine lv_iload_n hx hb dX1_person_5 rfl (lv_at hl 1 rfl) ?_
  obtain ⟨r3, er3, hM⟩ := b_inv hM
  refine k_i0 [0] (va_runV (As := [.int p0]) (rest := []) ⟨hx, hb, hml, hown, hts⟩ (ctX1_isPersonN l D dA _ h_o p0 o_taped r1.1 o_fault r1.2 o_imageMany o_undoMany o_firstRest o_catAt (o_tape) (o_scanner) (o_town) (o_was) (o_trial) (o_night) (o_plans) (o_undone) (o_images) (o_often) (o_next) r3 er3) (cwV 1 hts (lw_V q913 q915 qs24 q113 q916) rfl rfl rfl (by decide +kernel) ⟨Nat.le_of_ble_eq_true rfl, Nat.le_of_ble_eq_true rfl⟩) (pre_V (hP.sub [0] rfl) hK (hD.sub [0] (by decide) rfl) (ci := 0) (q0 := 0) rfl rfl) rfl rfl hl.1 rfl (lv_room (Nat.le_of_ble_eq_true rfl)) dX1_person_6 ⟨Nat.le_of_ble_eq_true rfl, Nat.le_of_ble_eq_true rfl⟩) hP hD hS hA rfl (fun _ => rfl) (fun u4 H locs hP hD hS => ?_)
  have hP : va_P D clG [(h_o, .inr (0, [o_tape, .int o_taped, o_scanner, .null, .int r1.1, .int o_fault, .int r1.2, .int o_imageMany, .int o_undoMany, o_town, o_was, o_trial, o_night, o_plans, o_undone, o_images, o_often, .int o_firstRest, o_next, .int o_catAt]))] H := hP
  have hD : va_D A [(h_o, .inr (0, [o_tape, .int o_taped, o_scanner, .null, .int r1.1, .int o_fault, .int r1.2, .int o_imageMany, .int o_undoMany, o_town, o_was, o_trial, o_night, o_plans, o_undone, o_images, o_often, .int o_firstRest, o_next, .int o_catAt]))] := hD
  have kr3 := krX1_isPersonN _ er3
  refine lv_toi (v := (0 : Int32)) (by rw [kr3]; rfl) ?_
  refine lv_if_ne (tgt := 18) hx hb dX1_person_9 (by decide) (fun c5 => absurd c5 (by decide)) (fun _ => ?_)
  refine lv_aload_n hx hb dX1_person_12 rfl (lv_at hl 0 rfl) ?_
  refine lv_iconst (v := (1 : Int32)) hx hb dX1_person_13 (by decide) ?_
  obtain ⟨r6, er6, hM⟩ := b_inv hM
  refine k_i0 [0] (va_runV (As := [.int (1 : Int32)]) (rest := []) ⟨hx, hb, hml, hown, hts⟩ (ctX1_no l D dA _ h_o (1 : Int32) o_taped r1.1 o_fault r1.2 o_imageMany o_undoMany o_firstRest o_catAt (o_tape) (o_scanner) (.null) (o_town) (o_was) (o_trial) (o_night) (o_plans) (o_undone) (o_images) (o_often) (o_next) r6 er6) (cwV 1 hts (lw_V q439 q441 qs3 q113 q442) rfl rfl rfl (by decide +kernel) ⟨Nat.le_of_ble_eq_true rfl, Nat.le_of_ble_eq_true rfl⟩) (pre_V (hP.sub [0] rfl) hK (hD.sub [0] (by decide) rfl) (ci := 0) (q0 := 0) rfl rfl) rfl rfl hl.1 rfl (lv_room (Nat.le_of_ble_eq_true rfl)) dX1_person_14 ⟨Nat.le_of_ble_eq_true rfl, Nat.le_of_ble_eq_true rfl⟩) hP hD hS hA rfl (fun _ => rfl) (fun u7 H locs hP hD hS => ?_)
  have hP : va_P D clG [(h_o, .inr (0, [o_tape, .int o_taped, o_scanner, .null, .int r6.2, .int o_fault, .int r1.2, .int o_imageMany, .int o_undoMany, o_town, o_was, o_trial, o_night, o_plans, o_undone, o_images, o_often, .int o_firstRest, o_next, .int o_catAt]))] H := hP
  have hD : va_D A [(h_o, .inr (0, [o_tape, .int o_taped, o_scanner, .null, .int r6.2, .int o_fault, .int r1.2, .int o_imageMany, .int o_undoMany, o_town, o_was, o_trial, o_night, o_plans, o_undone, o_images, o_often, .int o_firstRest, o_next, .int o_catAt]))] := hD
  have hM := Option.some.inj hM
  subst hM
  exact W.iret (v := r6.1) hx hb hr (fun t ht hW => ⟨⟨r6.1, (), rfl, rfl, by rw [ht]; exact hP, hD⟩, hS.F ht⟩) hS.2.2 dX1_person_17

set_option maxHeartbeats 40000000 in
set_option maxRecDepth 100000 in
theorem ctX7_isPersonN (l : Launch) (D : va_G) (dA : Nat → ClassId) (sz : Nat) (h_m : Nat) (p0 : Int32) (m_thrown : Int32) (m_trouble : Int32) (m_where : Int32) (m_taped : Int32) (m_size : Int32) (m_spot : Int32) (m_sort : Int32) (m_place : Int32) (m_number : Int32) (m_fault : Int32) (m_wrongAt : Int32) (m_word : Int64) (m_askedOf : Int32) (m_acts : Int32) (m_images : Int32) (m_catGets : Int32) (m_whole : Int64) (m_bestSum : Int64) (m_tourHoursNow : Int32) (m_fitsNow : Int32) (m_foundHour : Int32) (m_lookLeft : Int32) (m_firstCatNow : Int32) (m_read : Value) (m_tape : Value) (m_v : Value) (m_x : Value) (m_past : Value) (m_kept : Value) (m_heir : Value) (m_then : Value) (m_come : Value) (m_comeThen : Value) (m_hour : Value) (m_partIn : Value) (m_heirIn : Value) (res : Bool) (hM : MX7_isPersonN  = some res) : Met l yX7_isPerson (ws_ yX7_isPerson cX7_isPerson 2 (some .boolean)) ({ frames := 0, cells := 0, slots := 0, locals := 0 }) (pre_ D dA [.ref h_m, .int p0] [(h_m, .inr (11, [.int m_thrown, .int m_trouble, .int m_where, .null, m_read, m_tape, .int m_taped, .int m_size, .int m_spot, .int m_sort, .int m_place, .int m_number, .int m_fault, .int m_wrongAt, .long m_word, .int m_askedOf, m_v, m_x, m_past, m_kept, .int m_acts, .int m_images, m_heir, m_then, .int m_catGets, .long m_whole, .long m_bestSum, m_come, m_comeThen, .int m_tourHoursNow, m_hour, m_partIn, m_heirIn, .int m_fitsNow, .int m_foundHour, .int m_lookLeft, .int m_firstCatNow]))] sz) (qi_ D (b2i res) (fun (u : Unit) => [(h_m, .inr (11, [.int m_thrown, .int m_trouble, .int m_where, .null, m_read, m_tape, .int m_taped, .int m_size, .int m_spot, .int m_sort, .int m_place, .int m_number, .int m_fault, .int m_wrongAt, .long m_word, .int m_askedOf, m_v, m_x, m_past, m_kept, .int m_acts, .int m_images, m_heir, m_then, .int m_catGets, .long m_whole, .long m_bestSum, m_come, m_comeThen, .int m_tourHoursNow, m_hour, m_partIn, m_heirIn, .int m_fitsNow, .int m_foundHour, .int m_lookLeft, .int m_firstCatNow]))]) (va_A [(h_m, .inr (11, [.int m_thrown, .int m_trouble, .int m_where, .null, m_read, m_tape, .int m_taped, .int m_size, .int m_spot, .int m_sort, .int m_place, .int m_number, .int m_fault, .int m_wrongAt, .long m_word, .int m_askedOf, m_v, m_x, m_past, m_kept, .int m_acts, .int m_images, m_heir, m_then, .int m_catGets, .long m_whole, .long m_bestSum, m_come, m_comeThen, .int m_tourHoursNow, m_hour, m_partIn, m_heirIn, .int m_fitsNow, .int m_foundHour, .int m_lookLeft, .int m_firstCatNow]))] sz)) 0 0 (va_A [(h_m, .inr (11, [.int m_thrown, .int m_trouble, .int m_where, .null, m_read, m_tape, .int m_taped, .int m_size, .int m_spot, .int m_sort, .int m_place, .int m_number, .int m_fault, .int m_wrongAt, .long m_word, .int m_askedOf, m_v, m_x, m_past, m_kept, .int m_acts, .int m_images, m_heir, m_then, .int m_catGets, .long m_whole, .long m_bestSum, m_come, m_comeThen, .int m_tourHoursNow, m_hour, m_partIn, m_heirIn, .int m_fitsNow, .int m_foundHour, .int m_lookLeft, .int m_firstCatNow]))] sz) := by
  refine Met.ofW (cc := cX7_isPerson) (maxL := 2) (ret := (some .boolean)) (by decide) rfl ?_
  intro p e s m args below meth c s₁ B hml hv
  obtain ⟨rfl, hsz, hP, hK, hD0⟩ := hv
  have hx := B.exec
  have hb := B.bytes
  have hr := B.returns
  have hts := atoms_spec (ws := (ws_ yX7_isPerson cX7_isPerson 2 (some .boolean))) B.pre
  have hts : ∀ w ∈ lw_all, w.before _ s = true := fun w h => hts w (List.mem_cons_of_mem _ h)
  have hown : s.vm.findClass RX7 = some m.cls := findClass_of_methodNamed B.named
  have hlocks := B.notSynchronized
  subst hsz
  have hD := hD0.self (sz := s.heap.size)
  generalize hAe : va_A [(h_m, .inr (11, [.int m_thrown, .int m_trouble, .int m_where, .null, m_read, m_tape, .int m_taped, .int m_size, .int m_spot, .int m_sort, .int m_place, .int m_number, .int m_fault, .int m_wrongAt, .long m_word, .int m_askedOf, m_v, m_x, m_past, m_kept, .int m_acts, .int m_images, m_heir, m_then, .int m_catGets, .long m_whole, .long m_bestSum, m_come, m_comeThen, .int m_tourHoursNow, m_hour, m_partIn, m_heirIn, .int m_fitsNow, .int m_foundHour, .int m_lookLeft, .int m_firstCatNow]))] s.heap.size = A at hD ⊢
  have hA : ∀ q : Nat, s.heap.size ≤ q → A q := fun q h => by rw [← hAe]; exact Or.inr h
  have hS : va_S A s.heap s.heap [] := va_S.rf
  have hP : va_P D clG [(h_m, .inr (11, [.int m_thrown, .int m_trouble, .int m_where, .null, m_read, m_tape, .int m_taped, .int m_size, .int m_spot, .int m_sort, .int m_place, .int m_number, .int m_fault, .int m_wrongAt, .long m_word, .int m_askedOf, m_v, m_x, m_past, m_kept, .int m_acts, .int m_images, m_heir, m_then, .int m_catGets, .long m_whole, .long m_bestSum, m_come, m_comeThen, .int m_tourHoursNow, m_hour, m_partIn, m_heirIn, .int m_fitsNow, .int m_foundHour, .int m_lookLeft, .int m_firstCatNow]))] s.heap := hP
  have hl := lv_entry ([.ref h_m, .int p0]) (n := 2) (Nat.le_of_ble_eq_true rfl)
  rw [lg_entry_eq]
  generalize (lg_sl ([.ref h_m, .int p0]) ++ List.replicate (2 - (lg_sl ([.ref h_m, .int p0])).length) Slot.unset).toArray = ls at hl ⊢
  have hl : lv_has ls 2 [(0, .ref h_m), (1, .int p0)] := hl
  unfold MX7_isPersonN at hM
  refine lv_aload_n hx hb dX7_isPerson_0 rfl (lv_at hl 0 rfl) ?_
  refine va_get (D := D) (ci := 11) (v := .null) (C := RX7) (T := TX7) (N := 37) hx hb hts in_X7 hown hK.1 hP 0 rfl rfl 3 (by decide) (hts _ q1375) (fun _ h9 => h9) rfl dX7_isPerson_1 ?_
  refine lv_ifnullN (tgt := 26) hx hb dX7_isPerson_4 (by decide) ?_
  refine lv_iconst (v := (0 : Int32)) hx hb dX7_isPerson_26 (by decide) ?_
  have hM := Option.some.inj hM
  subst hM
  exact W.zret (v := b2i false) hx hb hr (nar_b _) (fun t ht hW => ⟨⟨b2i false, (), rfl, rfl, by rw [ht]; exact hP, hD⟩, hS.F ht⟩) hS.2.2 dX7_isPerson_27
theorem krX7_isPersonN  (res : Bool) (h : MX7_isPersonN  = some res) : res = false := by
  unfold MX7_isPersonN at h
  repeat first | (obtain ⟨_, _, h⟩ := b_inv h) | (split at h)
  all_goals (cases h; rfl)

set_option maxHeartbeats 40000000 in
set_option maxRecDepth 100000 in
theorem ctX7_personN (l : Launch) (D : va_G) (dA : Nat → ClassId) (sz : Nat) (h_m : Nat) (p0 : Int32) (p1 : Int32) (m_thrown : Int32) (m_trouble : Int32) (m_where : Int32) (m_taped : Int32) (m_size : Int32) (m_spot : Int32) (m_sort : Int32) (m_place : Int32) (m_number : Int32) (m_fault : Int32) (m_wrongAt : Int32) (m_word : Int64) (m_askedOf : Int32) (m_acts : Int32) (m_images : Int32) (m_catGets : Int32) (m_whole : Int64) (m_bestSum : Int64) (m_tourHoursNow : Int32) (m_fitsNow : Int32) (m_foundHour : Int32) (m_lookLeft : Int32) (m_firstCatNow : Int32) (m_read : Value) (m_tape : Value) (m_v : Value) (m_x : Value) (m_past : Value) (m_kept : Value) (m_heir : Value) (m_then : Value) (m_come : Value) (m_comeThen : Value) (m_hour : Value) (m_partIn : Value) (m_heirIn : Value) (res : (Int32 × Int32 × Int32 × Int32)) (hM : MX7_personN  = some res) : Met l yX7_person (ws_ yX7_person cX7_person 3 (some .int)) ({ frames := 1, cells := 0, slots := 0, locals := 21 }) (pre_ D dA [.ref h_m, .int p0, .int p1] [(h_m, .inr (11, [.int m_thrown, .int m_trouble, .int m_where, .null, m_read, m_tape, .int m_taped, .int m_size, .int m_spot, .int m_sort, .int m_place, .int m_number, .int m_fault, .int m_wrongAt, .long m_word, .int m_askedOf, m_v, m_x, m_past, m_kept, .int m_acts, .int m_images, m_heir, m_then, .int m_catGets, .long m_whole, .long m_bestSum, m_come, m_comeThen, .int m_tourHoursNow, m_hour, m_partIn, m_heirIn, .int m_fitsNow, .int m_foundHour, .int m_lookLeft, .int m_firstCatNow]))] sz) (qi_ D res.1 (fun (u : Unit) => [(h_m, .inr (11, [.int res.2.1, .int res.2.2.1, .int res.2.2.2, .null, m_read, m_tape, .int m_taped, .int m_size, .int m_spot, .int m_sort, .int m_place, .int m_number, .int m_fault, .int m_wrongAt, .long m_word, .int m_askedOf, m_v, m_x, m_past, m_kept, .int m_acts, .int m_images, m_heir, m_then, .int m_catGets, .long m_whole, .long m_bestSum, m_come, m_comeThen, .int m_tourHoursNow, m_hour, m_partIn, m_heirIn, .int m_fitsNow, .int m_foundHour, .int m_lookLeft, .int m_firstCatNow]))]) (va_A [(h_m, .inr (11, [.int m_thrown, .int m_trouble, .int m_where, .null, m_read, m_tape, .int m_taped, .int m_size, .int m_spot, .int m_sort, .int m_place, .int m_number, .int m_fault, .int m_wrongAt, .long m_word, .int m_askedOf, m_v, m_x, m_past, m_kept, .int m_acts, .int m_images, m_heir, m_then, .int m_catGets, .long m_whole, .long m_bestSum, m_come, m_comeThen, .int m_tourHoursNow, m_hour, m_partIn, m_heirIn, .int m_fitsNow, .int m_foundHour, .int m_lookLeft, .int m_firstCatNow]))] sz)) 0 0 (va_A [(h_m, .inr (11, [.int m_thrown, .int m_trouble, .int m_where, .null, m_read, m_tape, .int m_taped, .int m_size, .int m_spot, .int m_sort, .int m_place, .int m_number, .int m_fault, .int m_wrongAt, .long m_word, .int m_askedOf, m_v, m_x, m_past, m_kept, .int m_acts, .int m_images, m_heir, m_then, .int m_catGets, .long m_whole, .long m_bestSum, m_come, m_comeThen, .int m_tourHoursNow, m_hour, m_partIn, m_heirIn, .int m_fitsNow, .int m_foundHour, .int m_lookLeft, .int m_firstCatNow]))] sz) := by
  refine Met.ofW (cc := cX7_person) (maxL := 3) (ret := (some .int)) (by decide) rfl ?_
  intro p e s m args below meth c s₁ B hml hv
  obtain ⟨rfl, hsz, hP, hK, hD0⟩ := hv
  have hx := B.exec
  have hb := B.bytes
  have hr := B.returns
  have hts := atoms_spec (ws := (ws_ yX7_person cX7_person 3 (some .int))) B.pre
  have hts : ∀ w ∈ lw_all, w.before _ s = true := fun w h => hts w (List.mem_cons_of_mem _ h)
  have hown : s.vm.findClass RX7 = some m.cls := findClass_of_methodNamed B.named
  have hlocks := B.notSynchronized
  subst hsz
  have hD := hD0.self (sz := s.heap.size)
  generalize hAe : va_A [(h_m, .inr (11, [.int m_thrown, .int m_trouble, .int m_where, .null, m_read, m_tape, .int m_taped, .int m_size, .int m_spot, .int m_sort, .int m_place, .int m_number, .int m_fault, .int m_wrongAt, .long m_word, .int m_askedOf, m_v, m_x, m_past, m_kept, .int m_acts, .int m_images, m_heir, m_then, .int m_catGets, .long m_whole, .long m_bestSum, m_come, m_comeThen, .int m_tourHoursNow, m_hour, m_partIn, m_heirIn, .int m_fitsNow, .int m_foundHour, .int m_lookLeft, .int m_firstCatNow]))] s.heap.size = A at hD ⊢
  have hA : ∀ q : Nat, s.heap.size ≤ q → A q := fun q h => by rw [← hAe]; exact Or.inr h
  have hS : va_S A s.heap s.heap [] := va_S.rf
  have hP : va_P D clG [(h_m, .inr (11, [.int m_thrown, .int m_trouble, .int m_where, .null, m_read, m_tape, .int m_taped, .int m_size, .int m_spot, .int m_sort, .int m_place, .int m_number, .int m_fault, .int m_wrongAt, .long m_word, .int m_askedOf, m_v, m_x, m_past, m_kept, .int m_acts, .int m_images, m_heir, m_then, .int m_catGets, .long m_whole, .long m_bestSum, m_come, m_comeThen, .int m_tourHoursNow, m_hour, m_partIn, m_heirIn, .int m_fitsNow, .int m_foundHour, .int m_lookLeft, .int m_firstCatNow]))] s.heap := hP
  have hl := lv_entry ([.ref h_m, .int p0, .int p1]) (n := 3) (Nat.le_of_ble_eq_true rfl)
  rw [lg_entry_eq]
  generalize (lg_sl ([.ref h_m, .int p0, .int p1]) ++ List.replicate (3 - (lg_sl ([.ref h_m, .int p0, .int p1])).length) Slot.unset).toArray = ls at hl ⊢
  have hl : lv_has ls 3 [(0, .ref h_m), (1, .int p0), (2, .int p1)] := hl
  unfold MX7_personN at hM
  refine lv_aload_n hx hb dX7_person_0 rfl (lv_at hl 0 rfl) ?_
  refine lv_iconst (v := (0 : Int32)) hx hb dX7_person_1 (by decide) ?_
  refine va_put (D := D) (ci := 11) (v := .int (0 : Int32)) (ty := .int) (C := RX7) (T := TX7) (N := 37) hx hb hts in_X7 tyX7 tyX7_ok nmX7 hown hK.1 hP hD hS 0 rfl rfl 0 (by decide) (hts _ q1372) (fun _ h9 => h9) rfl (by decide +kernel) rfl rfl (Nat.le_of_ble_eq_true rfl) dX7_person_2 (fun H locs hP hD hS => ?_)
  have hP : va_P D clG [(h_m, .inr (11, [.int (0 : Int32), .int m_trouble, .int m_where, .null, m_read, m_tape, .int m_taped, .int m_size, .int m_spot, .int m_sort, .int m_place, .int m_number, .int m_fault, .int m_wrongAt, .long m_word, .int m_askedOf, m_v, m_x, m_past, m_kept, .int m_acts, .int m_images, m_heir, m_then, .int m_catGets, .long m_whole, .long m_bestSum, m_come, m_comeThen, .int m_tourHoursNow, m_hour, m_partIn, m_heirIn, .int m_fitsNow, .int m_foundHour, .int m_lookLeft, .int m_firstCatNow]))] H := hP
  have hD : va_D A [(h_m, .inr (11, [.int (0 : Int32), .int m_trouble, .int m_where, .null, m_read, m_tape, .int m_taped, .int m_size, .int m_spot, .int m_sort, .int m_place, .int m_number, .int m_fault, .int m_wrongAt, .long m_word, .int m_askedOf, m_v, m_x, m_past, m_kept, .int m_acts, .int m_images, m_heir, m_then, .int m_catGets, .long m_whole, .long m_bestSum, m_come, m_comeThen, .int m_tourHoursNow, m_hour, m_partIn, m_heirIn, .int m_fitsNow, .int m_foundHour, .int m_lookLeft, .int m_firstCatNow]))] := hD
  refine lv_aload_n hx hb dX7_person_5 rfl (lv_at hl 0 rfl) ?_
  refine lv_iload_n hx hb dX7_person_6 rfl (lv_at hl 1 rfl) ?_
  obtain ⟨r1, er1, hM⟩ := b_inv hM
  refine k_i0 [0] (va_runV (As := [.int p0]) (rest := []) ⟨hx, hb, hml, hown, hts⟩ (ctX7_isPersonN l D dA _ h_m p0 (0 : Int32) m_trouble m_where m_taped m_size m_spot m_sort m_place m_number m_fault m_wrongAt m_word m_askedOf m_acts m_images m_catGets m_whole m_bestSum m_tourHoursNow m_fitsNow m_foundHour m_lookLeft m_firstCatNow (m_read) (m_tape) (m_v) (m_x) (m_past) (m_kept) (m_heir) (m_then) (m_come) (m_comeThen) (m_hour) (m_partIn) (m_heirIn) r1 er1) (cwV 1 hts (lw_V q1733 q1735 qs71 q122 q1736) rfl rfl rfl (by decide +kernel) ⟨Nat.le_of_ble_eq_true rfl, Nat.le_of_ble_eq_true rfl⟩) (pre_V (hP.sub [0] rfl) hK (hD.sub [0] (by decide) rfl) (ci := 11) (q0 := 0) rfl rfl) rfl rfl hl.1 rfl (lv_room (Nat.le_of_ble_eq_true rfl)) dX7_person_7 ⟨Nat.le_of_ble_eq_true rfl, Nat.le_of_ble_eq_true rfl⟩) hP hD hS hA rfl (fun _ => rfl) (fun u2 H locs hP hD hS => ?_)
  have hP : va_P D clG [(h_m, .inr (11, [.int (0 : Int32), .int m_trouble, .int m_where, .null, m_read, m_tape, .int m_taped, .int m_size, .int m_spot, .int m_sort, .int m_place, .int m_number, .int m_fault, .int m_wrongAt, .long m_word, .int m_askedOf, m_v, m_x, m_past, m_kept, .int m_acts, .int m_images, m_heir, m_then, .int m_catGets, .long m_whole, .long m_bestSum, m_come, m_comeThen, .int m_tourHoursNow, m_hour, m_partIn, m_heirIn, .int m_fitsNow, .int m_foundHour, .int m_lookLeft, .int m_firstCatNow]))] H := hP
  have hD : va_D A [(h_m, .inr (11, [.int (0 : Int32), .int m_trouble, .int m_where, .null, m_read, m_tape, .int m_taped, .int m_size, .int m_spot, .int m_sort, .int m_place, .int m_number, .int m_fault, .int m_wrongAt, .long m_word, .int m_askedOf, m_v, m_x, m_past, m_kept, .int m_acts, .int m_images, m_heir, m_then, .int m_catGets, .long m_whole, .long m_bestSum, m_come, m_comeThen, .int m_tourHoursNow, m_hour, m_partIn, m_heirIn, .int m_fitsNow, .int m_foundHour, .int m_lookLeft, .int m_firstCatNow]))] := hD
  have kr1 := krX7_isPersonN _ er1
  refine lv_toi (v := (0 : Int32)) (by rw [kr1]; rfl) ?_
  refine lv_if_eq (tgt := 23) hx hb dX7_person_10 (by decide) (fun _ => ?_) (fun c3 => absurd c3 (by decide))
  refine lv_aload_n hx hb dX7_person_23 rfl (lv_at hl 0 rfl) ?_
  refine lv_iconst (v := (1 : Int32)) hx hb dX7_person_24 (by decide) ?_
  obtain ⟨r4, er4, hM⟩ := b_inv hM
  refine k_i0 [0] (va_runV (As := [.int (1 : Int32)]) (rest := []) ⟨hx, hb, hml, hown, hts⟩ (ctX7_refused l D dA _ h_m (1 : Int32) (0 : Int32) m_trouble m_where m_taped m_size m_spot m_sort m_place m_number m_fault m_wrongAt m_word m_askedOf m_acts m_images m_catGets m_whole m_bestSum m_tourHoursNow m_fitsNow m_foundHour m_lookLeft m_firstCatNow (.null) (m_read) (m_tape) (m_v) (m_x) (m_past) (m_kept) (m_heir) (m_then) (m_come) (m_comeThen) (m_hour) (m_partIn) (m_heirIn) r4 er4) (cwV 1 hts (lw_V q1496 q1498 qs50 q122 q1499) rfl rfl rfl (by decide +kernel) ⟨Nat.le_of_ble_eq_true rfl, Nat.le_of_ble_eq_true rfl⟩) (pre_V (hP.sub [0] rfl) hK (hD.sub [0] (by decide) rfl) (ci := 11) (q0 := 0) rfl rfl) rfl rfl hl.1 rfl (lv_room (Nat.le_of_ble_eq_true rfl)) dX7_person_25 ⟨Nat.le_of_ble_eq_true rfl, Nat.le_of_ble_eq_true rfl⟩) hP hD hS hA rfl (fun _ => rfl) (fun u5 H locs hP hD hS => ?_)
  have hP : va_P D clG [(h_m, .inr (11, [.int (0 : Int32), .int r4.2.1, .int r4.2.2, .null, m_read, m_tape, .int m_taped, .int m_size, .int m_spot, .int m_sort, .int m_place, .int m_number, .int m_fault, .int m_wrongAt, .long m_word, .int m_askedOf, m_v, m_x, m_past, m_kept, .int m_acts, .int m_images, m_heir, m_then, .int m_catGets, .long m_whole, .long m_bestSum, m_come, m_comeThen, .int m_tourHoursNow, m_hour, m_partIn, m_heirIn, .int m_fitsNow, .int m_foundHour, .int m_lookLeft, .int m_firstCatNow]))] H := hP
  have hD : va_D A [(h_m, .inr (11, [.int (0 : Int32), .int r4.2.1, .int r4.2.2, .null, m_read, m_tape, .int m_taped, .int m_size, .int m_spot, .int m_sort, .int m_place, .int m_number, .int m_fault, .int m_wrongAt, .long m_word, .int m_askedOf, m_v, m_x, m_past, m_kept, .int m_acts, .int m_images, m_heir, m_then, .int m_catGets, .long m_whole, .long m_bestSum, m_come, m_comeThen, .int m_tourHoursNow, m_hour, m_partIn, m_heirIn, .int m_fitsNow, .int m_foundHour, .int m_lookLeft, .int m_firstCatNow]))] := hD
  have hM := Option.some.inj hM
  subst hM
  exact W.iret (v := r4.1) hx hb hr (fun t ht hW => ⟨⟨r4.1, (), rfl, rfl, by rw [ht]; exact hP, hD⟩, hS.F ht⟩) hS.2.2 dX7_person_28

set_option maxHeartbeats 40000000 in
set_option maxRecDepth 100000 in
theorem ctX1_areTwoN (l : Launch) (D : va_G) (dA : Nat → ClassId) (sz : Nat) (h_o : Nat) (p0 : Int32) (p1 : Int32) (o_taped : Int32) (o_trouble : Int32) (o_fault : Int32) (o_where : Int32) (o_imageMany : Int32) (o_undoMany : Int32) (o_firstRest : Int32) (o_catAt : Int32) (o_tape : Value) (o_scanner : Value) (o_town : Value) (o_was : Value) (o_trial : Value) (o_night : Value) (o_plans : Value) (o_undone : Value) (o_images : Value) (o_often : Value) (o_next : Value) (res : Bool) (hM : MX1_areTwoN  = some res) : Met l yX1_areTwo (ws_ yX1_areTwo cX1_areTwo 3 (some .boolean)) ({ frames := 1, cells := 0, slots := 0, locals := 21 }) (pre_ D dA [.ref h_o, .int p0, .int p1] [(h_o, .inr (0, [o_tape, .int o_taped, o_scanner, .null, .int o_trouble, .int o_fault, .int o_where, .int o_imageMany, .int o_undoMany, o_town, o_was, o_trial, o_night, o_plans, o_undone, o_images, o_often, .int o_firstRest, o_next, .int o_catAt]))] sz) (qi_ D (b2i res) (fun (u : Unit) => [(h_o, .inr (0, [o_tape, .int o_taped, o_scanner, .null, .int o_trouble, .int o_fault, .int o_where, .int o_imageMany, .int o_undoMany, o_town, o_was, o_trial, o_night, o_plans, o_undone, o_images, o_often, .int o_firstRest, o_next, .int o_catAt]))]) (va_A [(h_o, .inr (0, [o_tape, .int o_taped, o_scanner, .null, .int o_trouble, .int o_fault, .int o_where, .int o_imageMany, .int o_undoMany, o_town, o_was, o_trial, o_night, o_plans, o_undone, o_images, o_often, .int o_firstRest, o_next, .int o_catAt]))] sz)) 0 0 (va_A [(h_o, .inr (0, [o_tape, .int o_taped, o_scanner, .null, .int o_trouble, .int o_fault, .int o_where, .int o_imageMany, .int o_undoMany, o_town, o_was, o_trial, o_night, o_plans, o_undone, o_images, o_often, .int o_firstRest, o_next, .int o_catAt]))] sz) := by
  refine Met.ofW (cc := cX1_areTwo) (maxL := 3) (ret := (some .boolean)) (by decide) rfl ?_
  intro p e s m args below meth c s₁ B hml hv
  obtain ⟨rfl, hsz, hP, hK, hD0⟩ := hv
  have hx := B.exec
  have hb := B.bytes
  have hr := B.returns
  have hts := atoms_spec (ws := (ws_ yX1_areTwo cX1_areTwo 3 (some .boolean))) B.pre
  have hts : ∀ w ∈ lw_all, w.before _ s = true := fun w h => hts w (List.mem_cons_of_mem _ h)
  have hown : s.vm.findClass RX1 = some m.cls := findClass_of_methodNamed B.named
  have hlocks := B.notSynchronized
  subst hsz
  have hD := hD0.self (sz := s.heap.size)
  generalize hAe : va_A [(h_o, .inr (0, [o_tape, .int o_taped, o_scanner, .null, .int o_trouble, .int o_fault, .int o_where, .int o_imageMany, .int o_undoMany, o_town, o_was, o_trial, o_night, o_plans, o_undone, o_images, o_often, .int o_firstRest, o_next, .int o_catAt]))] s.heap.size = A at hD ⊢
  have hA : ∀ q : Nat, s.heap.size ≤ q → A q := fun q h => by rw [← hAe]; exact Or.inr h
  have hS : va_S A s.heap s.heap [] := va_S.rf
  have hP : va_P D clG [(h_o, .inr (0, [o_tape, .int o_taped, o_scanner, .null, .int o_trouble, .int o_fault, .int o_where, .int o_imageMany, .int o_undoMany, o_town, o_was, o_trial, o_night, o_plans, o_undone, o_images, o_often, .int o_firstRest, o_next, .int o_catAt]))] s.heap := hP
  have hl := lv_entry ([.ref h_o, .int p0, .int p1]) (n := 3) (Nat.le_of_ble_eq_true rfl)
  rw [lg_entry_eq]
  generalize (lg_sl ([.ref h_o, .int p0, .int p1]) ++ List.replicate (3 - (lg_sl ([.ref h_o, .int p0, .int p1])).length) Slot.unset).toArray = ls at hl ⊢
  have hl : lv_has ls 3 [(0, .ref h_o), (1, .int p0), (2, .int p1)] := hl
  unfold MX1_areTwoN at hM
  refine lv_aload_n hx hb dX1_areTwo_0 rfl (lv_at hl 0 rfl) ?_
  refine lv_iload_n hx hb dX1_areTwo_1 rfl (lv_at hl 1 rfl) ?_
  obtain ⟨r1, er1, hM⟩ := b_inv hM
  refine k_i0 [0] (va_runV (As := [.int p0]) (rest := []) ⟨hx, hb, hml, hown, hts⟩ (ctX1_isPersonN l D dA _ h_o p0 o_taped o_trouble o_fault o_where o_imageMany o_undoMany o_firstRest o_catAt (o_tape) (o_scanner) (o_town) (o_was) (o_trial) (o_night) (o_plans) (o_undone) (o_images) (o_often) (o_next) r1 er1) (cwV 1 hts (lw_V q913 q915 qs24 q113 q916) rfl rfl rfl (by decide +kernel) ⟨Nat.le_of_ble_eq_true rfl, Nat.le_of_ble_eq_true rfl⟩) (pre_V (hP.sub [0] rfl) hK (hD.sub [0] (by decide) rfl) (ci := 0) (q0 := 0) rfl rfl) rfl rfl hl.1 rfl (lv_room (Nat.le_of_ble_eq_true rfl)) dX1_areTwo_2 ⟨Nat.le_of_ble_eq_true rfl, Nat.le_of_ble_eq_true rfl⟩) hP hD hS hA rfl (fun _ => rfl) (fun u2 H locs hP hD hS => ?_)
  have hP : va_P D clG [(h_o, .inr (0, [o_tape, .int o_taped, o_scanner, .null, .int o_trouble, .int o_fault, .int o_where, .int o_imageMany, .int o_undoMany, o_town, o_was, o_trial, o_night, o_plans, o_undone, o_images, o_often, .int o_firstRest, o_next, .int o_catAt]))] H := hP
  have hD : va_D A [(h_o, .inr (0, [o_tape, .int o_taped, o_scanner, .null, .int o_trouble, .int o_fault, .int o_where, .int o_imageMany, .int o_undoMany, o_town, o_was, o_trial, o_night, o_plans, o_undone, o_images, o_often, .int o_firstRest, o_next, .int o_catAt]))] := hD
  have kr1 := krX1_isPersonN _ er1
  refine lv_toi (v := (0 : Int32)) (by rw [kr1]; rfl) ?_
  refine lv_if_eq (tgt := 25) hx hb dX1_areTwo_5 (by decide) (fun _ => ?_) (fun c3 => absurd c3 (by decide))
  refine lv_iconst (v := (0 : Int32)) hx hb dX1_areTwo_25 (by decide) ?_
  have hM := Option.some.inj hM
  subst hM
  exact W.zret (v := b2i false) hx hb hr (nar_b _) (fun t ht hW => ⟨⟨b2i false, (), rfl, rfl, by rw [ht]; exact hP, hD⟩, hS.F ht⟩) hS.2.2 dX1_areTwo_26
theorem krX1_areTwoN  (res : Bool) (h : MX1_areTwoN  = some res) : res = false := by
  unfold MX1_areTwoN at h
  repeat first | (obtain ⟨_, _, h⟩ := b_inv h) | (split at h)
  all_goals (cases h; rfl)

set_option maxHeartbeats 40000000 in
set_option maxRecDepth 100000 in
theorem ctX1_registerN (l : Launch) (D : va_G) (dA : Nat → ClassId) (sz : Nat) (h_o : Nat) (p0 : Int32) (p1 : Int32) (o_taped : Int32) (o_trouble : Int32) (o_fault : Int32) (o_where : Int32) (o_imageMany : Int32) (o_undoMany : Int32) (o_firstRest : Int32) (o_catAt : Int32) (o_tape : Value) (o_scanner : Value) (o_town : Value) (o_was : Value) (o_trial : Value) (o_night : Value) (o_plans : Value) (o_undone : Value) (o_images : Value) (o_often : Value) (o_next : Value) (res : (Int32 × Int32 × Int32)) (hM : MX1_registerN  = some res) : Met l yX1_register (ws_ yX1_register cX1_register 3 (some .int)) ({ frames := 2, cells := 0, slots := 0, locals := 43 }) (pre_ D dA [.ref h_o, .int p0, .int p1] [(h_o, .inr (0, [o_tape, .int o_taped, o_scanner, .null, .int o_trouble, .int o_fault, .int o_where, .int o_imageMany, .int o_undoMany, o_town, o_was, o_trial, o_night, o_plans, o_undone, o_images, o_often, .int o_firstRest, o_next, .int o_catAt]))] sz) (qi_ D res.1 (fun (u : Unit) => [(h_o, .inr (0, [o_tape, .int o_taped, o_scanner, .null, .int res.2.1, .int o_fault, .int res.2.2, .int o_imageMany, .int o_undoMany, o_town, o_was, o_trial, o_night, o_plans, o_undone, o_images, o_often, .int o_firstRest, o_next, .int o_catAt]))]) (va_A [(h_o, .inr (0, [o_tape, .int o_taped, o_scanner, .null, .int o_trouble, .int o_fault, .int o_where, .int o_imageMany, .int o_undoMany, o_town, o_was, o_trial, o_night, o_plans, o_undone, o_images, o_often, .int o_firstRest, o_next, .int o_catAt]))] sz)) 0 0 (va_A [(h_o, .inr (0, [o_tape, .int o_taped, o_scanner, .null, .int o_trouble, .int o_fault, .int o_where, .int o_imageMany, .int o_undoMany, o_town, o_was, o_trial, o_night, o_plans, o_undone, o_images, o_often, .int o_firstRest, o_next, .int o_catAt]))] sz) := by
  refine Met.ofW (cc := cX1_register) (maxL := 3) (ret := (some .int)) (by decide) rfl ?_
  intro p e s m args below meth c s₁ B hml hv
  obtain ⟨rfl, hsz, hP, hK, hD0⟩ := hv
  have hx := B.exec
  have hb := B.bytes
  have hr := B.returns
  have hts := atoms_spec (ws := (ws_ yX1_register cX1_register 3 (some .int))) B.pre
  have hts : ∀ w ∈ lw_all, w.before _ s = true := fun w h => hts w (List.mem_cons_of_mem _ h)
  have hown : s.vm.findClass RX1 = some m.cls := findClass_of_methodNamed B.named
  have hlocks := B.notSynchronized
  subst hsz
  have hD := hD0.self (sz := s.heap.size)
  generalize hAe : va_A [(h_o, .inr (0, [o_tape, .int o_taped, o_scanner, .null, .int o_trouble, .int o_fault, .int o_where, .int o_imageMany, .int o_undoMany, o_town, o_was, o_trial, o_night, o_plans, o_undone, o_images, o_often, .int o_firstRest, o_next, .int o_catAt]))] s.heap.size = A at hD ⊢
  have hA : ∀ q : Nat, s.heap.size ≤ q → A q := fun q h => by rw [← hAe]; exact Or.inr h
  have hS : va_S A s.heap s.heap [] := va_S.rf
  have hP : va_P D clG [(h_o, .inr (0, [o_tape, .int o_taped, o_scanner, .null, .int o_trouble, .int o_fault, .int o_where, .int o_imageMany, .int o_undoMany, o_town, o_was, o_trial, o_night, o_plans, o_undone, o_images, o_often, .int o_firstRest, o_next, .int o_catAt]))] s.heap := hP
  have hl := lv_entry ([.ref h_o, .int p0, .int p1]) (n := 3) (Nat.le_of_ble_eq_true rfl)
  rw [lg_entry_eq]
  generalize (lg_sl ([.ref h_o, .int p0, .int p1]) ++ List.replicate (3 - (lg_sl ([.ref h_o, .int p0, .int p1])).length) Slot.unset).toArray = ls at hl ⊢
  have hl : lv_has ls 3 [(0, .ref h_o), (1, .int p0), (2, .int p1)] := hl
  unfold MX1_registerN at hM
  refine lv_aload_n hx hb dX1_register_0 rfl (lv_at hl 0 rfl) ?_
  obtain ⟨r1, er1, hM⟩ := b_inv hM
  refine k_v0 [0] (va_runV (As := []) (rest := []) ⟨hx, hb, hml, hown, hts⟩ (ctX1_anew l D dA _ h_o o_taped o_trouble o_fault o_where o_imageMany o_undoMany o_firstRest o_catAt (o_tape) (o_scanner) (.null) (o_town) (o_was) (o_trial) (o_night) (o_plans) (o_undone) (o_images) (o_often) (o_next) r1 er1) (cwV 0 hts (lw_V q432 q434 qs2 q113 q435) rfl rfl rfl (by decide +kernel) ⟨Nat.le_of_ble_eq_true rfl, Nat.le_of_ble_eq_true rfl⟩) (pre_V (hP.sub [0] rfl) hK (hD.sub [0] (by decide) rfl) (ci := 0) (q0 := 0) rfl rfl) rfl rfl hl.1 rfl (lv_room (Nat.le_of_ble_eq_true rfl)) dX1_register_1 ⟨Nat.le_of_ble_eq_true rfl, Nat.le_of_ble_eq_true rfl⟩) hP hD hS hA rfl (fun _ => rfl) (fun u2 H locs hP hD hS => ?_)
  have hP : va_P D clG [(h_o, .inr (0, [o_tape, .int o_taped, o_scanner, .null, .int r1.1, .int o_fault, .int r1.2, .int o_imageMany, .int o_undoMany, o_town, o_was, o_trial, o_night, o_plans, o_undone, o_images, o_often, .int o_firstRest, o_next, .int o_catAt]))] H := hP
  have hD : va_D A [(h_o, .inr (0, [o_tape, .int o_taped, o_scanner, .null, .int r1.1, .int o_fault, .int r1.2, .int o_imageMany, .int o_undoMany, o_town, o_was, o_trial, o_night, o_plans, o_undone, o_images, o_often, .int o_firstRest, o_next, .int o_catAt]))] := hD
  refine lv_aload_n hx hb dX1_register_4 rfl (lv_at hl 0 rfl) ?_
  refine lv_iload_n hx hb dX1_register_5 rfl (lv_at hl 1 rfl) ?_
  refine lv_iload_n hx hb dX1_register_6 rfl (lv_at hl 2 rfl) ?_
  obtain ⟨r3, er3, hM⟩ := b_inv hM
  refine k_i0 [0] (va_runV (As := [.int p0, .int p1]) (rest := []) ⟨hx, hb, hml, hown, hts⟩ (ctX1_areTwoN l D dA _ h_o p0 p1 o_taped r1.1 o_fault r1.2 o_imageMany o_undoMany o_firstRest o_catAt (o_tape) (o_scanner) (o_town) (o_was) (o_trial) (o_night) (o_plans) (o_undone) (o_images) (o_often) (o_next) r3 er3) (cwV 2 hts (lw_V q958 q960 qs27 q113 q961) rfl rfl rfl (by decide +kernel) ⟨Nat.le_of_ble_eq_true rfl, Nat.le_of_ble_eq_true rfl⟩) (pre_V (hP.sub [0] rfl) hK (hD.sub [0] (by decide) rfl) (ci := 0) (q0 := 0) rfl rfl) rfl rfl hl.1 rfl (lv_room (Nat.le_of_ble_eq_true rfl)) dX1_register_7 ⟨Nat.le_of_ble_eq_true rfl, Nat.le_of_ble_eq_true rfl⟩) hP hD hS hA rfl (fun _ => rfl) (fun u4 H locs hP hD hS => ?_)
  have hP : va_P D clG [(h_o, .inr (0, [o_tape, .int o_taped, o_scanner, .null, .int r1.1, .int o_fault, .int r1.2, .int o_imageMany, .int o_undoMany, o_town, o_was, o_trial, o_night, o_plans, o_undone, o_images, o_often, .int o_firstRest, o_next, .int o_catAt]))] H := hP
  have hD : va_D A [(h_o, .inr (0, [o_tape, .int o_taped, o_scanner, .null, .int r1.1, .int o_fault, .int r1.2, .int o_imageMany, .int o_undoMany, o_town, o_was, o_trial, o_night, o_plans, o_undone, o_images, o_often, .int o_firstRest, o_next, .int o_catAt]))] := hD
  have kr3 := krX1_areTwoN _ er3
  refine lv_toi (v := (0 : Int32)) (by rw [kr3]; rfl) ?_
  refine lv_if_eq (tgt := 25) hx hb dX1_register_10 (by decide) (fun _ => ?_) (fun c5 => absurd c5 (by decide))
  refine lv_aload_n hx hb dX1_register_25 rfl (lv_at hl 0 rfl) ?_
  refine lv_iconst (v := (1 : Int32)) hx hb dX1_register_26 (by decide) ?_
  obtain ⟨r6, er6, hM⟩ := b_inv hM
  refine k_i0 [0] (va_runV (As := [.int (1 : Int32)]) (rest := []) ⟨hx, hb, hml, hown, hts⟩ (ctX1_no l D dA _ h_o (1 : Int32) o_taped r1.1 o_fault r1.2 o_imageMany o_undoMany o_firstRest o_catAt (o_tape) (o_scanner) (.null) (o_town) (o_was) (o_trial) (o_night) (o_plans) (o_undone) (o_images) (o_often) (o_next) r6 er6) (cwV 1 hts (lw_V q439 q441 qs3 q113 q442) rfl rfl rfl (by decide +kernel) ⟨Nat.le_of_ble_eq_true rfl, Nat.le_of_ble_eq_true rfl⟩) (pre_V (hP.sub [0] rfl) hK (hD.sub [0] (by decide) rfl) (ci := 0) (q0 := 0) rfl rfl) rfl rfl hl.1 rfl (lv_room (Nat.le_of_ble_eq_true rfl)) dX1_register_27 ⟨Nat.le_of_ble_eq_true rfl, Nat.le_of_ble_eq_true rfl⟩) hP hD hS hA rfl (fun _ => rfl) (fun u7 H locs hP hD hS => ?_)
  have hP : va_P D clG [(h_o, .inr (0, [o_tape, .int o_taped, o_scanner, .null, .int r6.2, .int o_fault, .int r1.2, .int o_imageMany, .int o_undoMany, o_town, o_was, o_trial, o_night, o_plans, o_undone, o_images, o_often, .int o_firstRest, o_next, .int o_catAt]))] H := hP
  have hD : va_D A [(h_o, .inr (0, [o_tape, .int o_taped, o_scanner, .null, .int r6.2, .int o_fault, .int r1.2, .int o_imageMany, .int o_undoMany, o_town, o_was, o_trial, o_night, o_plans, o_undone, o_images, o_often, .int o_firstRest, o_next, .int o_catAt]))] := hD
  have hM := Option.some.inj hM
  subst hM
  exact W.iret (v := r6.1) hx hb hr (fun t ht hW => ⟨⟨r6.1, (), rfl, rfl, by rw [ht]; exact hP, hD⟩, hS.F ht⟩) hS.2.2 dX1_register_30

set_option maxHeartbeats 40000000 in
set_option maxRecDepth 100000 in
theorem ctX7_areTwoN (l : Launch) (D : va_G) (dA : Nat → ClassId) (sz : Nat) (h_m : Nat) (p0 : Int32) (p1 : Int32) (m_thrown : Int32) (m_trouble : Int32) (m_where : Int32) (m_taped : Int32) (m_size : Int32) (m_spot : Int32) (m_sort : Int32) (m_place : Int32) (m_number : Int32) (m_fault : Int32) (m_wrongAt : Int32) (m_word : Int64) (m_askedOf : Int32) (m_acts : Int32) (m_images : Int32) (m_catGets : Int32) (m_whole : Int64) (m_bestSum : Int64) (m_tourHoursNow : Int32) (m_fitsNow : Int32) (m_foundHour : Int32) (m_lookLeft : Int32) (m_firstCatNow : Int32) (m_read : Value) (m_tape : Value) (m_v : Value) (m_x : Value) (m_past : Value) (m_kept : Value) (m_heir : Value) (m_then : Value) (m_come : Value) (m_comeThen : Value) (m_hour : Value) (m_partIn : Value) (m_heirIn : Value) (res : Bool) (hM : MX7_areTwoN  = some res) : Met l yX7_areTwo (ws_ yX7_areTwo cX7_areTwo 3 (some .boolean)) ({ frames := 1, cells := 0, slots := 0, locals := 21 }) (pre_ D dA [.ref h_m, .int p0, .int p1] [(h_m, .inr (11, [.int m_thrown, .int m_trouble, .int m_where, .null, m_read, m_tape, .int m_taped, .int m_size, .int m_spot, .int m_sort, .int m_place, .int m_number, .int m_fault, .int m_wrongAt, .long m_word, .int m_askedOf, m_v, m_x, m_past, m_kept, .int m_acts, .int m_images, m_heir, m_then, .int m_catGets, .long m_whole, .long m_bestSum, m_come, m_comeThen, .int m_tourHoursNow, m_hour, m_partIn, m_heirIn, .int m_fitsNow, .int m_foundHour, .int m_lookLeft, .int m_firstCatNow]))] sz) (qi_ D (b2i res) (fun (u : Unit) => [(h_m, .inr (11, [.int m_thrown, .int m_trouble, .int m_where, .null, m_read, m_tape, .int m_taped, .int m_size, .int m_spot, .int m_sort, .int m_place, .int m_number, .int m_fault, .int m_wrongAt, .long m_word, .int m_askedOf, m_v, m_x, m_past, m_kept, .int m_acts, .int m_images, m_heir, m_then, .int m_catGets, .long m_whole, .long m_bestSum, m_come, m_comeThen, .int m_tourHoursNow, m_hour, m_partIn, m_heirIn, .int m_fitsNow, .int m_foundHour, .int m_lookLeft, .int m_firstCatNow]))]) (va_A [(h_m, .inr (11, [.int m_thrown, .int m_trouble, .int m_where, .null, m_read, m_tape, .int m_taped, .int m_size, .int m_spot, .int m_sort, .int m_place, .int m_number, .int m_fault, .int m_wrongAt, .long m_word, .int m_askedOf, m_v, m_x, m_past, m_kept, .int m_acts, .int m_images, m_heir, m_then, .int m_catGets, .long m_whole, .long m_bestSum, m_come, m_comeThen, .int m_tourHoursNow, m_hour, m_partIn, m_heirIn, .int m_fitsNow, .int m_foundHour, .int m_lookLeft, .int m_firstCatNow]))] sz)) 0 0 (va_A [(h_m, .inr (11, [.int m_thrown, .int m_trouble, .int m_where, .null, m_read, m_tape, .int m_taped, .int m_size, .int m_spot, .int m_sort, .int m_place, .int m_number, .int m_fault, .int m_wrongAt, .long m_word, .int m_askedOf, m_v, m_x, m_past, m_kept, .int m_acts, .int m_images, m_heir, m_then, .int m_catGets, .long m_whole, .long m_bestSum, m_come, m_comeThen, .int m_tourHoursNow, m_hour, m_partIn, m_heirIn, .int m_fitsNow, .int m_foundHour, .int m_lookLeft, .int m_firstCatNow]))] sz) := by
  refine Met.ofW (cc := cX7_areTwo) (maxL := 3) (ret := (some .boolean)) (by decide) rfl ?_
  intro p e s m args below meth c s₁ B hml hv
  obtain ⟨rfl, hsz, hP, hK, hD0⟩ := hv
  have hx := B.exec
  have hb := B.bytes
  have hr := B.returns
  have hts := atoms_spec (ws := (ws_ yX7_areTwo cX7_areTwo 3 (some .boolean))) B.pre
  have hts : ∀ w ∈ lw_all, w.before _ s = true := fun w h => hts w (List.mem_cons_of_mem _ h)
  have hown : s.vm.findClass RX7 = some m.cls := findClass_of_methodNamed B.named
  have hlocks := B.notSynchronized
  subst hsz
  have hD := hD0.self (sz := s.heap.size)
  generalize hAe : va_A [(h_m, .inr (11, [.int m_thrown, .int m_trouble, .int m_where, .null, m_read, m_tape, .int m_taped, .int m_size, .int m_spot, .int m_sort, .int m_place, .int m_number, .int m_fault, .int m_wrongAt, .long m_word, .int m_askedOf, m_v, m_x, m_past, m_kept, .int m_acts, .int m_images, m_heir, m_then, .int m_catGets, .long m_whole, .long m_bestSum, m_come, m_comeThen, .int m_tourHoursNow, m_hour, m_partIn, m_heirIn, .int m_fitsNow, .int m_foundHour, .int m_lookLeft, .int m_firstCatNow]))] s.heap.size = A at hD ⊢
  have hA : ∀ q : Nat, s.heap.size ≤ q → A q := fun q h => by rw [← hAe]; exact Or.inr h
  have hS : va_S A s.heap s.heap [] := va_S.rf
  have hP : va_P D clG [(h_m, .inr (11, [.int m_thrown, .int m_trouble, .int m_where, .null, m_read, m_tape, .int m_taped, .int m_size, .int m_spot, .int m_sort, .int m_place, .int m_number, .int m_fault, .int m_wrongAt, .long m_word, .int m_askedOf, m_v, m_x, m_past, m_kept, .int m_acts, .int m_images, m_heir, m_then, .int m_catGets, .long m_whole, .long m_bestSum, m_come, m_comeThen, .int m_tourHoursNow, m_hour, m_partIn, m_heirIn, .int m_fitsNow, .int m_foundHour, .int m_lookLeft, .int m_firstCatNow]))] s.heap := hP
  have hl := lv_entry ([.ref h_m, .int p0, .int p1]) (n := 3) (Nat.le_of_ble_eq_true rfl)
  rw [lg_entry_eq]
  generalize (lg_sl ([.ref h_m, .int p0, .int p1]) ++ List.replicate (3 - (lg_sl ([.ref h_m, .int p0, .int p1])).length) Slot.unset).toArray = ls at hl ⊢
  have hl : lv_has ls 3 [(0, .ref h_m), (1, .int p0), (2, .int p1)] := hl
  unfold MX7_areTwoN at hM
  refine lv_aload_n hx hb dX7_areTwo_0 rfl (lv_at hl 0 rfl) ?_
  refine lv_iload_n hx hb dX7_areTwo_1 rfl (lv_at hl 1 rfl) ?_
  obtain ⟨r1, er1, hM⟩ := b_inv hM
  refine k_i0 [0] (va_runV (As := [.int p0]) (rest := []) ⟨hx, hb, hml, hown, hts⟩ (ctX7_isPersonN l D dA _ h_m p0 m_thrown m_trouble m_where m_taped m_size m_spot m_sort m_place m_number m_fault m_wrongAt m_word m_askedOf m_acts m_images m_catGets m_whole m_bestSum m_tourHoursNow m_fitsNow m_foundHour m_lookLeft m_firstCatNow (m_read) (m_tape) (m_v) (m_x) (m_past) (m_kept) (m_heir) (m_then) (m_come) (m_comeThen) (m_hour) (m_partIn) (m_heirIn) r1 er1) (cwV 1 hts (lw_V q1733 q1735 qs71 q122 q1736) rfl rfl rfl (by decide +kernel) ⟨Nat.le_of_ble_eq_true rfl, Nat.le_of_ble_eq_true rfl⟩) (pre_V (hP.sub [0] rfl) hK (hD.sub [0] (by decide) rfl) (ci := 11) (q0 := 0) rfl rfl) rfl rfl hl.1 rfl (lv_room (Nat.le_of_ble_eq_true rfl)) dX7_areTwo_2 ⟨Nat.le_of_ble_eq_true rfl, Nat.le_of_ble_eq_true rfl⟩) hP hD hS hA rfl (fun _ => rfl) (fun u2 H locs hP hD hS => ?_)
  have hP : va_P D clG [(h_m, .inr (11, [.int m_thrown, .int m_trouble, .int m_where, .null, m_read, m_tape, .int m_taped, .int m_size, .int m_spot, .int m_sort, .int m_place, .int m_number, .int m_fault, .int m_wrongAt, .long m_word, .int m_askedOf, m_v, m_x, m_past, m_kept, .int m_acts, .int m_images, m_heir, m_then, .int m_catGets, .long m_whole, .long m_bestSum, m_come, m_comeThen, .int m_tourHoursNow, m_hour, m_partIn, m_heirIn, .int m_fitsNow, .int m_foundHour, .int m_lookLeft, .int m_firstCatNow]))] H := hP
  have hD : va_D A [(h_m, .inr (11, [.int m_thrown, .int m_trouble, .int m_where, .null, m_read, m_tape, .int m_taped, .int m_size, .int m_spot, .int m_sort, .int m_place, .int m_number, .int m_fault, .int m_wrongAt, .long m_word, .int m_askedOf, m_v, m_x, m_past, m_kept, .int m_acts, .int m_images, m_heir, m_then, .int m_catGets, .long m_whole, .long m_bestSum, m_come, m_comeThen, .int m_tourHoursNow, m_hour, m_partIn, m_heirIn, .int m_fitsNow, .int m_foundHour, .int m_lookLeft, .int m_firstCatNow]))] := hD
  have kr1 := krX7_isPersonN _ er1
  refine lv_toi (v := (0 : Int32)) (by rw [kr1]; rfl) ?_
  refine lv_if_eq (tgt := 25) hx hb dX7_areTwo_5 (by decide) (fun _ => ?_) (fun c3 => absurd c3 (by decide))
  refine lv_iconst (v := (0 : Int32)) hx hb dX7_areTwo_25 (by decide) ?_
  have hM := Option.some.inj hM
  subst hM
  exact W.zret (v := b2i false) hx hb hr (nar_b _) (fun t ht hW => ⟨⟨b2i false, (), rfl, rfl, by rw [ht]; exact hP, hD⟩, hS.F ht⟩) hS.2.2 dX7_areTwo_26
theorem krX7_areTwoN  (res : Bool) (h : MX7_areTwoN  = some res) : res = false := by
  unfold MX7_areTwoN at h
  repeat first | (obtain ⟨_, _, h⟩ := b_inv h) | (split at h)
  all_goals (cases h; rfl)

set_option maxHeartbeats 40000000 in
set_option maxRecDepth 100000 in
theorem ctX7_registerN (l : Launch) (D : va_G) (dA : Nat → ClassId) (sz : Nat) (h_m : Nat) (p0 : Int32) (p1 : Int32) (m_thrown : Int32) (m_trouble : Int32) (m_where : Int32) (m_taped : Int32) (m_size : Int32) (m_spot : Int32) (m_sort : Int32) (m_place : Int32) (m_number : Int32) (m_fault : Int32) (m_wrongAt : Int32) (m_word : Int64) (m_askedOf : Int32) (m_acts : Int32) (m_images : Int32) (m_catGets : Int32) (m_whole : Int64) (m_bestSum : Int64) (m_tourHoursNow : Int32) (m_fitsNow : Int32) (m_foundHour : Int32) (m_lookLeft : Int32) (m_firstCatNow : Int32) (m_read : Value) (m_tape : Value) (m_v : Value) (m_x : Value) (m_past : Value) (m_kept : Value) (m_heir : Value) (m_then : Value) (m_come : Value) (m_comeThen : Value) (m_hour : Value) (m_partIn : Value) (m_heirIn : Value) (res : (Int32 × Int32 × Int32 × Int32)) (hM : MX7_registerN  = some res) : Met l yX7_register (ws_ yX7_register cX7_register 4 (some .int)) ({ frames := 2, cells := 0, slots := 0, locals := 43 }) (pre_ D dA [.ref h_m, .int p0, .int p1] [(h_m, .inr (11, [.int m_thrown, .int m_trouble, .int m_where, .null, m_read, m_tape, .int m_taped, .int m_size, .int m_spot, .int m_sort, .int m_place, .int m_number, .int m_fault, .int m_wrongAt, .long m_word, .int m_askedOf, m_v, m_x, m_past, m_kept, .int m_acts, .int m_images, m_heir, m_then, .int m_catGets, .long m_whole, .long m_bestSum, m_come, m_comeThen, .int m_tourHoursNow, m_hour, m_partIn, m_heirIn, .int m_fitsNow, .int m_foundHour, .int m_lookLeft, .int m_firstCatNow]))] sz) (qi_ D res.1 (fun (u : Unit) => [(h_m, .inr (11, [.int res.2.1, .int res.2.2.1, .int res.2.2.2, .null, m_read, m_tape, .int m_taped, .int m_size, .int m_spot, .int m_sort, .int m_place, .int m_number, .int m_fault, .int m_wrongAt, .long m_word, .int m_askedOf, m_v, m_x, m_past, m_kept, .int m_acts, .int m_images, m_heir, m_then, .int m_catGets, .long m_whole, .long m_bestSum, m_come, m_comeThen, .int m_tourHoursNow, m_hour, m_partIn, m_heirIn, .int m_fitsNow, .int m_foundHour, .int m_lookLeft, .int m_firstCatNow]))]) (va_A [(h_m, .inr (11, [.int m_thrown, .int m_trouble, .int m_where, .null, m_read, m_tape, .int m_taped, .int m_size, .int m_spot, .int m_sort, .int m_place, .int m_number, .int m_fault, .int m_wrongAt, .long m_word, .int m_askedOf, m_v, m_x, m_past, m_kept, .int m_acts, .int m_images, m_heir, m_then, .int m_catGets, .long m_whole, .long m_bestSum, m_come, m_comeThen, .int m_tourHoursNow, m_hour, m_partIn, m_heirIn, .int m_fitsNow, .int m_foundHour, .int m_lookLeft, .int m_firstCatNow]))] sz)) 0 0 (va_A [(h_m, .inr (11, [.int m_thrown, .int m_trouble, .int m_where, .null, m_read, m_tape, .int m_taped, .int m_size, .int m_spot, .int m_sort, .int m_place, .int m_number, .int m_fault, .int m_wrongAt, .long m_word, .int m_askedOf, m_v, m_x, m_past, m_kept, .int m_acts, .int m_images, m_heir, m_then, .int m_catGets, .long m_whole, .long m_bestSum, m_come, m_comeThen, .int m_tourHoursNow, m_hour, m_partIn, m_heirIn, .int m_fitsNow, .int m_foundHour, .int m_lookLeft, .int m_firstCatNow]))] sz) := by
  refine Met.ofW (cc := cX7_register) (maxL := 4) (ret := (some .int)) (by decide) rfl ?_
  intro p e s m args below meth c s₁ B hml hv
  obtain ⟨rfl, hsz, hP, hK, hD0⟩ := hv
  have hx := B.exec
  have hb := B.bytes
  have hr := B.returns
  have hts := atoms_spec (ws := (ws_ yX7_register cX7_register 4 (some .int))) B.pre
  have hts : ∀ w ∈ lw_all, w.before _ s = true := fun w h => hts w (List.mem_cons_of_mem _ h)
  have hown : s.vm.findClass RX7 = some m.cls := findClass_of_methodNamed B.named
  have hlocks := B.notSynchronized
  subst hsz
  have hD := hD0.self (sz := s.heap.size)
  generalize hAe : va_A [(h_m, .inr (11, [.int m_thrown, .int m_trouble, .int m_where, .null, m_read, m_tape, .int m_taped, .int m_size, .int m_spot, .int m_sort, .int m_place, .int m_number, .int m_fault, .int m_wrongAt, .long m_word, .int m_askedOf, m_v, m_x, m_past, m_kept, .int m_acts, .int m_images, m_heir, m_then, .int m_catGets, .long m_whole, .long m_bestSum, m_come, m_comeThen, .int m_tourHoursNow, m_hour, m_partIn, m_heirIn, .int m_fitsNow, .int m_foundHour, .int m_lookLeft, .int m_firstCatNow]))] s.heap.size = A at hD ⊢
  have hA : ∀ q : Nat, s.heap.size ≤ q → A q := fun q h => by rw [← hAe]; exact Or.inr h
  have hS : va_S A s.heap s.heap [] := va_S.rf
  have hP : va_P D clG [(h_m, .inr (11, [.int m_thrown, .int m_trouble, .int m_where, .null, m_read, m_tape, .int m_taped, .int m_size, .int m_spot, .int m_sort, .int m_place, .int m_number, .int m_fault, .int m_wrongAt, .long m_word, .int m_askedOf, m_v, m_x, m_past, m_kept, .int m_acts, .int m_images, m_heir, m_then, .int m_catGets, .long m_whole, .long m_bestSum, m_come, m_comeThen, .int m_tourHoursNow, m_hour, m_partIn, m_heirIn, .int m_fitsNow, .int m_foundHour, .int m_lookLeft, .int m_firstCatNow]))] s.heap := hP
  have hl := lv_entry ([.ref h_m, .int p0, .int p1]) (n := 4) (Nat.le_of_ble_eq_true rfl)
  rw [lg_entry_eq]
  generalize (lg_sl ([.ref h_m, .int p0, .int p1]) ++ List.replicate (4 - (lg_sl ([.ref h_m, .int p0, .int p1])).length) Slot.unset).toArray = ls at hl ⊢
  have hl : lv_has ls 4 [(0, .ref h_m), (1, .int p0), (2, .int p1)] := hl
  unfold MX7_registerN at hM
  refine lv_aload_n hx hb dX7_register_0 rfl (lv_at hl 0 rfl) ?_
  refine lv_iconst (v := (0 : Int32)) hx hb dX7_register_1 (by decide) ?_
  refine va_put (D := D) (ci := 11) (v := .int (0 : Int32)) (ty := .int) (C := RX7) (T := TX7) (N := 37) hx hb hts in_X7 tyX7 tyX7_ok nmX7 hown hK.1 hP hD hS 0 rfl rfl 0 (by decide) (hts _ q1372) (fun _ h9 => h9) rfl (by decide +kernel) rfl rfl (Nat.le_of_ble_eq_true rfl) dX7_register_2 (fun H locs hP hD hS => ?_)
  have hP : va_P D clG [(h_m, .inr (11, [.int (0 : Int32), .int m_trouble, .int m_where, .null, m_read, m_tape, .int m_taped, .int m_size, .int m_spot, .int m_sort, .int m_place, .int m_number, .int m_fault, .int m_wrongAt, .long m_word, .int m_askedOf, m_v, m_x, m_past, m_kept, .int m_acts, .int m_images, m_heir, m_then, .int m_catGets, .long m_whole, .long m_bestSum, m_come, m_comeThen, .int m_tourHoursNow, m_hour, m_partIn, m_heirIn, .int m_fitsNow, .int m_foundHour, .int m_lookLeft, .int m_firstCatNow]))] H := hP
  have hD : va_D A [(h_m, .inr (11, [.int (0 : Int32), .int m_trouble, .int m_where, .null, m_read, m_tape, .int m_taped, .int m_size, .int m_spot, .int m_sort, .int m_place, .int m_number, .int m_fault, .int m_wrongAt, .long m_word, .int m_askedOf, m_v, m_x, m_past, m_kept, .int m_acts, .int m_images, m_heir, m_then, .int m_catGets, .long m_whole, .long m_bestSum, m_come, m_comeThen, .int m_tourHoursNow, m_hour, m_partIn, m_heirIn, .int m_fitsNow, .int m_foundHour, .int m_lookLeft, .int m_firstCatNow]))] := hD
  refine lv_aload_n hx hb dX7_register_5 rfl (lv_at hl 0 rfl) ?_
  refine lv_iload_n hx hb dX7_register_6 rfl (lv_at hl 1 rfl) ?_
  refine lv_iload_n hx hb dX7_register_7 rfl (lv_at hl 2 rfl) ?_
  obtain ⟨r1, er1, hM⟩ := b_inv hM
  refine k_i0 [0] (va_runV (As := [.int p0, .int p1]) (rest := []) ⟨hx, hb, hml, hown, hts⟩ (ctX7_areTwoN l D dA _ h_m p0 p1 (0 : Int32) m_trouble m_where m_taped m_size m_spot m_sort m_place m_number m_fault m_wrongAt m_word m_askedOf m_acts m_images m_catGets m_whole m_bestSum m_tourHoursNow m_fitsNow m_foundHour m_lookLeft m_firstCatNow (m_read) (m_tape) (m_v) (m_x) (m_past) (m_kept) (m_heir) (m_then) (m_come) (m_comeThen) (m_hour) (m_partIn) (m_heirIn) r1 er1) (cwV 2 hts (lw_V q1753 q1755 qs75 q122 q1756) rfl rfl rfl (by decide +kernel) ⟨Nat.le_of_ble_eq_true rfl, Nat.le_of_ble_eq_true rfl⟩) (pre_V (hP.sub [0] rfl) hK (hD.sub [0] (by decide) rfl) (ci := 11) (q0 := 0) rfl rfl) rfl rfl hl.1 rfl (lv_room (Nat.le_of_ble_eq_true rfl)) dX7_register_8 ⟨Nat.le_of_ble_eq_true rfl, Nat.le_of_ble_eq_true rfl⟩) hP hD hS hA rfl (fun _ => rfl) (fun u2 H locs hP hD hS => ?_)
  have hP : va_P D clG [(h_m, .inr (11, [.int (0 : Int32), .int m_trouble, .int m_where, .null, m_read, m_tape, .int m_taped, .int m_size, .int m_spot, .int m_sort, .int m_place, .int m_number, .int m_fault, .int m_wrongAt, .long m_word, .int m_askedOf, m_v, m_x, m_past, m_kept, .int m_acts, .int m_images, m_heir, m_then, .int m_catGets, .long m_whole, .long m_bestSum, m_come, m_comeThen, .int m_tourHoursNow, m_hour, m_partIn, m_heirIn, .int m_fitsNow, .int m_foundHour, .int m_lookLeft, .int m_firstCatNow]))] H := hP
  have hD : va_D A [(h_m, .inr (11, [.int (0 : Int32), .int m_trouble, .int m_where, .null, m_read, m_tape, .int m_taped, .int m_size, .int m_spot, .int m_sort, .int m_place, .int m_number, .int m_fault, .int m_wrongAt, .long m_word, .int m_askedOf, m_v, m_x, m_past, m_kept, .int m_acts, .int m_images, m_heir, m_then, .int m_catGets, .long m_whole, .long m_bestSum, m_come, m_comeThen, .int m_tourHoursNow, m_hour, m_partIn, m_heirIn, .int m_fitsNow, .int m_foundHour, .int m_lookLeft, .int m_firstCatNow]))] := hD
  have kr1 := krX7_areTwoN _ er1
  refine lv_toi (v := (0 : Int32)) (by rw [kr1]; rfl) ?_
  refine lv_if_ne (tgt := 20) hx hb dX7_register_11 (by decide) (fun c3 => absurd c3 (by decide)) (fun _ => ?_)
  refine lv_aload_n hx hb dX7_register_14 rfl (lv_at hl 0 rfl) ?_
  refine lv_iconst (v := (1 : Int32)) hx hb dX7_register_15 (by decide) ?_
  obtain ⟨r4, er4, hM⟩ := b_inv hM
  refine k_i0 [0] (va_runV (As := [.int (1 : Int32)]) (rest := []) ⟨hx, hb, hml, hown, hts⟩ (ctX7_refused l D dA _ h_m (1 : Int32) (0 : Int32) m_trouble m_where m_taped m_size m_spot m_sort m_place m_number m_fault m_wrongAt m_word m_askedOf m_acts m_images m_catGets m_whole m_bestSum m_tourHoursNow m_fitsNow m_foundHour m_lookLeft m_firstCatNow (.null) (m_read) (m_tape) (m_v) (m_x) (m_past) (m_kept) (m_heir) (m_then) (m_come) (m_comeThen) (m_hour) (m_partIn) (m_heirIn) r4 er4) (cwV 1 hts (lw_V q1496 q1498 qs50 q122 q1499) rfl rfl rfl (by decide +kernel) ⟨Nat.le_of_ble_eq_true rfl, Nat.le_of_ble_eq_true rfl⟩) (pre_V (hP.sub [0] rfl) hK (hD.sub [0] (by decide) rfl) (ci := 11) (q0 := 0) rfl rfl) rfl rfl hl.1 rfl (lv_room (Nat.le_of_ble_eq_true rfl)) dX7_register_16 ⟨Nat.le_of_ble_eq_true rfl, Nat.le_of_ble_eq_true rfl⟩) hP hD hS hA rfl (fun _ => rfl) (fun u5 H locs hP hD hS => ?_)
  have hP : va_P D clG [(h_m, .inr (11, [.int (0 : Int32), .int r4.2.1, .int r4.2.2, .null, m_read, m_tape, .int m_taped, .int m_size, .int m_spot, .int m_sort, .int m_place, .int m_number, .int m_fault, .int m_wrongAt, .long m_word, .int m_askedOf, m_v, m_x, m_past, m_kept, .int m_acts, .int m_images, m_heir, m_then, .int m_catGets, .long m_whole, .long m_bestSum, m_come, m_comeThen, .int m_tourHoursNow, m_hour, m_partIn, m_heirIn, .int m_fitsNow, .int m_foundHour, .int m_lookLeft, .int m_firstCatNow]))] H := hP
  have hD : va_D A [(h_m, .inr (11, [.int (0 : Int32), .int r4.2.1, .int r4.2.2, .null, m_read, m_tape, .int m_taped, .int m_size, .int m_spot, .int m_sort, .int m_place, .int m_number, .int m_fault, .int m_wrongAt, .long m_word, .int m_askedOf, m_v, m_x, m_past, m_kept, .int m_acts, .int m_images, m_heir, m_then, .int m_catGets, .long m_whole, .long m_bestSum, m_come, m_comeThen, .int m_tourHoursNow, m_hour, m_partIn, m_heirIn, .int m_fitsNow, .int m_foundHour, .int m_lookLeft, .int m_firstCatNow]))] := hD
  have hM := Option.some.inj hM
  subst hM
  exact W.iret (v := r4.1) hx hb hr (fun t ht hW => ⟨⟨r4.1, (), rfl, rfl, by rw [ht]; exact hP, hD⟩, hS.F ht⟩) hS.2.2 dX7_register_19

set_option maxHeartbeats 40000000 in
set_option maxRecDepth 100000 in
theorem ctX1_livesWhyN (l : Launch) (D : va_G) (dA : Nat → ClassId) (sz : Nat) (h_o : Nat) (p0 : Int32) (o_taped : Int32) (o_trouble : Int32) (o_fault : Int32) (o_where : Int32) (o_imageMany : Int32) (o_undoMany : Int32) (o_firstRest : Int32) (o_catAt : Int32) (o_tape : Value) (o_scanner : Value) (o_town : Value) (o_was : Value) (o_trial : Value) (o_night : Value) (o_plans : Value) (o_undone : Value) (o_images : Value) (o_often : Value) (o_next : Value) (res : Int32) (hM : MX1_livesWhyN  = some res) : Met l yX1_livesWhy (ws_ yX1_livesWhy cX1_livesWhy 2 (some .int)) ({ frames := 1, cells := 0, slots := 0, locals := 21 }) (pre_ D dA [.ref h_o, .int p0] [(h_o, .inr (0, [o_tape, .int o_taped, o_scanner, .null, .int o_trouble, .int o_fault, .int o_where, .int o_imageMany, .int o_undoMany, o_town, o_was, o_trial, o_night, o_plans, o_undone, o_images, o_often, .int o_firstRest, o_next, .int o_catAt]))] sz) (qi_ D res (fun (u : Unit) => [(h_o, .inr (0, [o_tape, .int o_taped, o_scanner, .null, .int o_trouble, .int o_fault, .int o_where, .int o_imageMany, .int o_undoMany, o_town, o_was, o_trial, o_night, o_plans, o_undone, o_images, o_often, .int o_firstRest, o_next, .int o_catAt]))]) (va_A [(h_o, .inr (0, [o_tape, .int o_taped, o_scanner, .null, .int o_trouble, .int o_fault, .int o_where, .int o_imageMany, .int o_undoMany, o_town, o_was, o_trial, o_night, o_plans, o_undone, o_images, o_often, .int o_firstRest, o_next, .int o_catAt]))] sz)) 0 0 (va_A [(h_o, .inr (0, [o_tape, .int o_taped, o_scanner, .null, .int o_trouble, .int o_fault, .int o_where, .int o_imageMany, .int o_undoMany, o_town, o_was, o_trial, o_night, o_plans, o_undone, o_images, o_often, .int o_firstRest, o_next, .int o_catAt]))] sz) := by
  refine Met.ofW (cc := cX1_livesWhy) (maxL := 2) (ret := (some .int)) (by decide) rfl ?_
  intro p e s m args below meth c s₁ B hml hv
  obtain ⟨rfl, hsz, hP, hK, hD0⟩ := hv
  have hx := B.exec
  have hb := B.bytes
  have hr := B.returns
  have hts := atoms_spec (ws := (ws_ yX1_livesWhy cX1_livesWhy 2 (some .int))) B.pre
  have hts : ∀ w ∈ lw_all, w.before _ s = true := fun w h => hts w (List.mem_cons_of_mem _ h)
  have hown : s.vm.findClass RX1 = some m.cls := findClass_of_methodNamed B.named
  have hlocks := B.notSynchronized
  subst hsz
  have hD := hD0.self (sz := s.heap.size)
  generalize hAe : va_A [(h_o, .inr (0, [o_tape, .int o_taped, o_scanner, .null, .int o_trouble, .int o_fault, .int o_where, .int o_imageMany, .int o_undoMany, o_town, o_was, o_trial, o_night, o_plans, o_undone, o_images, o_often, .int o_firstRest, o_next, .int o_catAt]))] s.heap.size = A at hD ⊢
  have hA : ∀ q : Nat, s.heap.size ≤ q → A q := fun q h => by rw [← hAe]; exact Or.inr h
  have hS : va_S A s.heap s.heap [] := va_S.rf
  have hP : va_P D clG [(h_o, .inr (0, [o_tape, .int o_taped, o_scanner, .null, .int o_trouble, .int o_fault, .int o_where, .int o_imageMany, .int o_undoMany, o_town, o_was, o_trial, o_night, o_plans, o_undone, o_images, o_often, .int o_firstRest, o_next, .int o_catAt]))] s.heap := hP
  have hl := lv_entry ([.ref h_o, .int p0]) (n := 2) (Nat.le_of_ble_eq_true rfl)
  rw [lg_entry_eq]
  generalize (lg_sl ([.ref h_o, .int p0]) ++ List.replicate (2 - (lg_sl ([.ref h_o, .int p0])).length) Slot.unset).toArray = ls at hl ⊢
  have hl : lv_has ls 2 [(0, .ref h_o), (1, .int p0)] := hl
  unfold MX1_livesWhyN at hM
  refine lv_aload_n hx hb dX1_livesWhy_0 rfl (lv_at hl 0 rfl) ?_
  refine lv_iload_n hx hb dX1_livesWhy_1 rfl (lv_at hl 1 rfl) ?_
  obtain ⟨r1, er1, hM⟩ := b_inv hM
  refine k_i0 [0] (va_runV (As := [.int p0]) (rest := []) ⟨hx, hb, hml, hown, hts⟩ (ctX1_isPersonN l D dA _ h_o p0 o_taped o_trouble o_fault o_where o_imageMany o_undoMany o_firstRest o_catAt (o_tape) (o_scanner) (o_town) (o_was) (o_trial) (o_night) (o_plans) (o_undone) (o_images) (o_often) (o_next) r1 er1) (cwV 1 hts (lw_V q913 q915 qs24 q113 q916) rfl rfl rfl (by decide +kernel) ⟨Nat.le_of_ble_eq_true rfl, Nat.le_of_ble_eq_true rfl⟩) (pre_V (hP.sub [0] rfl) hK (hD.sub [0] (by decide) rfl) (ci := 0) (q0 := 0) rfl rfl) rfl rfl hl.1 rfl (lv_room (Nat.le_of_ble_eq_true rfl)) dX1_livesWhy_2 ⟨Nat.le_of_ble_eq_true rfl, Nat.le_of_ble_eq_true rfl⟩) hP hD hS hA rfl (fun _ => rfl) (fun u2 H locs hP hD hS => ?_)
  have hP : va_P D clG [(h_o, .inr (0, [o_tape, .int o_taped, o_scanner, .null, .int o_trouble, .int o_fault, .int o_where, .int o_imageMany, .int o_undoMany, o_town, o_was, o_trial, o_night, o_plans, o_undone, o_images, o_often, .int o_firstRest, o_next, .int o_catAt]))] H := hP
  have hD : va_D A [(h_o, .inr (0, [o_tape, .int o_taped, o_scanner, .null, .int o_trouble, .int o_fault, .int o_where, .int o_imageMany, .int o_undoMany, o_town, o_was, o_trial, o_night, o_plans, o_undone, o_images, o_often, .int o_firstRest, o_next, .int o_catAt]))] := hD
  have kr1 := krX1_isPersonN _ er1
  refine lv_toi (v := (0 : Int32)) (by rw [kr1]; rfl) ?_
  refine lv_if_ne (tgt := 12) hx hb dX1_livesWhy_5 (by decide) (fun c3 => absurd c3 (by decide)) (fun _ => ?_)
  refine lv_iconst (v := (1 : Int32)) hx hb dX1_livesWhy_8 (by decide) ?_
  refine lv_goto (tgt := 28) hx hb dX1_livesWhy_9 (by decide) ?_
  have hM := Option.some.inj hM
  subst hM
  exact W.iret (v := (1 : Int32)) hx hb hr (fun t ht hW => ⟨⟨(1 : Int32), (), rfl, rfl, by rw [ht]; exact hP, hD⟩, hS.F ht⟩) hS.2.2 dX1_livesWhy_28
theorem krX1_livesWhyN  (res : Int32) (h : MX1_livesWhyN  = some res) : res = (1 : Int32) := by
  unfold MX1_livesWhyN at h
  repeat first | (obtain ⟨_, _, h⟩ := b_inv h) | (split at h)
  all_goals (cases h; rfl)

set_option maxHeartbeats 40000000 in
set_option maxRecDepth 100000 in
theorem ctX1_heirN (l : Launch) (D : va_G) (dA : Nat → ClassId) (sz : Nat) (h_o : Nat) (p0 : Int32) (o_taped : Int32) (o_trouble : Int32) (o_fault : Int32) (o_where : Int32) (o_imageMany : Int32) (o_undoMany : Int32) (o_firstRest : Int32) (o_catAt : Int32) (o_tape : Value) (o_scanner : Value) (o_town : Value) (o_was : Value) (o_trial : Value) (o_night : Value) (o_plans : Value) (o_undone : Value) (o_images : Value) (o_often : Value) (o_next : Value) (res : (Int32 × Int32 × Int32)) (hM : MX1_heirN  = some res) : Met l yX1_heir (ws_ yX1_heir cX1_heir 3 (some .int)) ({ frames := 2, cells := 0, slots := 0, locals := 42 }) (pre_ D dA [.ref h_o, .int p0] [(h_o, .inr (0, [o_tape, .int o_taped, o_scanner, .null, .int o_trouble, .int o_fault, .int o_where, .int o_imageMany, .int o_undoMany, o_town, o_was, o_trial, o_night, o_plans, o_undone, o_images, o_often, .int o_firstRest, o_next, .int o_catAt]))] sz) (qi_ D res.1 (fun (u : Unit) => [(h_o, .inr (0, [o_tape, .int o_taped, o_scanner, .null, .int res.2.1, .int o_fault, .int res.2.2, .int o_imageMany, .int o_undoMany, o_town, o_was, o_trial, o_night, o_plans, o_undone, o_images, o_often, .int o_firstRest, o_next, .int o_catAt]))]) (va_A [(h_o, .inr (0, [o_tape, .int o_taped, o_scanner, .null, .int o_trouble, .int o_fault, .int o_where, .int o_imageMany, .int o_undoMany, o_town, o_was, o_trial, o_night, o_plans, o_undone, o_images, o_often, .int o_firstRest, o_next, .int o_catAt]))] sz)) 0 0 (va_A [(h_o, .inr (0, [o_tape, .int o_taped, o_scanner, .null, .int o_trouble, .int o_fault, .int o_where, .int o_imageMany, .int o_undoMany, o_town, o_was, o_trial, o_night, o_plans, o_undone, o_images, o_often, .int o_firstRest, o_next, .int o_catAt]))] sz) := by
  refine Met.ofW (cc := cX1_heir) (maxL := 3) (ret := (some .int)) (by decide) rfl ?_
  intro p e s m args below meth c s₁ B hml hv
  obtain ⟨rfl, hsz, hP, hK, hD0⟩ := hv
  have hx := B.exec
  have hb := B.bytes
  have hr := B.returns
  have hts := atoms_spec (ws := (ws_ yX1_heir cX1_heir 3 (some .int))) B.pre
  have hts : ∀ w ∈ lw_all, w.before _ s = true := fun w h => hts w (List.mem_cons_of_mem _ h)
  have hown : s.vm.findClass RX1 = some m.cls := findClass_of_methodNamed B.named
  have hlocks := B.notSynchronized
  subst hsz
  have hD := hD0.self (sz := s.heap.size)
  generalize hAe : va_A [(h_o, .inr (0, [o_tape, .int o_taped, o_scanner, .null, .int o_trouble, .int o_fault, .int o_where, .int o_imageMany, .int o_undoMany, o_town, o_was, o_trial, o_night, o_plans, o_undone, o_images, o_often, .int o_firstRest, o_next, .int o_catAt]))] s.heap.size = A at hD ⊢
  have hA : ∀ q : Nat, s.heap.size ≤ q → A q := fun q h => by rw [← hAe]; exact Or.inr h
  have hS : va_S A s.heap s.heap [] := va_S.rf
  have hP : va_P D clG [(h_o, .inr (0, [o_tape, .int o_taped, o_scanner, .null, .int o_trouble, .int o_fault, .int o_where, .int o_imageMany, .int o_undoMany, o_town, o_was, o_trial, o_night, o_plans, o_undone, o_images, o_often, .int o_firstRest, o_next, .int o_catAt]))] s.heap := hP
  have hl := lv_entry ([.ref h_o, .int p0]) (n := 3) (Nat.le_of_ble_eq_true rfl)
  rw [lg_entry_eq]
  generalize (lg_sl ([.ref h_o, .int p0]) ++ List.replicate (3 - (lg_sl ([.ref h_o, .int p0])).length) Slot.unset).toArray = ls at hl ⊢
  have hl : lv_has ls 3 [(0, .ref h_o), (1, .int p0)] := hl
  unfold MX1_heirN at hM
  refine lv_aload_n hx hb dX1_heir_0 rfl (lv_at hl 0 rfl) ?_
  obtain ⟨r1, er1, hM⟩ := b_inv hM
  refine k_v0 [0] (va_runV (As := []) (rest := []) ⟨hx, hb, hml, hown, hts⟩ (ctX1_anew l D dA _ h_o o_taped o_trouble o_fault o_where o_imageMany o_undoMany o_firstRest o_catAt (o_tape) (o_scanner) (.null) (o_town) (o_was) (o_trial) (o_night) (o_plans) (o_undone) (o_images) (o_often) (o_next) r1 er1) (cwV 0 hts (lw_V q432 q434 qs2 q113 q435) rfl rfl rfl (by decide +kernel) ⟨Nat.le_of_ble_eq_true rfl, Nat.le_of_ble_eq_true rfl⟩) (pre_V (hP.sub [0] rfl) hK (hD.sub [0] (by decide) rfl) (ci := 0) (q0 := 0) rfl rfl) rfl rfl hl.1 rfl (lv_room (Nat.le_of_ble_eq_true rfl)) dX1_heir_1 ⟨Nat.le_of_ble_eq_true rfl, Nat.le_of_ble_eq_true rfl⟩) hP hD hS hA rfl (fun _ => rfl) (fun u2 H locs hP hD hS => ?_)
  have hP : va_P D clG [(h_o, .inr (0, [o_tape, .int o_taped, o_scanner, .null, .int r1.1, .int o_fault, .int r1.2, .int o_imageMany, .int o_undoMany, o_town, o_was, o_trial, o_night, o_plans, o_undone, o_images, o_often, .int o_firstRest, o_next, .int o_catAt]))] H := hP
  have hD : va_D A [(h_o, .inr (0, [o_tape, .int o_taped, o_scanner, .null, .int r1.1, .int o_fault, .int r1.2, .int o_imageMany, .int o_undoMany, o_town, o_was, o_trial, o_night, o_plans, o_undone, o_images, o_often, .int o_firstRest, o_next, .int o_catAt]))] := hD
  refine lv_aload_n hx hb dX1_heir_4 rfl (lv_at hl 0 rfl) ?_
  refine lv_iload_n hx hb dX1_heir_5 rfl (lv_at hl 1 rfl) ?_
  obtain ⟨r3, er3, hM⟩ := b_inv hM
  refine k_i0 [0] (va_runV (As := [.int p0]) (rest := []) ⟨hx, hb, hml, hown, hts⟩ (ctX1_livesWhyN l D dA _ h_o p0 o_taped r1.1 o_fault r1.2 o_imageMany o_undoMany o_firstRest o_catAt (o_tape) (o_scanner) (o_town) (o_was) (o_trial) (o_night) (o_plans) (o_undone) (o_images) (o_often) (o_next) r3 er3) (cwV 1 hts (lw_V q970 q972 qs28 q113 q973) rfl rfl rfl (by decide +kernel) ⟨Nat.le_of_ble_eq_true rfl, Nat.le_of_ble_eq_true rfl⟩) (pre_V (hP.sub [0] rfl) hK (hD.sub [0] (by decide) rfl) (ci := 0) (q0 := 0) rfl rfl) rfl rfl hl.1 rfl (lv_room (Nat.le_of_ble_eq_true rfl)) dX1_heir_6 ⟨Nat.le_of_ble_eq_true rfl, Nat.le_of_ble_eq_true rfl⟩) hP hD hS hA rfl (fun _ => rfl) (fun u4 H locs hP hD hS => ?_)
  have hP : va_P D clG [(h_o, .inr (0, [o_tape, .int o_taped, o_scanner, .null, .int r1.1, .int o_fault, .int r1.2, .int o_imageMany, .int o_undoMany, o_town, o_was, o_trial, o_night, o_plans, o_undone, o_images, o_often, .int o_firstRest, o_next, .int o_catAt]))] H := hP
  have hD : va_D A [(h_o, .inr (0, [o_tape, .int o_taped, o_scanner, .null, .int r1.1, .int o_fault, .int r1.2, .int o_imageMany, .int o_undoMany, o_town, o_was, o_trial, o_night, o_plans, o_undone, o_images, o_often, .int o_firstRest, o_next, .int o_catAt]))] := hD
  have kr3 := krX1_livesWhyN _ er3
  refine lv_toi (v := (1 : Int32)) (by rw [kr3]) ?_
  refine lv_istore_n (lv' := [(2, .int (1 : Int32)), (0, .ref h_o), (1, .int p0)]) hx hb dX1_heir_9 rfl hl (by decide) rfl (fun ls hl => ?_)
  refine lv_iload_n hx hb dX1_heir_10 rfl (lv_at hl 0 rfl) ?_
  refine lv_if_eq (tgt := 22) hx hb dX1_heir_11 (by decide) (fun c5 => absurd c5 (by decide)) (fun _ => ?_)
  refine lv_aload_n hx hb dX1_heir_14 rfl (lv_at hl 1 rfl) ?_
  refine lv_iload_n hx hb dX1_heir_15 rfl (lv_at hl 0 rfl) ?_
  obtain ⟨r6, er6, hM⟩ := b_inv hM
  refine k_i0 [0] (va_runV (As := [.int (1 : Int32)]) (rest := []) ⟨hx, hb, hml, hown, hts⟩ (ctX1_no l D dA _ h_o (1 : Int32) o_taped r1.1 o_fault r1.2 o_imageMany o_undoMany o_firstRest o_catAt (o_tape) (o_scanner) (.null) (o_town) (o_was) (o_trial) (o_night) (o_plans) (o_undone) (o_images) (o_often) (o_next) r6 er6) (cwV 1 hts (lw_V q439 q441 qs3 q113 q442) rfl rfl rfl (by decide +kernel) ⟨Nat.le_of_ble_eq_true rfl, Nat.le_of_ble_eq_true rfl⟩) (pre_V (hP.sub [0] rfl) hK (hD.sub [0] (by decide) rfl) (ci := 0) (q0 := 0) rfl rfl) rfl rfl hl.1 rfl (lv_room (Nat.le_of_ble_eq_true rfl)) dX1_heir_16 ⟨Nat.le_of_ble_eq_true rfl, Nat.le_of_ble_eq_true rfl⟩) hP hD hS hA rfl (fun _ => rfl) (fun u7 H locs hP hD hS => ?_)
  have hP : va_P D clG [(h_o, .inr (0, [o_tape, .int o_taped, o_scanner, .null, .int r6.2, .int o_fault, .int r1.2, .int o_imageMany, .int o_undoMany, o_town, o_was, o_trial, o_night, o_plans, o_undone, o_images, o_often, .int o_firstRest, o_next, .int o_catAt]))] H := hP
  have hD : va_D A [(h_o, .inr (0, [o_tape, .int o_taped, o_scanner, .null, .int r6.2, .int o_fault, .int r1.2, .int o_imageMany, .int o_undoMany, o_town, o_was, o_trial, o_night, o_plans, o_undone, o_images, o_often, .int o_firstRest, o_next, .int o_catAt]))] := hD
  refine lv_goto (tgt := 30) hx hb dX1_heir_19 (by decide) ?_
  have hM := Option.some.inj hM
  subst hM
  exact W.iret (v := r6.1) hx hb hr (fun t ht hW => ⟨⟨r6.1, (), rfl, rfl, by rw [ht]; exact hP, hD⟩, hS.F ht⟩) hS.2.2 dX1_heir_30

set_option maxHeartbeats 40000000 in
set_option maxRecDepth 100000 in
theorem ctX7_refusesLivingN (l : Launch) (D : va_G) (dA : Nat → ClassId) (sz : Nat) (h_m : Nat) (p0 : Int32) (m_thrown : Int32) (m_trouble : Int32) (m_where : Int32) (m_taped : Int32) (m_size : Int32) (m_spot : Int32) (m_sort : Int32) (m_place : Int32) (m_number : Int32) (m_fault : Int32) (m_wrongAt : Int32) (m_word : Int64) (m_askedOf : Int32) (m_acts : Int32) (m_images : Int32) (m_catGets : Int32) (m_whole : Int64) (m_bestSum : Int64) (m_tourHoursNow : Int32) (m_fitsNow : Int32) (m_foundHour : Int32) (m_lookLeft : Int32) (m_firstCatNow : Int32) (m_read : Value) (m_tape : Value) (m_v : Value) (m_x : Value) (m_past : Value) (m_kept : Value) (m_heir : Value) (m_then : Value) (m_come : Value) (m_comeThen : Value) (m_hour : Value) (m_partIn : Value) (m_heirIn : Value) (res : Int32) (hM : MX7_refusesLivingN  = some res) : Met l yX7_refusesLiving (ws_ yX7_refusesLiving cX7_refusesLiving 2 (some .int)) ({ frames := 1, cells := 0, slots := 0, locals := 21 }) (pre_ D dA [.ref h_m, .int p0] [(h_m, .inr (11, [.int m_thrown, .int m_trouble, .int m_where, .null, m_read, m_tape, .int m_taped, .int m_size, .int m_spot, .int m_sort, .int m_place, .int m_number, .int m_fault, .int m_wrongAt, .long m_word, .int m_askedOf, m_v, m_x, m_past, m_kept, .int m_acts, .int m_images, m_heir, m_then, .int m_catGets, .long m_whole, .long m_bestSum, m_come, m_comeThen, .int m_tourHoursNow, m_hour, m_partIn, m_heirIn, .int m_fitsNow, .int m_foundHour, .int m_lookLeft, .int m_firstCatNow]))] sz) (qi_ D res (fun (u : Unit) => [(h_m, .inr (11, [.int m_thrown, .int m_trouble, .int m_where, .null, m_read, m_tape, .int m_taped, .int m_size, .int m_spot, .int m_sort, .int m_place, .int m_number, .int m_fault, .int m_wrongAt, .long m_word, .int m_askedOf, m_v, m_x, m_past, m_kept, .int m_acts, .int m_images, m_heir, m_then, .int m_catGets, .long m_whole, .long m_bestSum, m_come, m_comeThen, .int m_tourHoursNow, m_hour, m_partIn, m_heirIn, .int m_fitsNow, .int m_foundHour, .int m_lookLeft, .int m_firstCatNow]))]) (va_A [(h_m, .inr (11, [.int m_thrown, .int m_trouble, .int m_where, .null, m_read, m_tape, .int m_taped, .int m_size, .int m_spot, .int m_sort, .int m_place, .int m_number, .int m_fault, .int m_wrongAt, .long m_word, .int m_askedOf, m_v, m_x, m_past, m_kept, .int m_acts, .int m_images, m_heir, m_then, .int m_catGets, .long m_whole, .long m_bestSum, m_come, m_comeThen, .int m_tourHoursNow, m_hour, m_partIn, m_heirIn, .int m_fitsNow, .int m_foundHour, .int m_lookLeft, .int m_firstCatNow]))] sz)) 0 0 (va_A [(h_m, .inr (11, [.int m_thrown, .int m_trouble, .int m_where, .null, m_read, m_tape, .int m_taped, .int m_size, .int m_spot, .int m_sort, .int m_place, .int m_number, .int m_fault, .int m_wrongAt, .long m_word, .int m_askedOf, m_v, m_x, m_past, m_kept, .int m_acts, .int m_images, m_heir, m_then, .int m_catGets, .long m_whole, .long m_bestSum, m_come, m_comeThen, .int m_tourHoursNow, m_hour, m_partIn, m_heirIn, .int m_fitsNow, .int m_foundHour, .int m_lookLeft, .int m_firstCatNow]))] sz) := by
  refine Met.ofW (cc := cX7_refusesLiving) (maxL := 2) (ret := (some .int)) (by decide) rfl ?_
  intro p e s m args below meth c s₁ B hml hv
  obtain ⟨rfl, hsz, hP, hK, hD0⟩ := hv
  have hx := B.exec
  have hb := B.bytes
  have hr := B.returns
  have hts := atoms_spec (ws := (ws_ yX7_refusesLiving cX7_refusesLiving 2 (some .int))) B.pre
  have hts : ∀ w ∈ lw_all, w.before _ s = true := fun w h => hts w (List.mem_cons_of_mem _ h)
  have hown : s.vm.findClass RX7 = some m.cls := findClass_of_methodNamed B.named
  have hlocks := B.notSynchronized
  subst hsz
  have hD := hD0.self (sz := s.heap.size)
  generalize hAe : va_A [(h_m, .inr (11, [.int m_thrown, .int m_trouble, .int m_where, .null, m_read, m_tape, .int m_taped, .int m_size, .int m_spot, .int m_sort, .int m_place, .int m_number, .int m_fault, .int m_wrongAt, .long m_word, .int m_askedOf, m_v, m_x, m_past, m_kept, .int m_acts, .int m_images, m_heir, m_then, .int m_catGets, .long m_whole, .long m_bestSum, m_come, m_comeThen, .int m_tourHoursNow, m_hour, m_partIn, m_heirIn, .int m_fitsNow, .int m_foundHour, .int m_lookLeft, .int m_firstCatNow]))] s.heap.size = A at hD ⊢
  have hA : ∀ q : Nat, s.heap.size ≤ q → A q := fun q h => by rw [← hAe]; exact Or.inr h
  have hS : va_S A s.heap s.heap [] := va_S.rf
  have hP : va_P D clG [(h_m, .inr (11, [.int m_thrown, .int m_trouble, .int m_where, .null, m_read, m_tape, .int m_taped, .int m_size, .int m_spot, .int m_sort, .int m_place, .int m_number, .int m_fault, .int m_wrongAt, .long m_word, .int m_askedOf, m_v, m_x, m_past, m_kept, .int m_acts, .int m_images, m_heir, m_then, .int m_catGets, .long m_whole, .long m_bestSum, m_come, m_comeThen, .int m_tourHoursNow, m_hour, m_partIn, m_heirIn, .int m_fitsNow, .int m_foundHour, .int m_lookLeft, .int m_firstCatNow]))] s.heap := hP
  have hl := lv_entry ([.ref h_m, .int p0]) (n := 2) (Nat.le_of_ble_eq_true rfl)
  rw [lg_entry_eq]
  generalize (lg_sl ([.ref h_m, .int p0]) ++ List.replicate (2 - (lg_sl ([.ref h_m, .int p0])).length) Slot.unset).toArray = ls at hl ⊢
  have hl : lv_has ls 2 [(0, .ref h_m), (1, .int p0)] := hl
  unfold MX7_refusesLivingN at hM
  refine lv_aload_n hx hb dX7_refusesLiving_0 rfl (lv_at hl 0 rfl) ?_
  refine lv_iload_n hx hb dX7_refusesLiving_1 rfl (lv_at hl 1 rfl) ?_
  obtain ⟨r1, er1, hM⟩ := b_inv hM
  refine k_i0 [0] (va_runV (As := [.int p0]) (rest := []) ⟨hx, hb, hml, hown, hts⟩ (ctX7_isPersonN l D dA _ h_m p0 m_thrown m_trouble m_where m_taped m_size m_spot m_sort m_place m_number m_fault m_wrongAt m_word m_askedOf m_acts m_images m_catGets m_whole m_bestSum m_tourHoursNow m_fitsNow m_foundHour m_lookLeft m_firstCatNow (m_read) (m_tape) (m_v) (m_x) (m_past) (m_kept) (m_heir) (m_then) (m_come) (m_comeThen) (m_hour) (m_partIn) (m_heirIn) r1 er1) (cwV 1 hts (lw_V q1733 q1735 qs71 q122 q1736) rfl rfl rfl (by decide +kernel) ⟨Nat.le_of_ble_eq_true rfl, Nat.le_of_ble_eq_true rfl⟩) (pre_V (hP.sub [0] rfl) hK (hD.sub [0] (by decide) rfl) (ci := 11) (q0 := 0) rfl rfl) rfl rfl hl.1 rfl (lv_room (Nat.le_of_ble_eq_true rfl)) dX7_refusesLiving_2 ⟨Nat.le_of_ble_eq_true rfl, Nat.le_of_ble_eq_true rfl⟩) hP hD hS hA rfl (fun _ => rfl) (fun u2 H locs hP hD hS => ?_)
  have hP : va_P D clG [(h_m, .inr (11, [.int m_thrown, .int m_trouble, .int m_where, .null, m_read, m_tape, .int m_taped, .int m_size, .int m_spot, .int m_sort, .int m_place, .int m_number, .int m_fault, .int m_wrongAt, .long m_word, .int m_askedOf, m_v, m_x, m_past, m_kept, .int m_acts, .int m_images, m_heir, m_then, .int m_catGets, .long m_whole, .long m_bestSum, m_come, m_comeThen, .int m_tourHoursNow, m_hour, m_partIn, m_heirIn, .int m_fitsNow, .int m_foundHour, .int m_lookLeft, .int m_firstCatNow]))] H := hP
  have hD : va_D A [(h_m, .inr (11, [.int m_thrown, .int m_trouble, .int m_where, .null, m_read, m_tape, .int m_taped, .int m_size, .int m_spot, .int m_sort, .int m_place, .int m_number, .int m_fault, .int m_wrongAt, .long m_word, .int m_askedOf, m_v, m_x, m_past, m_kept, .int m_acts, .int m_images, m_heir, m_then, .int m_catGets, .long m_whole, .long m_bestSum, m_come, m_comeThen, .int m_tourHoursNow, m_hour, m_partIn, m_heirIn, .int m_fitsNow, .int m_foundHour, .int m_lookLeft, .int m_firstCatNow]))] := hD
  have kr1 := krX7_isPersonN _ er1
  refine lv_toi (v := (0 : Int32)) (by rw [kr1]; rfl) ?_
  refine lv_if_ne (tgt := 12) hx hb dX7_refusesLiving_5 (by decide) (fun c3 => absurd c3 (by decide)) (fun _ => ?_)
  refine lv_iconst (v := (1 : Int32)) hx hb dX7_refusesLiving_8 (by decide) ?_
  refine lv_goto (tgt := 31) hx hb dX7_refusesLiving_9 (by decide) ?_
  have hM := Option.some.inj hM
  subst hM
  exact W.iret (v := (1 : Int32)) hx hb hr (fun t ht hW => ⟨⟨(1 : Int32), (), rfl, rfl, by rw [ht]; exact hP, hD⟩, hS.F ht⟩) hS.2.2 dX7_refusesLiving_31
theorem krX7_refusesLivingN  (res : Int32) (h : MX7_refusesLivingN  = some res) : res = (1 : Int32) := by
  unfold MX7_refusesLivingN at h
  repeat first | (obtain ⟨_, _, h⟩ := b_inv h) | (split at h)
  all_goals (cases h; rfl)

set_option maxHeartbeats 40000000 in
set_option maxRecDepth 100000 in
theorem ctX7_heirN (l : Launch) (D : va_G) (dA : Nat → ClassId) (sz : Nat) (h_m : Nat) (p0 : Int32) (m_thrown : Int32) (m_trouble : Int32) (m_where : Int32) (m_taped : Int32) (m_size : Int32) (m_spot : Int32) (m_sort : Int32) (m_place : Int32) (m_number : Int32) (m_fault : Int32) (m_wrongAt : Int32) (m_word : Int64) (m_askedOf : Int32) (m_acts : Int32) (m_images : Int32) (m_catGets : Int32) (m_whole : Int64) (m_bestSum : Int64) (m_tourHoursNow : Int32) (m_fitsNow : Int32) (m_foundHour : Int32) (m_lookLeft : Int32) (m_firstCatNow : Int32) (m_read : Value) (m_tape : Value) (m_v : Value) (m_x : Value) (m_past : Value) (m_kept : Value) (m_heir : Value) (m_then : Value) (m_come : Value) (m_comeThen : Value) (m_hour : Value) (m_partIn : Value) (m_heirIn : Value) (res : (Int32 × Int32 × Int32 × Int32)) (hM : MX7_heirN  = some res) : Met l yX7_heir (ws_ yX7_heir cX7_heir 3 (some .int)) ({ frames := 2, cells := 0, slots := 0, locals := 42 }) (pre_ D dA [.ref h_m, .int p0] [(h_m, .inr (11, [.int m_thrown, .int m_trouble, .int m_where, .null, m_read, m_tape, .int m_taped, .int m_size, .int m_spot, .int m_sort, .int m_place, .int m_number, .int m_fault, .int m_wrongAt, .long m_word, .int m_askedOf, m_v, m_x, m_past, m_kept, .int m_acts, .int m_images, m_heir, m_then, .int m_catGets, .long m_whole, .long m_bestSum, m_come, m_comeThen, .int m_tourHoursNow, m_hour, m_partIn, m_heirIn, .int m_fitsNow, .int m_foundHour, .int m_lookLeft, .int m_firstCatNow]))] sz) (qi_ D res.1 (fun (u : Unit) => [(h_m, .inr (11, [.int res.2.1, .int res.2.2.1, .int res.2.2.2, .null, m_read, m_tape, .int m_taped, .int m_size, .int m_spot, .int m_sort, .int m_place, .int m_number, .int m_fault, .int m_wrongAt, .long m_word, .int m_askedOf, m_v, m_x, m_past, m_kept, .int m_acts, .int m_images, m_heir, m_then, .int m_catGets, .long m_whole, .long m_bestSum, m_come, m_comeThen, .int m_tourHoursNow, m_hour, m_partIn, m_heirIn, .int m_fitsNow, .int m_foundHour, .int m_lookLeft, .int m_firstCatNow]))]) (va_A [(h_m, .inr (11, [.int m_thrown, .int m_trouble, .int m_where, .null, m_read, m_tape, .int m_taped, .int m_size, .int m_spot, .int m_sort, .int m_place, .int m_number, .int m_fault, .int m_wrongAt, .long m_word, .int m_askedOf, m_v, m_x, m_past, m_kept, .int m_acts, .int m_images, m_heir, m_then, .int m_catGets, .long m_whole, .long m_bestSum, m_come, m_comeThen, .int m_tourHoursNow, m_hour, m_partIn, m_heirIn, .int m_fitsNow, .int m_foundHour, .int m_lookLeft, .int m_firstCatNow]))] sz)) 0 0 (va_A [(h_m, .inr (11, [.int m_thrown, .int m_trouble, .int m_where, .null, m_read, m_tape, .int m_taped, .int m_size, .int m_spot, .int m_sort, .int m_place, .int m_number, .int m_fault, .int m_wrongAt, .long m_word, .int m_askedOf, m_v, m_x, m_past, m_kept, .int m_acts, .int m_images, m_heir, m_then, .int m_catGets, .long m_whole, .long m_bestSum, m_come, m_comeThen, .int m_tourHoursNow, m_hour, m_partIn, m_heirIn, .int m_fitsNow, .int m_foundHour, .int m_lookLeft, .int m_firstCatNow]))] sz) := by
  refine Met.ofW (cc := cX7_heir) (maxL := 3) (ret := (some .int)) (by decide) rfl ?_
  intro p e s m args below meth c s₁ B hml hv
  obtain ⟨rfl, hsz, hP, hK, hD0⟩ := hv
  have hx := B.exec
  have hb := B.bytes
  have hr := B.returns
  have hts := atoms_spec (ws := (ws_ yX7_heir cX7_heir 3 (some .int))) B.pre
  have hts : ∀ w ∈ lw_all, w.before _ s = true := fun w h => hts w (List.mem_cons_of_mem _ h)
  have hown : s.vm.findClass RX7 = some m.cls := findClass_of_methodNamed B.named
  have hlocks := B.notSynchronized
  subst hsz
  have hD := hD0.self (sz := s.heap.size)
  generalize hAe : va_A [(h_m, .inr (11, [.int m_thrown, .int m_trouble, .int m_where, .null, m_read, m_tape, .int m_taped, .int m_size, .int m_spot, .int m_sort, .int m_place, .int m_number, .int m_fault, .int m_wrongAt, .long m_word, .int m_askedOf, m_v, m_x, m_past, m_kept, .int m_acts, .int m_images, m_heir, m_then, .int m_catGets, .long m_whole, .long m_bestSum, m_come, m_comeThen, .int m_tourHoursNow, m_hour, m_partIn, m_heirIn, .int m_fitsNow, .int m_foundHour, .int m_lookLeft, .int m_firstCatNow]))] s.heap.size = A at hD ⊢
  have hA : ∀ q : Nat, s.heap.size ≤ q → A q := fun q h => by rw [← hAe]; exact Or.inr h
  have hS : va_S A s.heap s.heap [] := va_S.rf
  have hP : va_P D clG [(h_m, .inr (11, [.int m_thrown, .int m_trouble, .int m_where, .null, m_read, m_tape, .int m_taped, .int m_size, .int m_spot, .int m_sort, .int m_place, .int m_number, .int m_fault, .int m_wrongAt, .long m_word, .int m_askedOf, m_v, m_x, m_past, m_kept, .int m_acts, .int m_images, m_heir, m_then, .int m_catGets, .long m_whole, .long m_bestSum, m_come, m_comeThen, .int m_tourHoursNow, m_hour, m_partIn, m_heirIn, .int m_fitsNow, .int m_foundHour, .int m_lookLeft, .int m_firstCatNow]))] s.heap := hP
  have hl := lv_entry ([.ref h_m, .int p0]) (n := 3) (Nat.le_of_ble_eq_true rfl)
  rw [lg_entry_eq]
  generalize (lg_sl ([.ref h_m, .int p0]) ++ List.replicate (3 - (lg_sl ([.ref h_m, .int p0])).length) Slot.unset).toArray = ls at hl ⊢
  have hl : lv_has ls 3 [(0, .ref h_m), (1, .int p0)] := hl
  unfold MX7_heirN at hM
  refine lv_aload_n hx hb dX7_heir_0 rfl (lv_at hl 0 rfl) ?_
  refine lv_iconst (v := (0 : Int32)) hx hb dX7_heir_1 (by decide) ?_
  refine va_put (D := D) (ci := 11) (v := .int (0 : Int32)) (ty := .int) (C := RX7) (T := TX7) (N := 37) hx hb hts in_X7 tyX7 tyX7_ok nmX7 hown hK.1 hP hD hS 0 rfl rfl 0 (by decide) (hts _ q1372) (fun _ h9 => h9) rfl (by decide +kernel) rfl rfl (Nat.le_of_ble_eq_true rfl) dX7_heir_2 (fun H locs hP hD hS => ?_)
  have hP : va_P D clG [(h_m, .inr (11, [.int (0 : Int32), .int m_trouble, .int m_where, .null, m_read, m_tape, .int m_taped, .int m_size, .int m_spot, .int m_sort, .int m_place, .int m_number, .int m_fault, .int m_wrongAt, .long m_word, .int m_askedOf, m_v, m_x, m_past, m_kept, .int m_acts, .int m_images, m_heir, m_then, .int m_catGets, .long m_whole, .long m_bestSum, m_come, m_comeThen, .int m_tourHoursNow, m_hour, m_partIn, m_heirIn, .int m_fitsNow, .int m_foundHour, .int m_lookLeft, .int m_firstCatNow]))] H := hP
  have hD : va_D A [(h_m, .inr (11, [.int (0 : Int32), .int m_trouble, .int m_where, .null, m_read, m_tape, .int m_taped, .int m_size, .int m_spot, .int m_sort, .int m_place, .int m_number, .int m_fault, .int m_wrongAt, .long m_word, .int m_askedOf, m_v, m_x, m_past, m_kept, .int m_acts, .int m_images, m_heir, m_then, .int m_catGets, .long m_whole, .long m_bestSum, m_come, m_comeThen, .int m_tourHoursNow, m_hour, m_partIn, m_heirIn, .int m_fitsNow, .int m_foundHour, .int m_lookLeft, .int m_firstCatNow]))] := hD
  refine lv_aload_n hx hb dX7_heir_5 rfl (lv_at hl 0 rfl) ?_
  refine lv_iload_n hx hb dX7_heir_6 rfl (lv_at hl 1 rfl) ?_
  obtain ⟨r1, er1, hM⟩ := b_inv hM
  refine k_i0 [0] (va_runV (As := [.int p0]) (rest := []) ⟨hx, hb, hml, hown, hts⟩ (ctX7_refusesLivingN l D dA _ h_m p0 (0 : Int32) m_trouble m_where m_taped m_size m_spot m_sort m_place m_number m_fault m_wrongAt m_word m_askedOf m_acts m_images m_catGets m_whole m_bestSum m_tourHoursNow m_fitsNow m_foundHour m_lookLeft m_firstCatNow (m_read) (m_tape) (m_v) (m_x) (m_past) (m_kept) (m_heir) (m_then) (m_come) (m_comeThen) (m_hour) (m_partIn) (m_heirIn) r1 er1) (cwV 1 hts (lw_V q1761 q1763 qs76 q122 q1764) rfl rfl rfl (by decide +kernel) ⟨Nat.le_of_ble_eq_true rfl, Nat.le_of_ble_eq_true rfl⟩) (pre_V (hP.sub [0] rfl) hK (hD.sub [0] (by decide) rfl) (ci := 11) (q0 := 0) rfl rfl) rfl rfl hl.1 rfl (lv_room (Nat.le_of_ble_eq_true rfl)) dX7_heir_7 ⟨Nat.le_of_ble_eq_true rfl, Nat.le_of_ble_eq_true rfl⟩) hP hD hS hA rfl (fun _ => rfl) (fun u2 H locs hP hD hS => ?_)
  have hP : va_P D clG [(h_m, .inr (11, [.int (0 : Int32), .int m_trouble, .int m_where, .null, m_read, m_tape, .int m_taped, .int m_size, .int m_spot, .int m_sort, .int m_place, .int m_number, .int m_fault, .int m_wrongAt, .long m_word, .int m_askedOf, m_v, m_x, m_past, m_kept, .int m_acts, .int m_images, m_heir, m_then, .int m_catGets, .long m_whole, .long m_bestSum, m_come, m_comeThen, .int m_tourHoursNow, m_hour, m_partIn, m_heirIn, .int m_fitsNow, .int m_foundHour, .int m_lookLeft, .int m_firstCatNow]))] H := hP
  have hD : va_D A [(h_m, .inr (11, [.int (0 : Int32), .int m_trouble, .int m_where, .null, m_read, m_tape, .int m_taped, .int m_size, .int m_spot, .int m_sort, .int m_place, .int m_number, .int m_fault, .int m_wrongAt, .long m_word, .int m_askedOf, m_v, m_x, m_past, m_kept, .int m_acts, .int m_images, m_heir, m_then, .int m_catGets, .long m_whole, .long m_bestSum, m_come, m_comeThen, .int m_tourHoursNow, m_hour, m_partIn, m_heirIn, .int m_fitsNow, .int m_foundHour, .int m_lookLeft, .int m_firstCatNow]))] := hD
  have kr1 := krX7_refusesLivingN _ er1
  refine lv_toi (v := (1 : Int32)) (by rw [kr1]) ?_
  refine lv_istore_n (lv' := [(2, .int (1 : Int32)), (0, .ref h_m), (1, .int p0)]) hx hb dX7_heir_10 rfl hl (by decide) rfl (fun ls hl => ?_)
  refine lv_iload_n hx hb dX7_heir_11 rfl (lv_at hl 0 rfl) ?_
  refine lv_if_le (tgt := 21) hx hb dX7_heir_12 (by decide) (fun c3 => absurd c3 (by decide)) (fun _ => ?_)
  refine lv_aload_n hx hb dX7_heir_15 rfl (lv_at hl 1 rfl) ?_
  refine lv_iload_n hx hb dX7_heir_16 rfl (lv_at hl 0 rfl) ?_
  obtain ⟨r4, er4, hM⟩ := b_inv hM
  refine k_i0 [0] (va_runV (As := [.int (1 : Int32)]) (rest := []) ⟨hx, hb, hml, hown, hts⟩ (ctX7_refused l D dA _ h_m (1 : Int32) (0 : Int32) m_trouble m_where m_taped m_size m_spot m_sort m_place m_number m_fault m_wrongAt m_word m_askedOf m_acts m_images m_catGets m_whole m_bestSum m_tourHoursNow m_fitsNow m_foundHour m_lookLeft m_firstCatNow (.null) (m_read) (m_tape) (m_v) (m_x) (m_past) (m_kept) (m_heir) (m_then) (m_come) (m_comeThen) (m_hour) (m_partIn) (m_heirIn) r4 er4) (cwV 1 hts (lw_V q1496 q1498 qs50 q122 q1499) rfl rfl rfl (by decide +kernel) ⟨Nat.le_of_ble_eq_true rfl, Nat.le_of_ble_eq_true rfl⟩) (pre_V (hP.sub [0] rfl) hK (hD.sub [0] (by decide) rfl) (ci := 11) (q0 := 0) rfl rfl) rfl rfl hl.1 rfl (lv_room (Nat.le_of_ble_eq_true rfl)) dX7_heir_17 ⟨Nat.le_of_ble_eq_true rfl, Nat.le_of_ble_eq_true rfl⟩) hP hD hS hA rfl (fun _ => rfl) (fun u5 H locs hP hD hS => ?_)
  have hP : va_P D clG [(h_m, .inr (11, [.int (0 : Int32), .int r4.2.1, .int r4.2.2, .null, m_read, m_tape, .int m_taped, .int m_size, .int m_spot, .int m_sort, .int m_place, .int m_number, .int m_fault, .int m_wrongAt, .long m_word, .int m_askedOf, m_v, m_x, m_past, m_kept, .int m_acts, .int m_images, m_heir, m_then, .int m_catGets, .long m_whole, .long m_bestSum, m_come, m_comeThen, .int m_tourHoursNow, m_hour, m_partIn, m_heirIn, .int m_fitsNow, .int m_foundHour, .int m_lookLeft, .int m_firstCatNow]))] H := hP
  have hD : va_D A [(h_m, .inr (11, [.int (0 : Int32), .int r4.2.1, .int r4.2.2, .null, m_read, m_tape, .int m_taped, .int m_size, .int m_spot, .int m_sort, .int m_place, .int m_number, .int m_fault, .int m_wrongAt, .long m_word, .int m_askedOf, m_v, m_x, m_past, m_kept, .int m_acts, .int m_images, m_heir, m_then, .int m_catGets, .long m_whole, .long m_bestSum, m_come, m_comeThen, .int m_tourHoursNow, m_hour, m_partIn, m_heirIn, .int m_fitsNow, .int m_foundHour, .int m_lookLeft, .int m_firstCatNow]))] := hD
  have hM := Option.some.inj hM
  subst hM
  exact W.iret (v := r4.1) hx hb hr (fun t ht hW => ⟨⟨r4.1, (), rfl, rfl, by rw [ht]; exact hP, hD⟩, hS.F ht⟩) hS.2.2 dX7_heir_20

set_option maxHeartbeats 40000000 in
set_option maxRecDepth 100000 in
theorem ctX1_heirToN (l : Launch) (D : va_G) (dA : Nat → ClassId) (sz : Nat) (h_o : Nat) (p0 : Int32) (o_taped : Int32) (o_trouble : Int32) (o_fault : Int32) (o_where : Int32) (o_imageMany : Int32) (o_undoMany : Int32) (o_firstRest : Int32) (o_catAt : Int32) (o_tape : Value) (o_scanner : Value) (o_town : Value) (o_was : Value) (o_trial : Value) (o_night : Value) (o_plans : Value) (o_undone : Value) (o_images : Value) (o_often : Value) (o_next : Value) (res : (Int32 × Int32 × Int32)) (hM : MX1_heirToN  = some res) : Met l yX1_heirTo (ws_ yX1_heirTo cX1_heirTo 2 (some .int)) ({ frames := 1, cells := 0, slots := 0, locals := 21 }) (pre_ D dA [.ref h_o, .int p0] [(h_o, .inr (0, [o_tape, .int o_taped, o_scanner, .null, .int o_trouble, .int o_fault, .int o_where, .int o_imageMany, .int o_undoMany, o_town, o_was, o_trial, o_night, o_plans, o_undone, o_images, o_often, .int o_firstRest, o_next, .int o_catAt]))] sz) (qi_ D res.1 (fun (u : Unit) => [(h_o, .inr (0, [o_tape, .int o_taped, o_scanner, .null, .int res.2.1, .int o_fault, .int res.2.2, .int o_imageMany, .int o_undoMany, o_town, o_was, o_trial, o_night, o_plans, o_undone, o_images, o_often, .int o_firstRest, o_next, .int o_catAt]))]) (va_A [(h_o, .inr (0, [o_tape, .int o_taped, o_scanner, .null, .int o_trouble, .int o_fault, .int o_where, .int o_imageMany, .int o_undoMany, o_town, o_was, o_trial, o_night, o_plans, o_undone, o_images, o_often, .int o_firstRest, o_next, .int o_catAt]))] sz)) 0 0 (va_A [(h_o, .inr (0, [o_tape, .int o_taped, o_scanner, .null, .int o_trouble, .int o_fault, .int o_where, .int o_imageMany, .int o_undoMany, o_town, o_was, o_trial, o_night, o_plans, o_undone, o_images, o_often, .int o_firstRest, o_next, .int o_catAt]))] sz) := by
  refine Met.ofW (cc := cX1_heirTo) (maxL := 2) (ret := (some .int)) (by decide) rfl ?_
  intro p e s m args below meth c s₁ B hml hv
  obtain ⟨rfl, hsz, hP, hK, hD0⟩ := hv
  have hx := B.exec
  have hb := B.bytes
  have hr := B.returns
  have hts := atoms_spec (ws := (ws_ yX1_heirTo cX1_heirTo 2 (some .int))) B.pre
  have hts : ∀ w ∈ lw_all, w.before _ s = true := fun w h => hts w (List.mem_cons_of_mem _ h)
  have hown : s.vm.findClass RX1 = some m.cls := findClass_of_methodNamed B.named
  have hlocks := B.notSynchronized
  subst hsz
  have hD := hD0.self (sz := s.heap.size)
  generalize hAe : va_A [(h_o, .inr (0, [o_tape, .int o_taped, o_scanner, .null, .int o_trouble, .int o_fault, .int o_where, .int o_imageMany, .int o_undoMany, o_town, o_was, o_trial, o_night, o_plans, o_undone, o_images, o_often, .int o_firstRest, o_next, .int o_catAt]))] s.heap.size = A at hD ⊢
  have hA : ∀ q : Nat, s.heap.size ≤ q → A q := fun q h => by rw [← hAe]; exact Or.inr h
  have hS : va_S A s.heap s.heap [] := va_S.rf
  have hP : va_P D clG [(h_o, .inr (0, [o_tape, .int o_taped, o_scanner, .null, .int o_trouble, .int o_fault, .int o_where, .int o_imageMany, .int o_undoMany, o_town, o_was, o_trial, o_night, o_plans, o_undone, o_images, o_often, .int o_firstRest, o_next, .int o_catAt]))] s.heap := hP
  have hl := lv_entry ([.ref h_o, .int p0]) (n := 2) (Nat.le_of_ble_eq_true rfl)
  rw [lg_entry_eq]
  generalize (lg_sl ([.ref h_o, .int p0]) ++ List.replicate (2 - (lg_sl ([.ref h_o, .int p0])).length) Slot.unset).toArray = ls at hl ⊢
  have hl : lv_has ls 2 [(0, .ref h_o), (1, .int p0)] := hl
  unfold MX1_heirToN at hM
  refine lv_aload_n hx hb dX1_heirTo_0 rfl (lv_at hl 0 rfl) ?_
  obtain ⟨r1, er1, hM⟩ := b_inv hM
  refine k_v0 [0] (va_runV (As := []) (rest := []) ⟨hx, hb, hml, hown, hts⟩ (ctX1_anew l D dA _ h_o o_taped o_trouble o_fault o_where o_imageMany o_undoMany o_firstRest o_catAt (o_tape) (o_scanner) (.null) (o_town) (o_was) (o_trial) (o_night) (o_plans) (o_undone) (o_images) (o_often) (o_next) r1 er1) (cwV 0 hts (lw_V q432 q434 qs2 q113 q435) rfl rfl rfl (by decide +kernel) ⟨Nat.le_of_ble_eq_true rfl, Nat.le_of_ble_eq_true rfl⟩) (pre_V (hP.sub [0] rfl) hK (hD.sub [0] (by decide) rfl) (ci := 0) (q0 := 0) rfl rfl) rfl rfl hl.1 rfl (lv_room (Nat.le_of_ble_eq_true rfl)) dX1_heirTo_1 ⟨Nat.le_of_ble_eq_true rfl, Nat.le_of_ble_eq_true rfl⟩) hP hD hS hA rfl (fun _ => rfl) (fun u2 H locs hP hD hS => ?_)
  have hP : va_P D clG [(h_o, .inr (0, [o_tape, .int o_taped, o_scanner, .null, .int r1.1, .int o_fault, .int r1.2, .int o_imageMany, .int o_undoMany, o_town, o_was, o_trial, o_night, o_plans, o_undone, o_images, o_often, .int o_firstRest, o_next, .int o_catAt]))] H := hP
  have hD : va_D A [(h_o, .inr (0, [o_tape, .int o_taped, o_scanner, .null, .int r1.1, .int o_fault, .int r1.2, .int o_imageMany, .int o_undoMany, o_town, o_was, o_trial, o_night, o_plans, o_undone, o_images, o_often, .int o_firstRest, o_next, .int o_catAt]))] := hD
  refine lv_aload_n hx hb dX1_heirTo_4 rfl (lv_at hl 0 rfl) ?_
  refine lv_iload_n hx hb dX1_heirTo_5 rfl (lv_at hl 1 rfl) ?_
  obtain ⟨r3, er3, hM⟩ := b_inv hM
  refine k_i0 [0] (va_runV (As := [.int p0]) (rest := []) ⟨hx, hb, hml, hown, hts⟩ (ctX1_isPersonN l D dA _ h_o p0 o_taped r1.1 o_fault r1.2 o_imageMany o_undoMany o_firstRest o_catAt (o_tape) (o_scanner) (o_town) (o_was) (o_trial) (o_night) (o_plans) (o_undone) (o_images) (o_often) (o_next) r3 er3) (cwV 1 hts (lw_V q913 q915 qs24 q113 q916) rfl rfl rfl (by decide +kernel) ⟨Nat.le_of_ble_eq_true rfl, Nat.le_of_ble_eq_true rfl⟩) (pre_V (hP.sub [0] rfl) hK (hD.sub [0] (by decide) rfl) (ci := 0) (q0 := 0) rfl rfl) rfl rfl hl.1 rfl (lv_room (Nat.le_of_ble_eq_true rfl)) dX1_heirTo_6 ⟨Nat.le_of_ble_eq_true rfl, Nat.le_of_ble_eq_true rfl⟩) hP hD hS hA rfl (fun _ => rfl) (fun u4 H locs hP hD hS => ?_)
  have hP : va_P D clG [(h_o, .inr (0, [o_tape, .int o_taped, o_scanner, .null, .int r1.1, .int o_fault, .int r1.2, .int o_imageMany, .int o_undoMany, o_town, o_was, o_trial, o_night, o_plans, o_undone, o_images, o_often, .int o_firstRest, o_next, .int o_catAt]))] H := hP
  have hD : va_D A [(h_o, .inr (0, [o_tape, .int o_taped, o_scanner, .null, .int r1.1, .int o_fault, .int r1.2, .int o_imageMany, .int o_undoMany, o_town, o_was, o_trial, o_night, o_plans, o_undone, o_images, o_often, .int o_firstRest, o_next, .int o_catAt]))] := hD
  have kr3 := krX1_isPersonN _ er3
  refine lv_toi (v := (0 : Int32)) (by rw [kr3]; rfl) ?_
  refine lv_if_eq (tgt := 20) hx hb dX1_heirTo_9 (by decide) (fun _ => ?_) (fun c5 => absurd c5 (by decide))
  refine lv_aload_n hx hb dX1_heirTo_20 rfl (lv_at hl 0 rfl) ?_
  refine lv_iconst (v := (1 : Int32)) hx hb dX1_heirTo_21 (by decide) ?_
  obtain ⟨r6, er6, hM⟩ := b_inv hM
  refine k_i0 [0] (va_runV (As := [.int (1 : Int32)]) (rest := []) ⟨hx, hb, hml, hown, hts⟩ (ctX1_no l D dA _ h_o (1 : Int32) o_taped r1.1 o_fault r1.2 o_imageMany o_undoMany o_firstRest o_catAt (o_tape) (o_scanner) (.null) (o_town) (o_was) (o_trial) (o_night) (o_plans) (o_undone) (o_images) (o_often) (o_next) r6 er6) (cwV 1 hts (lw_V q439 q441 qs3 q113 q442) rfl rfl rfl (by decide +kernel) ⟨Nat.le_of_ble_eq_true rfl, Nat.le_of_ble_eq_true rfl⟩) (pre_V (hP.sub [0] rfl) hK (hD.sub [0] (by decide) rfl) (ci := 0) (q0 := 0) rfl rfl) rfl rfl hl.1 rfl (lv_room (Nat.le_of_ble_eq_true rfl)) dX1_heirTo_22 ⟨Nat.le_of_ble_eq_true rfl, Nat.le_of_ble_eq_true rfl⟩) hP hD hS hA rfl (fun _ => rfl) (fun u7 H locs hP hD hS => ?_)
  have hP : va_P D clG [(h_o, .inr (0, [o_tape, .int o_taped, o_scanner, .null, .int r6.2, .int o_fault, .int r1.2, .int o_imageMany, .int o_undoMany, o_town, o_was, o_trial, o_night, o_plans, o_undone, o_images, o_often, .int o_firstRest, o_next, .int o_catAt]))] H := hP
  have hD : va_D A [(h_o, .inr (0, [o_tape, .int o_taped, o_scanner, .null, .int r6.2, .int o_fault, .int r1.2, .int o_imageMany, .int o_undoMany, o_town, o_was, o_trial, o_night, o_plans, o_undone, o_images, o_often, .int o_firstRest, o_next, .int o_catAt]))] := hD
  have hM := Option.some.inj hM
  subst hM
  exact W.iret (v := r6.1) hx hb hr (fun t ht hW => ⟨⟨r6.1, (), rfl, rfl, by rw [ht]; exact hP, hD⟩, hS.F ht⟩) hS.2.2 dX1_heirTo_25

set_option maxHeartbeats 40000000 in
set_option maxRecDepth 100000 in
theorem ctX7_heirToN (l : Launch) (D : va_G) (dA : Nat → ClassId) (sz : Nat) (h_m : Nat) (p0 : Int32) (m_thrown : Int32) (m_trouble : Int32) (m_where : Int32) (m_taped : Int32) (m_size : Int32) (m_spot : Int32) (m_sort : Int32) (m_place : Int32) (m_number : Int32) (m_fault : Int32) (m_wrongAt : Int32) (m_word : Int64) (m_askedOf : Int32) (m_acts : Int32) (m_images : Int32) (m_catGets : Int32) (m_whole : Int64) (m_bestSum : Int64) (m_tourHoursNow : Int32) (m_fitsNow : Int32) (m_foundHour : Int32) (m_lookLeft : Int32) (m_firstCatNow : Int32) (m_read : Value) (m_tape : Value) (m_v : Value) (m_x : Value) (m_past : Value) (m_kept : Value) (m_heir : Value) (m_then : Value) (m_come : Value) (m_comeThen : Value) (m_hour : Value) (m_partIn : Value) (m_heirIn : Value) (res : (Int32 × Int32 × Int32 × Int32)) (hM : MX7_heirToN  = some res) : Met l yX7_heirTo (ws_ yX7_heirTo cX7_heirTo 2 (some .int)) ({ frames := 1, cells := 0, slots := 0, locals := 21 }) (pre_ D dA [.ref h_m, .int p0] [(h_m, .inr (11, [.int m_thrown, .int m_trouble, .int m_where, .null, m_read, m_tape, .int m_taped, .int m_size, .int m_spot, .int m_sort, .int m_place, .int m_number, .int m_fault, .int m_wrongAt, .long m_word, .int m_askedOf, m_v, m_x, m_past, m_kept, .int m_acts, .int m_images, m_heir, m_then, .int m_catGets, .long m_whole, .long m_bestSum, m_come, m_comeThen, .int m_tourHoursNow, m_hour, m_partIn, m_heirIn, .int m_fitsNow, .int m_foundHour, .int m_lookLeft, .int m_firstCatNow]))] sz) (qi_ D res.1 (fun (u : Unit) => [(h_m, .inr (11, [.int res.2.1, .int res.2.2.1, .int res.2.2.2, .null, m_read, m_tape, .int m_taped, .int m_size, .int m_spot, .int m_sort, .int m_place, .int m_number, .int m_fault, .int m_wrongAt, .long m_word, .int m_askedOf, m_v, m_x, m_past, m_kept, .int m_acts, .int m_images, m_heir, m_then, .int m_catGets, .long m_whole, .long m_bestSum, m_come, m_comeThen, .int m_tourHoursNow, m_hour, m_partIn, m_heirIn, .int m_fitsNow, .int m_foundHour, .int m_lookLeft, .int m_firstCatNow]))]) (va_A [(h_m, .inr (11, [.int m_thrown, .int m_trouble, .int m_where, .null, m_read, m_tape, .int m_taped, .int m_size, .int m_spot, .int m_sort, .int m_place, .int m_number, .int m_fault, .int m_wrongAt, .long m_word, .int m_askedOf, m_v, m_x, m_past, m_kept, .int m_acts, .int m_images, m_heir, m_then, .int m_catGets, .long m_whole, .long m_bestSum, m_come, m_comeThen, .int m_tourHoursNow, m_hour, m_partIn, m_heirIn, .int m_fitsNow, .int m_foundHour, .int m_lookLeft, .int m_firstCatNow]))] sz)) 0 0 (va_A [(h_m, .inr (11, [.int m_thrown, .int m_trouble, .int m_where, .null, m_read, m_tape, .int m_taped, .int m_size, .int m_spot, .int m_sort, .int m_place, .int m_number, .int m_fault, .int m_wrongAt, .long m_word, .int m_askedOf, m_v, m_x, m_past, m_kept, .int m_acts, .int m_images, m_heir, m_then, .int m_catGets, .long m_whole, .long m_bestSum, m_come, m_comeThen, .int m_tourHoursNow, m_hour, m_partIn, m_heirIn, .int m_fitsNow, .int m_foundHour, .int m_lookLeft, .int m_firstCatNow]))] sz) := by
  refine Met.ofW (cc := cX7_heirTo) (maxL := 2) (ret := (some .int)) (by decide) rfl ?_
  intro p e s m args below meth c s₁ B hml hv
  obtain ⟨rfl, hsz, hP, hK, hD0⟩ := hv
  have hx := B.exec
  have hb := B.bytes
  have hr := B.returns
  have hts := atoms_spec (ws := (ws_ yX7_heirTo cX7_heirTo 2 (some .int))) B.pre
  have hts : ∀ w ∈ lw_all, w.before _ s = true := fun w h => hts w (List.mem_cons_of_mem _ h)
  have hown : s.vm.findClass RX7 = some m.cls := findClass_of_methodNamed B.named
  have hlocks := B.notSynchronized
  subst hsz
  have hD := hD0.self (sz := s.heap.size)
  generalize hAe : va_A [(h_m, .inr (11, [.int m_thrown, .int m_trouble, .int m_where, .null, m_read, m_tape, .int m_taped, .int m_size, .int m_spot, .int m_sort, .int m_place, .int m_number, .int m_fault, .int m_wrongAt, .long m_word, .int m_askedOf, m_v, m_x, m_past, m_kept, .int m_acts, .int m_images, m_heir, m_then, .int m_catGets, .long m_whole, .long m_bestSum, m_come, m_comeThen, .int m_tourHoursNow, m_hour, m_partIn, m_heirIn, .int m_fitsNow, .int m_foundHour, .int m_lookLeft, .int m_firstCatNow]))] s.heap.size = A at hD ⊢
  have hA : ∀ q : Nat, s.heap.size ≤ q → A q := fun q h => by rw [← hAe]; exact Or.inr h
  have hS : va_S A s.heap s.heap [] := va_S.rf
  have hP : va_P D clG [(h_m, .inr (11, [.int m_thrown, .int m_trouble, .int m_where, .null, m_read, m_tape, .int m_taped, .int m_size, .int m_spot, .int m_sort, .int m_place, .int m_number, .int m_fault, .int m_wrongAt, .long m_word, .int m_askedOf, m_v, m_x, m_past, m_kept, .int m_acts, .int m_images, m_heir, m_then, .int m_catGets, .long m_whole, .long m_bestSum, m_come, m_comeThen, .int m_tourHoursNow, m_hour, m_partIn, m_heirIn, .int m_fitsNow, .int m_foundHour, .int m_lookLeft, .int m_firstCatNow]))] s.heap := hP
  have hl := lv_entry ([.ref h_m, .int p0]) (n := 2) (Nat.le_of_ble_eq_true rfl)
  rw [lg_entry_eq]
  generalize (lg_sl ([.ref h_m, .int p0]) ++ List.replicate (2 - (lg_sl ([.ref h_m, .int p0])).length) Slot.unset).toArray = ls at hl ⊢
  have hl : lv_has ls 2 [(0, .ref h_m), (1, .int p0)] := hl
  unfold MX7_heirToN at hM
  refine lv_aload_n hx hb dX7_heirTo_0 rfl (lv_at hl 0 rfl) ?_
  refine lv_iconst (v := (0 : Int32)) hx hb dX7_heirTo_1 (by decide) ?_
  refine va_put (D := D) (ci := 11) (v := .int (0 : Int32)) (ty := .int) (C := RX7) (T := TX7) (N := 37) hx hb hts in_X7 tyX7 tyX7_ok nmX7 hown hK.1 hP hD hS 0 rfl rfl 0 (by decide) (hts _ q1372) (fun _ h9 => h9) rfl (by decide +kernel) rfl rfl (Nat.le_of_ble_eq_true rfl) dX7_heirTo_2 (fun H locs hP hD hS => ?_)
  have hP : va_P D clG [(h_m, .inr (11, [.int (0 : Int32), .int m_trouble, .int m_where, .null, m_read, m_tape, .int m_taped, .int m_size, .int m_spot, .int m_sort, .int m_place, .int m_number, .int m_fault, .int m_wrongAt, .long m_word, .int m_askedOf, m_v, m_x, m_past, m_kept, .int m_acts, .int m_images, m_heir, m_then, .int m_catGets, .long m_whole, .long m_bestSum, m_come, m_comeThen, .int m_tourHoursNow, m_hour, m_partIn, m_heirIn, .int m_fitsNow, .int m_foundHour, .int m_lookLeft, .int m_firstCatNow]))] H := hP
  have hD : va_D A [(h_m, .inr (11, [.int (0 : Int32), .int m_trouble, .int m_where, .null, m_read, m_tape, .int m_taped, .int m_size, .int m_spot, .int m_sort, .int m_place, .int m_number, .int m_fault, .int m_wrongAt, .long m_word, .int m_askedOf, m_v, m_x, m_past, m_kept, .int m_acts, .int m_images, m_heir, m_then, .int m_catGets, .long m_whole, .long m_bestSum, m_come, m_comeThen, .int m_tourHoursNow, m_hour, m_partIn, m_heirIn, .int m_fitsNow, .int m_foundHour, .int m_lookLeft, .int m_firstCatNow]))] := hD
  refine lv_aload_n hx hb dX7_heirTo_5 rfl (lv_at hl 0 rfl) ?_
  refine lv_iload_n hx hb dX7_heirTo_6 rfl (lv_at hl 1 rfl) ?_
  obtain ⟨r1, er1, hM⟩ := b_inv hM
  refine k_i0 [0] (va_runV (As := [.int p0]) (rest := []) ⟨hx, hb, hml, hown, hts⟩ (ctX7_isPersonN l D dA _ h_m p0 (0 : Int32) m_trouble m_where m_taped m_size m_spot m_sort m_place m_number m_fault m_wrongAt m_word m_askedOf m_acts m_images m_catGets m_whole m_bestSum m_tourHoursNow m_fitsNow m_foundHour m_lookLeft m_firstCatNow (m_read) (m_tape) (m_v) (m_x) (m_past) (m_kept) (m_heir) (m_then) (m_come) (m_comeThen) (m_hour) (m_partIn) (m_heirIn) r1 er1) (cwV 1 hts (lw_V q1733 q1735 qs71 q122 q1736) rfl rfl rfl (by decide +kernel) ⟨Nat.le_of_ble_eq_true rfl, Nat.le_of_ble_eq_true rfl⟩) (pre_V (hP.sub [0] rfl) hK (hD.sub [0] (by decide) rfl) (ci := 11) (q0 := 0) rfl rfl) rfl rfl hl.1 rfl (lv_room (Nat.le_of_ble_eq_true rfl)) dX7_heirTo_7 ⟨Nat.le_of_ble_eq_true rfl, Nat.le_of_ble_eq_true rfl⟩) hP hD hS hA rfl (fun _ => rfl) (fun u2 H locs hP hD hS => ?_)
  have hP : va_P D clG [(h_m, .inr (11, [.int (0 : Int32), .int m_trouble, .int m_where, .null, m_read, m_tape, .int m_taped, .int m_size, .int m_spot, .int m_sort, .int m_place, .int m_number, .int m_fault, .int m_wrongAt, .long m_word, .int m_askedOf, m_v, m_x, m_past, m_kept, .int m_acts, .int m_images, m_heir, m_then, .int m_catGets, .long m_whole, .long m_bestSum, m_come, m_comeThen, .int m_tourHoursNow, m_hour, m_partIn, m_heirIn, .int m_fitsNow, .int m_foundHour, .int m_lookLeft, .int m_firstCatNow]))] H := hP
  have hD : va_D A [(h_m, .inr (11, [.int (0 : Int32), .int m_trouble, .int m_where, .null, m_read, m_tape, .int m_taped, .int m_size, .int m_spot, .int m_sort, .int m_place, .int m_number, .int m_fault, .int m_wrongAt, .long m_word, .int m_askedOf, m_v, m_x, m_past, m_kept, .int m_acts, .int m_images, m_heir, m_then, .int m_catGets, .long m_whole, .long m_bestSum, m_come, m_comeThen, .int m_tourHoursNow, m_hour, m_partIn, m_heirIn, .int m_fitsNow, .int m_foundHour, .int m_lookLeft, .int m_firstCatNow]))] := hD
  have kr1 := krX7_isPersonN _ er1
  refine lv_toi (v := (0 : Int32)) (by rw [kr1]; rfl) ?_
  refine lv_if_ne (tgt := 19) hx hb dX7_heirTo_10 (by decide) (fun c3 => absurd c3 (by decide)) (fun _ => ?_)
  refine lv_aload_n hx hb dX7_heirTo_13 rfl (lv_at hl 0 rfl) ?_
  refine lv_iconst (v := (1 : Int32)) hx hb dX7_heirTo_14 (by decide) ?_
  obtain ⟨r4, er4, hM⟩ := b_inv hM
  refine k_i0 [0] (va_runV (As := [.int (1 : Int32)]) (rest := []) ⟨hx, hb, hml, hown, hts⟩ (ctX7_refused l D dA _ h_m (1 : Int32) (0 : Int32) m_trouble m_where m_taped m_size m_spot m_sort m_place m_number m_fault m_wrongAt m_word m_askedOf m_acts m_images m_catGets m_whole m_bestSum m_tourHoursNow m_fitsNow m_foundHour m_lookLeft m_firstCatNow (.null) (m_read) (m_tape) (m_v) (m_x) (m_past) (m_kept) (m_heir) (m_then) (m_come) (m_comeThen) (m_hour) (m_partIn) (m_heirIn) r4 er4) (cwV 1 hts (lw_V q1496 q1498 qs50 q122 q1499) rfl rfl rfl (by decide +kernel) ⟨Nat.le_of_ble_eq_true rfl, Nat.le_of_ble_eq_true rfl⟩) (pre_V (hP.sub [0] rfl) hK (hD.sub [0] (by decide) rfl) (ci := 11) (q0 := 0) rfl rfl) rfl rfl hl.1 rfl (lv_room (Nat.le_of_ble_eq_true rfl)) dX7_heirTo_15 ⟨Nat.le_of_ble_eq_true rfl, Nat.le_of_ble_eq_true rfl⟩) hP hD hS hA rfl (fun _ => rfl) (fun u5 H locs hP hD hS => ?_)
  have hP : va_P D clG [(h_m, .inr (11, [.int (0 : Int32), .int r4.2.1, .int r4.2.2, .null, m_read, m_tape, .int m_taped, .int m_size, .int m_spot, .int m_sort, .int m_place, .int m_number, .int m_fault, .int m_wrongAt, .long m_word, .int m_askedOf, m_v, m_x, m_past, m_kept, .int m_acts, .int m_images, m_heir, m_then, .int m_catGets, .long m_whole, .long m_bestSum, m_come, m_comeThen, .int m_tourHoursNow, m_hour, m_partIn, m_heirIn, .int m_fitsNow, .int m_foundHour, .int m_lookLeft, .int m_firstCatNow]))] H := hP
  have hD : va_D A [(h_m, .inr (11, [.int (0 : Int32), .int r4.2.1, .int r4.2.2, .null, m_read, m_tape, .int m_taped, .int m_size, .int m_spot, .int m_sort, .int m_place, .int m_number, .int m_fault, .int m_wrongAt, .long m_word, .int m_askedOf, m_v, m_x, m_past, m_kept, .int m_acts, .int m_images, m_heir, m_then, .int m_catGets, .long m_whole, .long m_bestSum, m_come, m_comeThen, .int m_tourHoursNow, m_hour, m_partIn, m_heirIn, .int m_fitsNow, .int m_foundHour, .int m_lookLeft, .int m_firstCatNow]))] := hD
  have hM := Option.some.inj hM
  subst hM
  exact W.iret (v := r4.1) hx hb hr (fun t ht hW => ⟨⟨r4.1, (), rfl, rfl, by rw [ht]; exact hP, hD⟩, hS.F ht⟩) hS.2.2 dX7_heirTo_18

set_option maxHeartbeats 40000000 in
set_option maxRecDepth 100000 in
theorem ctX1_hopesN (l : Launch) (D : va_G) (dA : Nat → ClassId) (sz : Nat) (h_o : Nat) (p0 : Int32) (o_taped : Int32) (o_trouble : Int32) (o_fault : Int32) (o_where : Int32) (o_imageMany : Int32) (o_undoMany : Int32) (o_firstRest : Int32) (o_catAt : Int32) (o_tape : Value) (o_scanner : Value) (o_town : Value) (o_was : Value) (o_trial : Value) (o_night : Value) (o_plans : Value) (o_undone : Value) (o_images : Value) (o_often : Value) (o_next : Value) (res : (Int32 × Int32 × Int32)) (hM : MX1_hopesN  = some res) : Met l yX1_hopes (ws_ yX1_hopes cX1_hopes 3 (some .int)) ({ frames := 2, cells := 0, slots := 0, locals := 42 }) (pre_ D dA [.ref h_o, .int p0] [(h_o, .inr (0, [o_tape, .int o_taped, o_scanner, .null, .int o_trouble, .int o_fault, .int o_where, .int o_imageMany, .int o_undoMany, o_town, o_was, o_trial, o_night, o_plans, o_undone, o_images, o_often, .int o_firstRest, o_next, .int o_catAt]))] sz) (qi_ D res.1 (fun (u : Unit) => [(h_o, .inr (0, [o_tape, .int o_taped, o_scanner, .null, .int res.2.1, .int o_fault, .int res.2.2, .int o_imageMany, .int o_undoMany, o_town, o_was, o_trial, o_night, o_plans, o_undone, o_images, o_often, .int o_firstRest, o_next, .int o_catAt]))]) (va_A [(h_o, .inr (0, [o_tape, .int o_taped, o_scanner, .null, .int o_trouble, .int o_fault, .int o_where, .int o_imageMany, .int o_undoMany, o_town, o_was, o_trial, o_night, o_plans, o_undone, o_images, o_often, .int o_firstRest, o_next, .int o_catAt]))] sz)) 0 0 (va_A [(h_o, .inr (0, [o_tape, .int o_taped, o_scanner, .null, .int o_trouble, .int o_fault, .int o_where, .int o_imageMany, .int o_undoMany, o_town, o_was, o_trial, o_night, o_plans, o_undone, o_images, o_often, .int o_firstRest, o_next, .int o_catAt]))] sz) := by
  refine Met.ofW (cc := cX1_hopes) (maxL := 3) (ret := (some .int)) (by decide) rfl ?_
  intro p e s m args below meth c s₁ B hml hv
  obtain ⟨rfl, hsz, hP, hK, hD0⟩ := hv
  have hx := B.exec
  have hb := B.bytes
  have hr := B.returns
  have hts := atoms_spec (ws := (ws_ yX1_hopes cX1_hopes 3 (some .int))) B.pre
  have hts : ∀ w ∈ lw_all, w.before _ s = true := fun w h => hts w (List.mem_cons_of_mem _ h)
  have hown : s.vm.findClass RX1 = some m.cls := findClass_of_methodNamed B.named
  have hlocks := B.notSynchronized
  subst hsz
  have hD := hD0.self (sz := s.heap.size)
  generalize hAe : va_A [(h_o, .inr (0, [o_tape, .int o_taped, o_scanner, .null, .int o_trouble, .int o_fault, .int o_where, .int o_imageMany, .int o_undoMany, o_town, o_was, o_trial, o_night, o_plans, o_undone, o_images, o_often, .int o_firstRest, o_next, .int o_catAt]))] s.heap.size = A at hD ⊢
  have hA : ∀ q : Nat, s.heap.size ≤ q → A q := fun q h => by rw [← hAe]; exact Or.inr h
  have hS : va_S A s.heap s.heap [] := va_S.rf
  have hP : va_P D clG [(h_o, .inr (0, [o_tape, .int o_taped, o_scanner, .null, .int o_trouble, .int o_fault, .int o_where, .int o_imageMany, .int o_undoMany, o_town, o_was, o_trial, o_night, o_plans, o_undone, o_images, o_often, .int o_firstRest, o_next, .int o_catAt]))] s.heap := hP
  have hl := lv_entry ([.ref h_o, .int p0]) (n := 3) (Nat.le_of_ble_eq_true rfl)
  rw [lg_entry_eq]
  generalize (lg_sl ([.ref h_o, .int p0]) ++ List.replicate (3 - (lg_sl ([.ref h_o, .int p0])).length) Slot.unset).toArray = ls at hl ⊢
  have hl : lv_has ls 3 [(0, .ref h_o), (1, .int p0)] := hl
  unfold MX1_hopesN at hM
  refine lv_aload_n hx hb dX1_hopes_0 rfl (lv_at hl 0 rfl) ?_
  obtain ⟨r1, er1, hM⟩ := b_inv hM
  refine k_v0 [0] (va_runV (As := []) (rest := []) ⟨hx, hb, hml, hown, hts⟩ (ctX1_anew l D dA _ h_o o_taped o_trouble o_fault o_where o_imageMany o_undoMany o_firstRest o_catAt (o_tape) (o_scanner) (.null) (o_town) (o_was) (o_trial) (o_night) (o_plans) (o_undone) (o_images) (o_often) (o_next) r1 er1) (cwV 0 hts (lw_V q432 q434 qs2 q113 q435) rfl rfl rfl (by decide +kernel) ⟨Nat.le_of_ble_eq_true rfl, Nat.le_of_ble_eq_true rfl⟩) (pre_V (hP.sub [0] rfl) hK (hD.sub [0] (by decide) rfl) (ci := 0) (q0 := 0) rfl rfl) rfl rfl hl.1 rfl (lv_room (Nat.le_of_ble_eq_true rfl)) dX1_hopes_1 ⟨Nat.le_of_ble_eq_true rfl, Nat.le_of_ble_eq_true rfl⟩) hP hD hS hA rfl (fun _ => rfl) (fun u2 H locs hP hD hS => ?_)
  have hP : va_P D clG [(h_o, .inr (0, [o_tape, .int o_taped, o_scanner, .null, .int r1.1, .int o_fault, .int r1.2, .int o_imageMany, .int o_undoMany, o_town, o_was, o_trial, o_night, o_plans, o_undone, o_images, o_often, .int o_firstRest, o_next, .int o_catAt]))] H := hP
  have hD : va_D A [(h_o, .inr (0, [o_tape, .int o_taped, o_scanner, .null, .int r1.1, .int o_fault, .int r1.2, .int o_imageMany, .int o_undoMany, o_town, o_was, o_trial, o_night, o_plans, o_undone, o_images, o_often, .int o_firstRest, o_next, .int o_catAt]))] := hD
  refine lv_aload_n hx hb dX1_hopes_4 rfl (lv_at hl 0 rfl) ?_
  refine lv_iload_n hx hb dX1_hopes_5 rfl (lv_at hl 1 rfl) ?_
  obtain ⟨r3, er3, hM⟩ := b_inv hM
  refine k_i0 [0] (va_runV (As := [.int p0]) (rest := []) ⟨hx, hb, hml, hown, hts⟩ (ctX1_livesWhyN l D dA _ h_o p0 o_taped r1.1 o_fault r1.2 o_imageMany o_undoMany o_firstRest o_catAt (o_tape) (o_scanner) (o_town) (o_was) (o_trial) (o_night) (o_plans) (o_undone) (o_images) (o_often) (o_next) r3 er3) (cwV 1 hts (lw_V q970 q972 qs28 q113 q973) rfl rfl rfl (by decide +kernel) ⟨Nat.le_of_ble_eq_true rfl, Nat.le_of_ble_eq_true rfl⟩) (pre_V (hP.sub [0] rfl) hK (hD.sub [0] (by decide) rfl) (ci := 0) (q0 := 0) rfl rfl) rfl rfl hl.1 rfl (lv_room (Nat.le_of_ble_eq_true rfl)) dX1_hopes_6 ⟨Nat.le_of_ble_eq_true rfl, Nat.le_of_ble_eq_true rfl⟩) hP hD hS hA rfl (fun _ => rfl) (fun u4 H locs hP hD hS => ?_)
  have hP : va_P D clG [(h_o, .inr (0, [o_tape, .int o_taped, o_scanner, .null, .int r1.1, .int o_fault, .int r1.2, .int o_imageMany, .int o_undoMany, o_town, o_was, o_trial, o_night, o_plans, o_undone, o_images, o_often, .int o_firstRest, o_next, .int o_catAt]))] H := hP
  have hD : va_D A [(h_o, .inr (0, [o_tape, .int o_taped, o_scanner, .null, .int r1.1, .int o_fault, .int r1.2, .int o_imageMany, .int o_undoMany, o_town, o_was, o_trial, o_night, o_plans, o_undone, o_images, o_often, .int o_firstRest, o_next, .int o_catAt]))] := hD
  have kr3 := krX1_livesWhyN _ er3
  refine lv_toi (v := (1 : Int32)) (by rw [kr3]) ?_
  refine lv_istore_n (lv' := [(2, .int (1 : Int32)), (0, .ref h_o), (1, .int p0)]) hx hb dX1_hopes_9 rfl hl (by decide) rfl (fun ls hl => ?_)
  refine lv_iload_n hx hb dX1_hopes_10 rfl (lv_at hl 0 rfl) ?_
  refine lv_if_eq (tgt := 22) hx hb dX1_hopes_11 (by decide) (fun c5 => absurd c5 (by decide)) (fun _ => ?_)
  refine lv_aload_n hx hb dX1_hopes_14 rfl (lv_at hl 1 rfl) ?_
  refine lv_iload_n hx hb dX1_hopes_15 rfl (lv_at hl 0 rfl) ?_
  obtain ⟨r6, er6, hM⟩ := b_inv hM
  refine k_i0 [0] (va_runV (As := [.int (1 : Int32)]) (rest := []) ⟨hx, hb, hml, hown, hts⟩ (ctX1_no l D dA _ h_o (1 : Int32) o_taped r1.1 o_fault r1.2 o_imageMany o_undoMany o_firstRest o_catAt (o_tape) (o_scanner) (.null) (o_town) (o_was) (o_trial) (o_night) (o_plans) (o_undone) (o_images) (o_often) (o_next) r6 er6) (cwV 1 hts (lw_V q439 q441 qs3 q113 q442) rfl rfl rfl (by decide +kernel) ⟨Nat.le_of_ble_eq_true rfl, Nat.le_of_ble_eq_true rfl⟩) (pre_V (hP.sub [0] rfl) hK (hD.sub [0] (by decide) rfl) (ci := 0) (q0 := 0) rfl rfl) rfl rfl hl.1 rfl (lv_room (Nat.le_of_ble_eq_true rfl)) dX1_hopes_16 ⟨Nat.le_of_ble_eq_true rfl, Nat.le_of_ble_eq_true rfl⟩) hP hD hS hA rfl (fun _ => rfl) (fun u7 H locs hP hD hS => ?_)
  have hP : va_P D clG [(h_o, .inr (0, [o_tape, .int o_taped, o_scanner, .null, .int r6.2, .int o_fault, .int r1.2, .int o_imageMany, .int o_undoMany, o_town, o_was, o_trial, o_night, o_plans, o_undone, o_images, o_often, .int o_firstRest, o_next, .int o_catAt]))] H := hP
  have hD : va_D A [(h_o, .inr (0, [o_tape, .int o_taped, o_scanner, .null, .int r6.2, .int o_fault, .int r1.2, .int o_imageMany, .int o_undoMany, o_town, o_was, o_trial, o_night, o_plans, o_undone, o_images, o_often, .int o_firstRest, o_next, .int o_catAt]))] := hD
  refine lv_goto (tgt := 43) hx hb dX1_hopes_19 (by decide) ?_
  have hM := Option.some.inj hM
  subst hM
  exact W.iret (v := r6.1) hx hb hr (fun t ht hW => ⟨⟨r6.1, (), rfl, rfl, by rw [ht]; exact hP, hD⟩, hS.F ht⟩) hS.2.2 dX1_hopes_43

set_option maxHeartbeats 40000000 in
set_option maxRecDepth 100000 in
theorem ctX7_hopesN (l : Launch) (D : va_G) (dA : Nat → ClassId) (sz : Nat) (h_m : Nat) (p0 : Int32) (m_thrown : Int32) (m_trouble : Int32) (m_where : Int32) (m_taped : Int32) (m_size : Int32) (m_spot : Int32) (m_sort : Int32) (m_place : Int32) (m_number : Int32) (m_fault : Int32) (m_wrongAt : Int32) (m_word : Int64) (m_askedOf : Int32) (m_acts : Int32) (m_images : Int32) (m_catGets : Int32) (m_whole : Int64) (m_bestSum : Int64) (m_tourHoursNow : Int32) (m_fitsNow : Int32) (m_foundHour : Int32) (m_lookLeft : Int32) (m_firstCatNow : Int32) (m_read : Value) (m_tape : Value) (m_v : Value) (m_x : Value) (m_past : Value) (m_kept : Value) (m_heir : Value) (m_then : Value) (m_come : Value) (m_comeThen : Value) (m_hour : Value) (m_partIn : Value) (m_heirIn : Value) (res : (Int32 × Int32 × Int32 × Int32)) (hM : MX7_hopesN  = some res) : Met l yX7_hopes (ws_ yX7_hopes cX7_hopes 3 (some .int)) ({ frames := 2, cells := 0, slots := 0, locals := 42 }) (pre_ D dA [.ref h_m, .int p0] [(h_m, .inr (11, [.int m_thrown, .int m_trouble, .int m_where, .null, m_read, m_tape, .int m_taped, .int m_size, .int m_spot, .int m_sort, .int m_place, .int m_number, .int m_fault, .int m_wrongAt, .long m_word, .int m_askedOf, m_v, m_x, m_past, m_kept, .int m_acts, .int m_images, m_heir, m_then, .int m_catGets, .long m_whole, .long m_bestSum, m_come, m_comeThen, .int m_tourHoursNow, m_hour, m_partIn, m_heirIn, .int m_fitsNow, .int m_foundHour, .int m_lookLeft, .int m_firstCatNow]))] sz) (qi_ D res.1 (fun (u : Unit) => [(h_m, .inr (11, [.int res.2.1, .int res.2.2.1, .int res.2.2.2, .null, m_read, m_tape, .int m_taped, .int m_size, .int m_spot, .int m_sort, .int m_place, .int m_number, .int m_fault, .int m_wrongAt, .long m_word, .int m_askedOf, m_v, m_x, m_past, m_kept, .int m_acts, .int m_images, m_heir, m_then, .int m_catGets, .long m_whole, .long m_bestSum, m_come, m_comeThen, .int m_tourHoursNow, m_hour, m_partIn, m_heirIn, .int m_fitsNow, .int m_foundHour, .int m_lookLeft, .int m_firstCatNow]))]) (va_A [(h_m, .inr (11, [.int m_thrown, .int m_trouble, .int m_where, .null, m_read, m_tape, .int m_taped, .int m_size, .int m_spot, .int m_sort, .int m_place, .int m_number, .int m_fault, .int m_wrongAt, .long m_word, .int m_askedOf, m_v, m_x, m_past, m_kept, .int m_acts, .int m_images, m_heir, m_then, .int m_catGets, .long m_whole, .long m_bestSum, m_come, m_comeThen, .int m_tourHoursNow, m_hour, m_partIn, m_heirIn, .int m_fitsNow, .int m_foundHour, .int m_lookLeft, .int m_firstCatNow]))] sz)) 0 0 (va_A [(h_m, .inr (11, [.int m_thrown, .int m_trouble, .int m_where, .null, m_read, m_tape, .int m_taped, .int m_size, .int m_spot, .int m_sort, .int m_place, .int m_number, .int m_fault, .int m_wrongAt, .long m_word, .int m_askedOf, m_v, m_x, m_past, m_kept, .int m_acts, .int m_images, m_heir, m_then, .int m_catGets, .long m_whole, .long m_bestSum, m_come, m_comeThen, .int m_tourHoursNow, m_hour, m_partIn, m_heirIn, .int m_fitsNow, .int m_foundHour, .int m_lookLeft, .int m_firstCatNow]))] sz) := by
  refine Met.ofW (cc := cX7_hopes) (maxL := 3) (ret := (some .int)) (by decide) rfl ?_
  intro p e s m args below meth c s₁ B hml hv
  obtain ⟨rfl, hsz, hP, hK, hD0⟩ := hv
  have hx := B.exec
  have hb := B.bytes
  have hr := B.returns
  have hts := atoms_spec (ws := (ws_ yX7_hopes cX7_hopes 3 (some .int))) B.pre
  have hts : ∀ w ∈ lw_all, w.before _ s = true := fun w h => hts w (List.mem_cons_of_mem _ h)
  have hown : s.vm.findClass RX7 = some m.cls := findClass_of_methodNamed B.named
  have hlocks := B.notSynchronized
  subst hsz
  have hD := hD0.self (sz := s.heap.size)
  generalize hAe : va_A [(h_m, .inr (11, [.int m_thrown, .int m_trouble, .int m_where, .null, m_read, m_tape, .int m_taped, .int m_size, .int m_spot, .int m_sort, .int m_place, .int m_number, .int m_fault, .int m_wrongAt, .long m_word, .int m_askedOf, m_v, m_x, m_past, m_kept, .int m_acts, .int m_images, m_heir, m_then, .int m_catGets, .long m_whole, .long m_bestSum, m_come, m_comeThen, .int m_tourHoursNow, m_hour, m_partIn, m_heirIn, .int m_fitsNow, .int m_foundHour, .int m_lookLeft, .int m_firstCatNow]))] s.heap.size = A at hD ⊢
  have hA : ∀ q : Nat, s.heap.size ≤ q → A q := fun q h => by rw [← hAe]; exact Or.inr h
  have hS : va_S A s.heap s.heap [] := va_S.rf
  have hP : va_P D clG [(h_m, .inr (11, [.int m_thrown, .int m_trouble, .int m_where, .null, m_read, m_tape, .int m_taped, .int m_size, .int m_spot, .int m_sort, .int m_place, .int m_number, .int m_fault, .int m_wrongAt, .long m_word, .int m_askedOf, m_v, m_x, m_past, m_kept, .int m_acts, .int m_images, m_heir, m_then, .int m_catGets, .long m_whole, .long m_bestSum, m_come, m_comeThen, .int m_tourHoursNow, m_hour, m_partIn, m_heirIn, .int m_fitsNow, .int m_foundHour, .int m_lookLeft, .int m_firstCatNow]))] s.heap := hP
  have hl := lv_entry ([.ref h_m, .int p0]) (n := 3) (Nat.le_of_ble_eq_true rfl)
  rw [lg_entry_eq]
  generalize (lg_sl ([.ref h_m, .int p0]) ++ List.replicate (3 - (lg_sl ([.ref h_m, .int p0])).length) Slot.unset).toArray = ls at hl ⊢
  have hl : lv_has ls 3 [(0, .ref h_m), (1, .int p0)] := hl
  unfold MX7_hopesN at hM
  refine lv_aload_n hx hb dX7_hopes_0 rfl (lv_at hl 0 rfl) ?_
  refine lv_iconst (v := (0 : Int32)) hx hb dX7_hopes_1 (by decide) ?_
  refine va_put (D := D) (ci := 11) (v := .int (0 : Int32)) (ty := .int) (C := RX7) (T := TX7) (N := 37) hx hb hts in_X7 tyX7 tyX7_ok nmX7 hown hK.1 hP hD hS 0 rfl rfl 0 (by decide) (hts _ q1372) (fun _ h9 => h9) rfl (by decide +kernel) rfl rfl (Nat.le_of_ble_eq_true rfl) dX7_hopes_2 (fun H locs hP hD hS => ?_)
  have hP : va_P D clG [(h_m, .inr (11, [.int (0 : Int32), .int m_trouble, .int m_where, .null, m_read, m_tape, .int m_taped, .int m_size, .int m_spot, .int m_sort, .int m_place, .int m_number, .int m_fault, .int m_wrongAt, .long m_word, .int m_askedOf, m_v, m_x, m_past, m_kept, .int m_acts, .int m_images, m_heir, m_then, .int m_catGets, .long m_whole, .long m_bestSum, m_come, m_comeThen, .int m_tourHoursNow, m_hour, m_partIn, m_heirIn, .int m_fitsNow, .int m_foundHour, .int m_lookLeft, .int m_firstCatNow]))] H := hP
  have hD : va_D A [(h_m, .inr (11, [.int (0 : Int32), .int m_trouble, .int m_where, .null, m_read, m_tape, .int m_taped, .int m_size, .int m_spot, .int m_sort, .int m_place, .int m_number, .int m_fault, .int m_wrongAt, .long m_word, .int m_askedOf, m_v, m_x, m_past, m_kept, .int m_acts, .int m_images, m_heir, m_then, .int m_catGets, .long m_whole, .long m_bestSum, m_come, m_comeThen, .int m_tourHoursNow, m_hour, m_partIn, m_heirIn, .int m_fitsNow, .int m_foundHour, .int m_lookLeft, .int m_firstCatNow]))] := hD
  refine lv_aload_n hx hb dX7_hopes_5 rfl (lv_at hl 0 rfl) ?_
  refine lv_iload_n hx hb dX7_hopes_6 rfl (lv_at hl 1 rfl) ?_
  obtain ⟨r1, er1, hM⟩ := b_inv hM
  refine k_i0 [0] (va_runV (As := [.int p0]) (rest := []) ⟨hx, hb, hml, hown, hts⟩ (ctX7_refusesLivingN l D dA _ h_m p0 (0 : Int32) m_trouble m_where m_taped m_size m_spot m_sort m_place m_number m_fault m_wrongAt m_word m_askedOf m_acts m_images m_catGets m_whole m_bestSum m_tourHoursNow m_fitsNow m_foundHour m_lookLeft m_firstCatNow (m_read) (m_tape) (m_v) (m_x) (m_past) (m_kept) (m_heir) (m_then) (m_come) (m_comeThen) (m_hour) (m_partIn) (m_heirIn) r1 er1) (cwV 1 hts (lw_V q1761 q1763 qs76 q122 q1764) rfl rfl rfl (by decide +kernel) ⟨Nat.le_of_ble_eq_true rfl, Nat.le_of_ble_eq_true rfl⟩) (pre_V (hP.sub [0] rfl) hK (hD.sub [0] (by decide) rfl) (ci := 11) (q0 := 0) rfl rfl) rfl rfl hl.1 rfl (lv_room (Nat.le_of_ble_eq_true rfl)) dX7_hopes_7 ⟨Nat.le_of_ble_eq_true rfl, Nat.le_of_ble_eq_true rfl⟩) hP hD hS hA rfl (fun _ => rfl) (fun u2 H locs hP hD hS => ?_)
  have hP : va_P D clG [(h_m, .inr (11, [.int (0 : Int32), .int m_trouble, .int m_where, .null, m_read, m_tape, .int m_taped, .int m_size, .int m_spot, .int m_sort, .int m_place, .int m_number, .int m_fault, .int m_wrongAt, .long m_word, .int m_askedOf, m_v, m_x, m_past, m_kept, .int m_acts, .int m_images, m_heir, m_then, .int m_catGets, .long m_whole, .long m_bestSum, m_come, m_comeThen, .int m_tourHoursNow, m_hour, m_partIn, m_heirIn, .int m_fitsNow, .int m_foundHour, .int m_lookLeft, .int m_firstCatNow]))] H := hP
  have hD : va_D A [(h_m, .inr (11, [.int (0 : Int32), .int m_trouble, .int m_where, .null, m_read, m_tape, .int m_taped, .int m_size, .int m_spot, .int m_sort, .int m_place, .int m_number, .int m_fault, .int m_wrongAt, .long m_word, .int m_askedOf, m_v, m_x, m_past, m_kept, .int m_acts, .int m_images, m_heir, m_then, .int m_catGets, .long m_whole, .long m_bestSum, m_come, m_comeThen, .int m_tourHoursNow, m_hour, m_partIn, m_heirIn, .int m_fitsNow, .int m_foundHour, .int m_lookLeft, .int m_firstCatNow]))] := hD
  have kr1 := krX7_refusesLivingN _ er1
  refine lv_toi (v := (1 : Int32)) (by rw [kr1]) ?_
  refine lv_istore_n (lv' := [(2, .int (1 : Int32)), (0, .ref h_m), (1, .int p0)]) hx hb dX7_hopes_10 rfl hl (by decide) rfl (fun ls hl => ?_)
  refine lv_iload_n hx hb dX7_hopes_11 rfl (lv_at hl 0 rfl) ?_
  refine lv_if_le (tgt := 21) hx hb dX7_hopes_12 (by decide) (fun c3 => absurd c3 (by decide)) (fun _ => ?_)
  refine lv_aload_n hx hb dX7_hopes_15 rfl (lv_at hl 1 rfl) ?_
  refine lv_iload_n hx hb dX7_hopes_16 rfl (lv_at hl 0 rfl) ?_
  obtain ⟨r4, er4, hM⟩ := b_inv hM
  refine k_i0 [0] (va_runV (As := [.int (1 : Int32)]) (rest := []) ⟨hx, hb, hml, hown, hts⟩ (ctX7_refused l D dA _ h_m (1 : Int32) (0 : Int32) m_trouble m_where m_taped m_size m_spot m_sort m_place m_number m_fault m_wrongAt m_word m_askedOf m_acts m_images m_catGets m_whole m_bestSum m_tourHoursNow m_fitsNow m_foundHour m_lookLeft m_firstCatNow (.null) (m_read) (m_tape) (m_v) (m_x) (m_past) (m_kept) (m_heir) (m_then) (m_come) (m_comeThen) (m_hour) (m_partIn) (m_heirIn) r4 er4) (cwV 1 hts (lw_V q1496 q1498 qs50 q122 q1499) rfl rfl rfl (by decide +kernel) ⟨Nat.le_of_ble_eq_true rfl, Nat.le_of_ble_eq_true rfl⟩) (pre_V (hP.sub [0] rfl) hK (hD.sub [0] (by decide) rfl) (ci := 11) (q0 := 0) rfl rfl) rfl rfl hl.1 rfl (lv_room (Nat.le_of_ble_eq_true rfl)) dX7_hopes_17 ⟨Nat.le_of_ble_eq_true rfl, Nat.le_of_ble_eq_true rfl⟩) hP hD hS hA rfl (fun _ => rfl) (fun u5 H locs hP hD hS => ?_)
  have hP : va_P D clG [(h_m, .inr (11, [.int (0 : Int32), .int r4.2.1, .int r4.2.2, .null, m_read, m_tape, .int m_taped, .int m_size, .int m_spot, .int m_sort, .int m_place, .int m_number, .int m_fault, .int m_wrongAt, .long m_word, .int m_askedOf, m_v, m_x, m_past, m_kept, .int m_acts, .int m_images, m_heir, m_then, .int m_catGets, .long m_whole, .long m_bestSum, m_come, m_comeThen, .int m_tourHoursNow, m_hour, m_partIn, m_heirIn, .int m_fitsNow, .int m_foundHour, .int m_lookLeft, .int m_firstCatNow]))] H := hP
  have hD : va_D A [(h_m, .inr (11, [.int (0 : Int32), .int r4.2.1, .int r4.2.2, .null, m_read, m_tape, .int m_taped, .int m_size, .int m_spot, .int m_sort, .int m_place, .int m_number, .int m_fault, .int m_wrongAt, .long m_word, .int m_askedOf, m_v, m_x, m_past, m_kept, .int m_acts, .int m_images, m_heir, m_then, .int m_catGets, .long m_whole, .long m_bestSum, m_come, m_comeThen, .int m_tourHoursNow, m_hour, m_partIn, m_heirIn, .int m_fitsNow, .int m_foundHour, .int m_lookLeft, .int m_firstCatNow]))] := hD
  have hM := Option.some.inj hM
  subst hM
  exact W.iret (v := r4.1) hx hb hr (fun t ht hW => ⟨⟨r4.1, (), rfl, rfl, by rw [ht]; exact hP, hD⟩, hS.F ht⟩) hS.2.2 dX7_hopes_20

set_option maxHeartbeats 40000000 in
set_option maxRecDepth 100000 in
theorem ctX1_catN (l : Launch) (D : va_G) (dA : Nat → ClassId) (sz : Nat) (h_o : Nat) (o_taped : Int32) (o_trouble : Int32) (o_fault : Int32) (o_where : Int32) (o_imageMany : Int32) (o_undoMany : Int32) (o_firstRest : Int32) (o_catAt : Int32) (o_tape : Value) (o_scanner : Value) (o_town : Value) (o_was : Value) (o_trial : Value) (o_night : Value) (o_plans : Value) (o_undone : Value) (o_images : Value) (o_often : Value) (o_next : Value) (res : (Int32 × Int32 × Int32)) (hM : MX1_catN  = some res) : Met l yX1_cat (ws_ yX1_cat cX1_cat 1 (some .int)) ({ frames := 1, cells := 0, slots := 0, locals := 21 }) (pre_ D dA [.ref h_o] [(h_o, .inr (0, [o_tape, .int o_taped, o_scanner, .null, .int o_trouble, .int o_fault, .int o_where, .int o_imageMany, .int o_undoMany, o_town, o_was, o_trial, o_night, o_plans, o_undone, o_images, o_often, .int o_firstRest, o_next, .int o_catAt]))] sz) (qi_ D res.1 (fun (u : Unit) => [(h_o, .inr (0, [o_tape, .int o_taped, o_scanner, .null, .int res.2.1, .int o_fault, .int res.2.2, .int o_imageMany, .int o_undoMany, o_town, o_was, o_trial, o_night, o_plans, o_undone, o_images, o_often, .int o_firstRest, o_next, .int o_catAt]))]) (va_A [(h_o, .inr (0, [o_tape, .int o_taped, o_scanner, .null, .int o_trouble, .int o_fault, .int o_where, .int o_imageMany, .int o_undoMany, o_town, o_was, o_trial, o_night, o_plans, o_undone, o_images, o_often, .int o_firstRest, o_next, .int o_catAt]))] sz)) 0 0 (va_A [(h_o, .inr (0, [o_tape, .int o_taped, o_scanner, .null, .int o_trouble, .int o_fault, .int o_where, .int o_imageMany, .int o_undoMany, o_town, o_was, o_trial, o_night, o_plans, o_undone, o_images, o_often, .int o_firstRest, o_next, .int o_catAt]))] sz) := by
  refine Met.ofW (cc := cX1_cat) (maxL := 1) (ret := (some .int)) (by decide) rfl ?_
  intro p e s m args below meth c s₁ B hml hv
  obtain ⟨rfl, hsz, hP, hK, hD0⟩ := hv
  have hx := B.exec
  have hb := B.bytes
  have hr := B.returns
  have hts := atoms_spec (ws := (ws_ yX1_cat cX1_cat 1 (some .int))) B.pre
  have hts : ∀ w ∈ lw_all, w.before _ s = true := fun w h => hts w (List.mem_cons_of_mem _ h)
  have hown : s.vm.findClass RX1 = some m.cls := findClass_of_methodNamed B.named
  have hlocks := B.notSynchronized
  subst hsz
  have hD := hD0.self (sz := s.heap.size)
  generalize hAe : va_A [(h_o, .inr (0, [o_tape, .int o_taped, o_scanner, .null, .int o_trouble, .int o_fault, .int o_where, .int o_imageMany, .int o_undoMany, o_town, o_was, o_trial, o_night, o_plans, o_undone, o_images, o_often, .int o_firstRest, o_next, .int o_catAt]))] s.heap.size = A at hD ⊢
  have hA : ∀ q : Nat, s.heap.size ≤ q → A q := fun q h => by rw [← hAe]; exact Or.inr h
  have hS : va_S A s.heap s.heap [] := va_S.rf
  have hP : va_P D clG [(h_o, .inr (0, [o_tape, .int o_taped, o_scanner, .null, .int o_trouble, .int o_fault, .int o_where, .int o_imageMany, .int o_undoMany, o_town, o_was, o_trial, o_night, o_plans, o_undone, o_images, o_often, .int o_firstRest, o_next, .int o_catAt]))] s.heap := hP
  have hl := lv_entry ([.ref h_o]) (n := 1) (Nat.le_of_ble_eq_true rfl)
  rw [lg_entry_eq]
  generalize (lg_sl ([.ref h_o]) ++ List.replicate (1 - (lg_sl ([.ref h_o])).length) Slot.unset).toArray = ls at hl ⊢
  have hl : lv_has ls 1 [(0, .ref h_o)] := hl
  unfold MX1_catN at hM
  refine lv_aload_n hx hb dX1_cat_0 rfl (lv_at hl 0 rfl) ?_
  obtain ⟨r1, er1, hM⟩ := b_inv hM
  refine k_v0 [0] (va_runV (As := []) (rest := []) ⟨hx, hb, hml, hown, hts⟩ (ctX1_anew l D dA _ h_o o_taped o_trouble o_fault o_where o_imageMany o_undoMany o_firstRest o_catAt (o_tape) (o_scanner) (.null) (o_town) (o_was) (o_trial) (o_night) (o_plans) (o_undone) (o_images) (o_often) (o_next) r1 er1) (cwV 0 hts (lw_V q432 q434 qs2 q113 q435) rfl rfl rfl (by decide +kernel) ⟨Nat.le_of_ble_eq_true rfl, Nat.le_of_ble_eq_true rfl⟩) (pre_V (hP.sub [0] rfl) hK (hD.sub [0] (by decide) rfl) (ci := 0) (q0 := 0) rfl rfl) rfl rfl hl.1 rfl (lv_room (Nat.le_of_ble_eq_true rfl)) dX1_cat_1 ⟨Nat.le_of_ble_eq_true rfl, Nat.le_of_ble_eq_true rfl⟩) hP hD hS hA rfl (fun _ => rfl) (fun u2 H locs hP hD hS => ?_)
  have hP : va_P D clG [(h_o, .inr (0, [o_tape, .int o_taped, o_scanner, .null, .int r1.1, .int o_fault, .int r1.2, .int o_imageMany, .int o_undoMany, o_town, o_was, o_trial, o_night, o_plans, o_undone, o_images, o_often, .int o_firstRest, o_next, .int o_catAt]))] H := hP
  have hD : va_D A [(h_o, .inr (0, [o_tape, .int o_taped, o_scanner, .null, .int r1.1, .int o_fault, .int r1.2, .int o_imageMany, .int o_undoMany, o_town, o_was, o_trial, o_night, o_plans, o_undone, o_images, o_often, .int o_firstRest, o_next, .int o_catAt]))] := hD
  refine lv_aload_n hx hb dX1_cat_4 rfl (lv_at hl 0 rfl) ?_
  refine va_get (D := D) (ci := 0) (v := .null) (C := RX1) (T := TX1) (N := 20) hx hb hts in_X1 hown hK.1 hP 0 rfl rfl 3 (by decide) (hts _ q361) (fun _ h9 => h9) rfl dX1_cat_5 ?_
  refine lv_ifnonnullN hx hb dX1_cat_8 ?_
  refine lv_aload_n hx hb dX1_cat_11 rfl (lv_at hl 0 rfl) ?_
  refine lv_iconst (v := (1 : Int32)) hx hb dX1_cat_12 (by decide) ?_
  obtain ⟨r3, er3, hM⟩ := b_inv hM
  refine k_i0 [0] (va_runV (As := [.int (1 : Int32)]) (rest := []) ⟨hx, hb, hml, hown, hts⟩ (ctX1_no l D dA _ h_o (1 : Int32) o_taped r1.1 o_fault r1.2 o_imageMany o_undoMany o_firstRest o_catAt (o_tape) (o_scanner) (.null) (o_town) (o_was) (o_trial) (o_night) (o_plans) (o_undone) (o_images) (o_often) (o_next) r3 er3) (cwV 1 hts (lw_V q439 q441 qs3 q113 q442) rfl rfl rfl (by decide +kernel) ⟨Nat.le_of_ble_eq_true rfl, Nat.le_of_ble_eq_true rfl⟩) (pre_V (hP.sub [0] rfl) hK (hD.sub [0] (by decide) rfl) (ci := 0) (q0 := 0) rfl rfl) rfl rfl hl.1 rfl (lv_room (Nat.le_of_ble_eq_true rfl)) dX1_cat_13 ⟨Nat.le_of_ble_eq_true rfl, Nat.le_of_ble_eq_true rfl⟩) hP hD hS hA rfl (fun _ => rfl) (fun u4 H locs hP hD hS => ?_)
  have hP : va_P D clG [(h_o, .inr (0, [o_tape, .int o_taped, o_scanner, .null, .int r3.2, .int o_fault, .int r1.2, .int o_imageMany, .int o_undoMany, o_town, o_was, o_trial, o_night, o_plans, o_undone, o_images, o_often, .int o_firstRest, o_next, .int o_catAt]))] H := hP
  have hD : va_D A [(h_o, .inr (0, [o_tape, .int o_taped, o_scanner, .null, .int r3.2, .int o_fault, .int r1.2, .int o_imageMany, .int o_undoMany, o_town, o_was, o_trial, o_night, o_plans, o_undone, o_images, o_often, .int o_firstRest, o_next, .int o_catAt]))] := hD
  refine lv_goto (tgt := 26) hx hb dX1_cat_16 (by decide) ?_
  have hM := Option.some.inj hM
  subst hM
  exact W.iret (v := r3.1) hx hb hr (fun t ht hW => ⟨⟨r3.1, (), rfl, rfl, by rw [ht]; exact hP, hD⟩, hS.F ht⟩) hS.2.2 dX1_cat_26

set_option maxHeartbeats 40000000 in
set_option maxRecDepth 100000 in
theorem ctX7_catN (l : Launch) (D : va_G) (dA : Nat → ClassId) (sz : Nat) (h_m : Nat) (m_thrown : Int32) (m_trouble : Int32) (m_where : Int32) (m_taped : Int32) (m_size : Int32) (m_spot : Int32) (m_sort : Int32) (m_place : Int32) (m_number : Int32) (m_fault : Int32) (m_wrongAt : Int32) (m_word : Int64) (m_askedOf : Int32) (m_acts : Int32) (m_images : Int32) (m_catGets : Int32) (m_whole : Int64) (m_bestSum : Int64) (m_tourHoursNow : Int32) (m_fitsNow : Int32) (m_foundHour : Int32) (m_lookLeft : Int32) (m_firstCatNow : Int32) (m_read : Value) (m_tape : Value) (m_v : Value) (m_x : Value) (m_past : Value) (m_kept : Value) (m_heir : Value) (m_then : Value) (m_come : Value) (m_comeThen : Value) (m_hour : Value) (m_partIn : Value) (m_heirIn : Value) (res : (Int32 × Int32 × Int32 × Int32)) (hM : MX7_catN  = some res) : Met l yX7_cat (ws_ yX7_cat cX7_cat 1 (some .int)) ({ frames := 1, cells := 0, slots := 0, locals := 21 }) (pre_ D dA [.ref h_m] [(h_m, .inr (11, [.int m_thrown, .int m_trouble, .int m_where, .null, m_read, m_tape, .int m_taped, .int m_size, .int m_spot, .int m_sort, .int m_place, .int m_number, .int m_fault, .int m_wrongAt, .long m_word, .int m_askedOf, m_v, m_x, m_past, m_kept, .int m_acts, .int m_images, m_heir, m_then, .int m_catGets, .long m_whole, .long m_bestSum, m_come, m_comeThen, .int m_tourHoursNow, m_hour, m_partIn, m_heirIn, .int m_fitsNow, .int m_foundHour, .int m_lookLeft, .int m_firstCatNow]))] sz) (qi_ D res.1 (fun (u : Unit) => [(h_m, .inr (11, [.int res.2.1, .int res.2.2.1, .int res.2.2.2, .null, m_read, m_tape, .int m_taped, .int m_size, .int m_spot, .int m_sort, .int m_place, .int m_number, .int m_fault, .int m_wrongAt, .long m_word, .int m_askedOf, m_v, m_x, m_past, m_kept, .int m_acts, .int m_images, m_heir, m_then, .int m_catGets, .long m_whole, .long m_bestSum, m_come, m_comeThen, .int m_tourHoursNow, m_hour, m_partIn, m_heirIn, .int m_fitsNow, .int m_foundHour, .int m_lookLeft, .int m_firstCatNow]))]) (va_A [(h_m, .inr (11, [.int m_thrown, .int m_trouble, .int m_where, .null, m_read, m_tape, .int m_taped, .int m_size, .int m_spot, .int m_sort, .int m_place, .int m_number, .int m_fault, .int m_wrongAt, .long m_word, .int m_askedOf, m_v, m_x, m_past, m_kept, .int m_acts, .int m_images, m_heir, m_then, .int m_catGets, .long m_whole, .long m_bestSum, m_come, m_comeThen, .int m_tourHoursNow, m_hour, m_partIn, m_heirIn, .int m_fitsNow, .int m_foundHour, .int m_lookLeft, .int m_firstCatNow]))] sz)) 0 0 (va_A [(h_m, .inr (11, [.int m_thrown, .int m_trouble, .int m_where, .null, m_read, m_tape, .int m_taped, .int m_size, .int m_spot, .int m_sort, .int m_place, .int m_number, .int m_fault, .int m_wrongAt, .long m_word, .int m_askedOf, m_v, m_x, m_past, m_kept, .int m_acts, .int m_images, m_heir, m_then, .int m_catGets, .long m_whole, .long m_bestSum, m_come, m_comeThen, .int m_tourHoursNow, m_hour, m_partIn, m_heirIn, .int m_fitsNow, .int m_foundHour, .int m_lookLeft, .int m_firstCatNow]))] sz) := by
  refine Met.ofW (cc := cX7_cat) (maxL := 1) (ret := (some .int)) (by decide) rfl ?_
  intro p e s m args below meth c s₁ B hml hv
  obtain ⟨rfl, hsz, hP, hK, hD0⟩ := hv
  have hx := B.exec
  have hb := B.bytes
  have hr := B.returns
  have hts := atoms_spec (ws := (ws_ yX7_cat cX7_cat 1 (some .int))) B.pre
  have hts : ∀ w ∈ lw_all, w.before _ s = true := fun w h => hts w (List.mem_cons_of_mem _ h)
  have hown : s.vm.findClass RX7 = some m.cls := findClass_of_methodNamed B.named
  have hlocks := B.notSynchronized
  subst hsz
  have hD := hD0.self (sz := s.heap.size)
  generalize hAe : va_A [(h_m, .inr (11, [.int m_thrown, .int m_trouble, .int m_where, .null, m_read, m_tape, .int m_taped, .int m_size, .int m_spot, .int m_sort, .int m_place, .int m_number, .int m_fault, .int m_wrongAt, .long m_word, .int m_askedOf, m_v, m_x, m_past, m_kept, .int m_acts, .int m_images, m_heir, m_then, .int m_catGets, .long m_whole, .long m_bestSum, m_come, m_comeThen, .int m_tourHoursNow, m_hour, m_partIn, m_heirIn, .int m_fitsNow, .int m_foundHour, .int m_lookLeft, .int m_firstCatNow]))] s.heap.size = A at hD ⊢
  have hA : ∀ q : Nat, s.heap.size ≤ q → A q := fun q h => by rw [← hAe]; exact Or.inr h
  have hS : va_S A s.heap s.heap [] := va_S.rf
  have hP : va_P D clG [(h_m, .inr (11, [.int m_thrown, .int m_trouble, .int m_where, .null, m_read, m_tape, .int m_taped, .int m_size, .int m_spot, .int m_sort, .int m_place, .int m_number, .int m_fault, .int m_wrongAt, .long m_word, .int m_askedOf, m_v, m_x, m_past, m_kept, .int m_acts, .int m_images, m_heir, m_then, .int m_catGets, .long m_whole, .long m_bestSum, m_come, m_comeThen, .int m_tourHoursNow, m_hour, m_partIn, m_heirIn, .int m_fitsNow, .int m_foundHour, .int m_lookLeft, .int m_firstCatNow]))] s.heap := hP
  have hl := lv_entry ([.ref h_m]) (n := 1) (Nat.le_of_ble_eq_true rfl)
  rw [lg_entry_eq]
  generalize (lg_sl ([.ref h_m]) ++ List.replicate (1 - (lg_sl ([.ref h_m])).length) Slot.unset).toArray = ls at hl ⊢
  have hl : lv_has ls 1 [(0, .ref h_m)] := hl
  unfold MX7_catN at hM
  refine lv_aload_n hx hb dX7_cat_0 rfl (lv_at hl 0 rfl) ?_
  refine lv_iconst (v := (0 : Int32)) hx hb dX7_cat_1 (by decide) ?_
  refine va_put (D := D) (ci := 11) (v := .int (0 : Int32)) (ty := .int) (C := RX7) (T := TX7) (N := 37) hx hb hts in_X7 tyX7 tyX7_ok nmX7 hown hK.1 hP hD hS 0 rfl rfl 0 (by decide) (hts _ q1372) (fun _ h9 => h9) rfl (by decide +kernel) rfl rfl (Nat.le_of_ble_eq_true rfl) dX7_cat_2 (fun H locs hP hD hS => ?_)
  have hP : va_P D clG [(h_m, .inr (11, [.int (0 : Int32), .int m_trouble, .int m_where, .null, m_read, m_tape, .int m_taped, .int m_size, .int m_spot, .int m_sort, .int m_place, .int m_number, .int m_fault, .int m_wrongAt, .long m_word, .int m_askedOf, m_v, m_x, m_past, m_kept, .int m_acts, .int m_images, m_heir, m_then, .int m_catGets, .long m_whole, .long m_bestSum, m_come, m_comeThen, .int m_tourHoursNow, m_hour, m_partIn, m_heirIn, .int m_fitsNow, .int m_foundHour, .int m_lookLeft, .int m_firstCatNow]))] H := hP
  have hD : va_D A [(h_m, .inr (11, [.int (0 : Int32), .int m_trouble, .int m_where, .null, m_read, m_tape, .int m_taped, .int m_size, .int m_spot, .int m_sort, .int m_place, .int m_number, .int m_fault, .int m_wrongAt, .long m_word, .int m_askedOf, m_v, m_x, m_past, m_kept, .int m_acts, .int m_images, m_heir, m_then, .int m_catGets, .long m_whole, .long m_bestSum, m_come, m_comeThen, .int m_tourHoursNow, m_hour, m_partIn, m_heirIn, .int m_fitsNow, .int m_foundHour, .int m_lookLeft, .int m_firstCatNow]))] := hD
  refine lv_aload_n hx hb dX7_cat_5 rfl (lv_at hl 0 rfl) ?_
  refine va_get (D := D) (ci := 11) (v := .null) (C := RX7) (T := TX7) (N := 37) hx hb hts in_X7 hown hK.1 hP 0 rfl rfl 3 (by decide) (hts _ q1375) (fun _ h9 => h9) rfl dX7_cat_6 ?_
  refine lv_ifnonnullN hx hb dX7_cat_9 ?_
  refine lv_aload_n hx hb dX7_cat_12 rfl (lv_at hl 0 rfl) ?_
  refine lv_iconst (v := (1 : Int32)) hx hb dX7_cat_13 (by decide) ?_
  obtain ⟨r1, er1, hM⟩ := b_inv hM
  refine k_i0 [0] (va_runV (As := [.int (1 : Int32)]) (rest := []) ⟨hx, hb, hml, hown, hts⟩ (ctX7_refused l D dA _ h_m (1 : Int32) (0 : Int32) m_trouble m_where m_taped m_size m_spot m_sort m_place m_number m_fault m_wrongAt m_word m_askedOf m_acts m_images m_catGets m_whole m_bestSum m_tourHoursNow m_fitsNow m_foundHour m_lookLeft m_firstCatNow (.null) (m_read) (m_tape) (m_v) (m_x) (m_past) (m_kept) (m_heir) (m_then) (m_come) (m_comeThen) (m_hour) (m_partIn) (m_heirIn) r1 er1) (cwV 1 hts (lw_V q1496 q1498 qs50 q122 q1499) rfl rfl rfl (by decide +kernel) ⟨Nat.le_of_ble_eq_true rfl, Nat.le_of_ble_eq_true rfl⟩) (pre_V (hP.sub [0] rfl) hK (hD.sub [0] (by decide) rfl) (ci := 11) (q0 := 0) rfl rfl) rfl rfl hl.1 rfl (lv_room (Nat.le_of_ble_eq_true rfl)) dX7_cat_14 ⟨Nat.le_of_ble_eq_true rfl, Nat.le_of_ble_eq_true rfl⟩) hP hD hS hA rfl (fun _ => rfl) (fun u2 H locs hP hD hS => ?_)
  have hP : va_P D clG [(h_m, .inr (11, [.int (0 : Int32), .int r1.2.1, .int r1.2.2, .null, m_read, m_tape, .int m_taped, .int m_size, .int m_spot, .int m_sort, .int m_place, .int m_number, .int m_fault, .int m_wrongAt, .long m_word, .int m_askedOf, m_v, m_x, m_past, m_kept, .int m_acts, .int m_images, m_heir, m_then, .int m_catGets, .long m_whole, .long m_bestSum, m_come, m_comeThen, .int m_tourHoursNow, m_hour, m_partIn, m_heirIn, .int m_fitsNow, .int m_foundHour, .int m_lookLeft, .int m_firstCatNow]))] H := hP
  have hD : va_D A [(h_m, .inr (11, [.int (0 : Int32), .int r1.2.1, .int r1.2.2, .null, m_read, m_tape, .int m_taped, .int m_size, .int m_spot, .int m_sort, .int m_place, .int m_number, .int m_fault, .int m_wrongAt, .long m_word, .int m_askedOf, m_v, m_x, m_past, m_kept, .int m_acts, .int m_images, m_heir, m_then, .int m_catGets, .long m_whole, .long m_bestSum, m_come, m_comeThen, .int m_tourHoursNow, m_hour, m_partIn, m_heirIn, .int m_fitsNow, .int m_foundHour, .int m_lookLeft, .int m_firstCatNow]))] := hD
  refine lv_goto (tgt := 31) hx hb dX7_cat_17 (by decide) ?_
  have hM := Option.some.inj hM
  subst hM
  exact W.iret (v := r1.1) hx hb hr (fun t ht hW => ⟨⟨r1.1, (), rfl, rfl, by rw [ht]; exact hP, hD⟩, hS.F ht⟩) hS.2.2 dX7_cat_31
