set_option maxRecDepth 100000
set_option maxHeartbeats 40000000 in
set_option maxRecDepth 100000 in
theorem ctX7_refusesShameN (l : Launch) (D : va_G) (dA : Nat → ClassId) (sz : Nat) (h_m : Nat) (p0 : Int32) (m_thrown : Int32) (m_trouble : Int32) (m_where : Int32) (m_taped : Int32) (m_size : Int32) (m_spot : Int32) (m_sort : Int32) (m_place : Int32) (m_number : Int32) (m_fault : Int32) (m_wrongAt : Int32) (m_word : Int64) (m_askedOf : Int32) (m_acts : Int32) (m_images : Int32) (m_catGets : Int32) (m_whole : Int64) (m_bestSum : Int64) (m_tourHoursNow : Int32) (m_fitsNow : Int32) (m_foundHour : Int32) (m_lookLeft : Int32) (m_firstCatNow : Int32) (m_read : Value) (m_tape : Value) (m_v : Value) (m_x : Value) (m_past : Value) (m_kept : Value) (m_heir : Value) (m_then : Value) (m_come : Value) (m_comeThen : Value) (m_hour : Value) (m_partIn : Value) (m_heirIn : Value) (res : Int32) (hM : MX7_refusesShameN  = some res) : Met l yX7_refusesShame (ws_ yX7_refusesShame cX7_refusesShame 2 (some .int)) ({ frames := 0, cells := 0, slots := 0, locals := 0 }) (pre_ D dA [.ref h_m, .int p0] [(h_m, .inr (11, [.int m_thrown, .int m_trouble, .int m_where, .null, m_read, m_tape, .int m_taped, .int m_size, .int m_spot, .int m_sort, .int m_place, .int m_number, .int m_fault, .int m_wrongAt, .long m_word, .int m_askedOf, m_v, m_x, m_past, m_kept, .int m_acts, .int m_images, m_heir, m_then, .int m_catGets, .long m_whole, .long m_bestSum, m_come, m_comeThen, .int m_tourHoursNow, m_hour, m_partIn, m_heirIn, .int m_fitsNow, .int m_foundHour, .int m_lookLeft, .int m_firstCatNow]))] sz) (qi_ D res (fun (u : Unit) => [(h_m, .inr (11, [.int m_thrown, .int m_trouble, .int m_where, .null, m_read, m_tape, .int m_taped, .int m_size, .int m_spot, .int m_sort, .int m_place, .int m_number, .int m_fault, .int m_wrongAt, .long m_word, .int m_askedOf, m_v, m_x, m_past, m_kept, .int m_acts, .int m_images, m_heir, m_then, .int m_catGets, .long m_whole, .long m_bestSum, m_come, m_comeThen, .int m_tourHoursNow, m_hour, m_partIn, m_heirIn, .int m_fitsNow, .int m_foundHour, .int m_lookLeft, .int m_firstCatNow]))]) (va_A [(h_m, .inr (11, [.int m_thrown, .int m_trouble, .int m_where, .null, m_read, m_tape, .int m_taped, .int m_size, .int m_spot, .int m_sort, .int m_place, .int m_number, .int m_fault, .int m_wrongAt, .long m_word, .int m_askedOf, m_v, m_x, m_past, m_kept, .int m_acts, .int m_images, m_heir, m_then, .int m_catGets, .long m_whole, .long m_bestSum, m_come, m_comeThen, .int m_tourHoursNow, m_hour, m_partIn, m_heirIn, .int m_fitsNow, .int m_foundHour, .int m_lookLeft, .int m_firstCatNow]))] sz)) 0 0 (va_A [(h_m, .inr (11, [.int m_thrown, .int m_trouble, .int m_where, .null, m_read, m_tape, .int m_taped, .int m_size, .int m_spot, .int m_sort, .int m_place, .int m_number, .int m_fault, .int m_wrongAt, .long m_word, .int m_askedOf, m_v, m_x, m_past, m_kept, .int m_acts, .int m_images, m_heir, m_then, .int m_catGets, .long m_whole, .long m_bestSum, m_come, m_comeThen, .int m_tourHoursNow, m_hour, m_partIn, m_heirIn, .int m_fitsNow, .int m_foundHour, .int m_lookLeft, .int m_firstCatNow]))] sz) := by
  refine Met.ofW (cc := cX7_refusesShame) (maxL := 2) (ret := (some .int)) (by decide) rfl ?_
  intro p e s m args below meth c s₁ B hml hv
  obtain ⟨rfl, hsz, hP, hK, hD0⟩ := hv
  have hx := B.exec
  have hb := B.bytes
  have hr := B.returns
  have hts := atoms_spec (ws := (ws_ yX7_refusesShame cX7_refusesShame 2 (some .int))) B.pre
  have hts : ∀ w ∈ lw_all, w.before _ s = true := fun w h => hts w (List.mem_cons_of_mem _ h)
  have hown : s.vm.findClass RX7 = some m.cls := findClass_of_methodNamed B.named
  have hlocks := B.notSynchronized
  subst hsz
  have hD := hD0.self (sz := s.heap.size)
  generalize hAe : va_A [(h_m, .inr (11, [.int m_thrown, .int m_trouble, .int m_where, .null, m_read, m_tape, .int m_taped, .int m_size, .int m_spot, .int m_sort, .int m_place, .int m_number, .int m_fault, .int m_wrongAt, .long m_word, .int m_askedOf, m_v, m_x, m_past, m_kept, .int m_acts, .int m_images, m_heir, m_then, .int m_catGets, .long m_whole, .long m_bestSum, m_come, m_comeThen, .int m_tourHoursNow, m_hour, m_partIn, m_heirIn, .int m_fitsNow, .int m_foundHour, .int m_lookLeft, .int m_firstCatNow]))] s.heap.size = A at hD ⊢
  have hA : ∀ q : Nat, s.heap.size ≤ q → A q := fun q h => by rw [← hAe]; exact Or.inr h
  have hS : va_S A s.heap s.heap [] := va_S.rf
  have hP : va_P D clG [(h_m, .inr (11, [.int m_thrown, .int m_trouble, .int m_where, .null, m_read, m_tape, .int m_taped, .int m_size, .int m_spot, .int m_sort, .int m_place, .int m_number, .int m_fault, .int m_wrongAt, .long m_word, .int m_askedOf, m_v, m_x, m_past, m_kept, .int m_acts, .int m_images, m_heir, m_then, .int m_catGets, .long m_whole, .long m_bestSum, m_come, m_comeThen, .int m_tourHoursNow, m_hour, m_partIn, m_heirIn, .int m_fitsNow, .int m_foundHour, .int m_lookLeft, .int m_firstCatNow]))] s.heap := hP
  have hl := lv_entry ([.ref h_m, .int p0]) (n := 2) (Nat.le_of_ble_eq_true rfl)
  rw [lg_entry_eq]
  generalize (lg_sl ([.ref h_m, .int p0]) ++ List.replicate (2 - (lg_sl ([.ref h_m, .int p0])).length) Slot.unset).toArray = ls at hl ⊢
  have hl : lv_has ls 2 [(0, .ref h_m), (1, .int p0)] := hl
  unfold MX7_refusesShameN at hM
  refine lv_aload_n hx hb dX7_refusesShame_0 rfl (lv_at hl 0 rfl) ?_
  refine va_get (D := D) (ci := 11) (v := .null) (C := RX7) (T := TX7) (N := 37) hx hb hts in_X7 hown hK.1 hP 0 rfl rfl 3 (by decide) (hts _ q1375) (fun _ h9 => h9) rfl dX7_refusesShame_1 ?_
  refine lv_ifnonnullN hx hb dX7_refusesShame_4 ?_
  refine lv_iconst (v := (1 : Int32)) hx hb dX7_refusesShame_7 (by decide) ?_
  refine lv_goto (tgt := 26) hx hb dX7_refusesShame_8 (by decide) ?_
  have hM := Option.some.inj hM
  subst hM
  exact W.iret (v := (1 : Int32)) hx hb hr (fun t ht hW => ⟨⟨(1 : Int32), (), rfl, rfl, by rw [ht]; exact hP, hD⟩, hS.F ht⟩) hS.2.2 dX7_refusesShame_26
theorem krX7_refusesShameN  (res : Int32) (h : MX7_refusesShameN  = some res) : res = (1 : Int32) := by
  unfold MX7_refusesShameN at h
  repeat first | (obtain ⟨_, _, h⟩ := b_inv h) | (split at h)
  all_goals (cases h; rfl)

set_option maxHeartbeats 40000000 in
set_option maxRecDepth 100000 in
theorem ctX7_begsN (l : Launch) (D : va_G) (dA : Nat → ClassId) (sz : Nat) (h_m : Nat) (p0 : Int32) (p1 : Bool) (p2 : Bool) (p3 : Bool) (m_thrown : Int32) (m_trouble : Int32) (m_where : Int32) (m_taped : Int32) (m_size : Int32) (m_spot : Int32) (m_sort : Int32) (m_place : Int32) (m_number : Int32) (m_fault : Int32) (m_wrongAt : Int32) (m_word : Int64) (m_askedOf : Int32) (m_acts : Int32) (m_images : Int32) (m_catGets : Int32) (m_whole : Int64) (m_bestSum : Int64) (m_tourHoursNow : Int32) (m_fitsNow : Int32) (m_foundHour : Int32) (m_lookLeft : Int32) (m_firstCatNow : Int32) (m_read : Value) (m_tape : Value) (m_v : Value) (m_x : Value) (m_past : Value) (m_kept : Value) (m_heir : Value) (m_then : Value) (m_come : Value) (m_comeThen : Value) (m_hour : Value) (m_partIn : Value) (m_heirIn : Value) (res : (Int32 × Int32 × Int32 × Int32)) (hM : MX7_begsN  = some res) : Met l yX7_begs (ws_ yX7_begs cX7_begs 6 (some .int)) ({ frames := 2, cells := 0, slots := 0, locals := 42 }) (pre_ D dA [.ref h_m, .int p0, .int (b2i p1), .int (b2i p2), .int (b2i p3)] [(h_m, .inr (11, [.int m_thrown, .int m_trouble, .int m_where, .null, m_read, m_tape, .int m_taped, .int m_size, .int m_spot, .int m_sort, .int m_place, .int m_number, .int m_fault, .int m_wrongAt, .long m_word, .int m_askedOf, m_v, m_x, m_past, m_kept, .int m_acts, .int m_images, m_heir, m_then, .int m_catGets, .long m_whole, .long m_bestSum, m_come, m_comeThen, .int m_tourHoursNow, m_hour, m_partIn, m_heirIn, .int m_fitsNow, .int m_foundHour, .int m_lookLeft, .int m_firstCatNow]))] sz) (qi_ D res.1 (fun (u : Unit) => [(h_m, .inr (11, [.int res.2.1, .int res.2.2.1, .int res.2.2.2, .null, m_read, m_tape, .int m_taped, .int m_size, .int m_spot, .int m_sort, .int m_place, .int m_number, .int m_fault, .int m_wrongAt, .long m_word, .int m_askedOf, m_v, m_x, m_past, m_kept, .int m_acts, .int m_images, m_heir, m_then, .int m_catGets, .long m_whole, .long m_bestSum, m_come, m_comeThen, .int m_tourHoursNow, m_hour, m_partIn, m_heirIn, .int m_fitsNow, .int m_foundHour, .int m_lookLeft, .int m_firstCatNow]))]) (va_A [(h_m, .inr (11, [.int m_thrown, .int m_trouble, .int m_where, .null, m_read, m_tape, .int m_taped, .int m_size, .int m_spot, .int m_sort, .int m_place, .int m_number, .int m_fault, .int m_wrongAt, .long m_word, .int m_askedOf, m_v, m_x, m_past, m_kept, .int m_acts, .int m_images, m_heir, m_then, .int m_catGets, .long m_whole, .long m_bestSum, m_come, m_comeThen, .int m_tourHoursNow, m_hour, m_partIn, m_heirIn, .int m_fitsNow, .int m_foundHour, .int m_lookLeft, .int m_firstCatNow]))] sz)) 0 0 (va_A [(h_m, .inr (11, [.int m_thrown, .int m_trouble, .int m_where, .null, m_read, m_tape, .int m_taped, .int m_size, .int m_spot, .int m_sort, .int m_place, .int m_number, .int m_fault, .int m_wrongAt, .long m_word, .int m_askedOf, m_v, m_x, m_past, m_kept, .int m_acts, .int m_images, m_heir, m_then, .int m_catGets, .long m_whole, .long m_bestSum, m_come, m_comeThen, .int m_tourHoursNow, m_hour, m_partIn, m_heirIn, .int m_fitsNow, .int m_foundHour, .int m_lookLeft, .int m_firstCatNow]))] sz) := by
  refine Met.ofW (cc := cX7_begs) (maxL := 6) (ret := (some .int)) (by decide) rfl ?_
  intro p e s m args below meth c s₁ B hml hv
  obtain ⟨rfl, hsz, hP, hK, hD0⟩ := hv
  have hx := B.exec
  have hb := B.bytes
  have hr := B.returns
  have hts := atoms_spec (ws := (ws_ yX7_begs cX7_begs 6 (some .int))) B.pre
  have hts : ∀ w ∈ lw_all, w.before _ s = true := fun w h => hts w (List.mem_cons_of_mem _ h)
  have hown : s.vm.findClass RX7 = some m.cls := findClass_of_methodNamed B.named
  have hlocks := B.notSynchronized
  subst hsz
  have hD := hD0.self (sz := s.heap.size)
  generalize hAe : va_A [(h_m, .inr (11, [.int m_thrown, .int m_trouble, .int m_where, .null, m_read, m_tape, .int m_taped, .int m_size, .int m_spot, .int m_sort, .int m_place, .int m_number, .int m_fault, .int m_wrongAt, .long m_word, .int m_askedOf, m_v, m_x, m_past, m_kept, .int m_acts, .int m_images, m_heir, m_then, .int m_catGets, .long m_whole, .long m_bestSum, m_come, m_comeThen, .int m_tourHoursNow, m_hour, m_partIn, m_heirIn, .int m_fitsNow, .int m_foundHour, .int m_lookLeft, .int m_firstCatNow]))] s.heap.size = A at hD ⊢
  have hA : ∀ q : Nat, s.heap.size ≤ q → A q := fun q h => by rw [← hAe]; exact Or.inr h
  have hS : va_S A s.heap s.heap [] := va_S.rf
  have hP : va_P D clG [(h_m, .inr (11, [.int m_thrown, .int m_trouble, .int m_where, .null, m_read, m_tape, .int m_taped, .int m_size, .int m_spot, .int m_sort, .int m_place, .int m_number, .int m_fault, .int m_wrongAt, .long m_word, .int m_askedOf, m_v, m_x, m_past, m_kept, .int m_acts, .int m_images, m_heir, m_then, .int m_catGets, .long m_whole, .long m_bestSum, m_come, m_comeThen, .int m_tourHoursNow, m_hour, m_partIn, m_heirIn, .int m_fitsNow, .int m_foundHour, .int m_lookLeft, .int m_firstCatNow]))] s.heap := hP
  have hl := lv_entry ([.ref h_m, .int p0, .int (b2i p1), .int (b2i p2), .int (b2i p3)]) (n := 6) (Nat.le_of_ble_eq_true rfl)
  rw [lg_entry_eq]
  generalize (lg_sl ([.ref h_m, .int p0, .int (b2i p1), .int (b2i p2), .int (b2i p3)]) ++ List.replicate (6 - (lg_sl ([.ref h_m, .int p0, .int (b2i p1), .int (b2i p2), .int (b2i p3)])).length) Slot.unset).toArray = ls at hl ⊢
  have hl : lv_has ls 6 [(0, .ref h_m), (1, .int p0), (2, .int (b2i p1)), (3, .int (b2i p2)), (4, .int (b2i p3))] := hl
  unfold MX7_begsN at hM
  refine lv_aload_n hx hb dX7_begs_0 rfl (lv_at hl 0 rfl) ?_
  refine lv_iconst (v := (0 : Int32)) hx hb dX7_begs_1 (by decide) ?_
  refine va_put (D := D) (ci := 11) (v := .int (0 : Int32)) (ty := .int) (C := RX7) (T := TX7) (N := 37) hx hb hts in_X7 tyX7 tyX7_ok nmX7 hown hK.1 hP hD hS 0 rfl rfl 0 (by decide) (hts _ q1372) (fun _ h9 => h9) rfl (by decide +kernel) rfl rfl (Nat.le_of_ble_eq_true rfl) dX7_begs_2 (fun H locs hP hD hS => ?_)
  have hP : va_P D clG [(h_m, .inr (11, [.int (0 : Int32), .int m_trouble, .int m_where, .null, m_read, m_tape, .int m_taped, .int m_size, .int m_spot, .int m_sort, .int m_place, .int m_number, .int m_fault, .int m_wrongAt, .long m_word, .int m_askedOf, m_v, m_x, m_past, m_kept, .int m_acts, .int m_images, m_heir, m_then, .int m_catGets, .long m_whole, .long m_bestSum, m_come, m_comeThen, .int m_tourHoursNow, m_hour, m_partIn, m_heirIn, .int m_fitsNow, .int m_foundHour, .int m_lookLeft, .int m_firstCatNow]))] H := hP
  have hD : va_D A [(h_m, .inr (11, [.int (0 : Int32), .int m_trouble, .int m_where, .null, m_read, m_tape, .int m_taped, .int m_size, .int m_spot, .int m_sort, .int m_place, .int m_number, .int m_fault, .int m_wrongAt, .long m_word, .int m_askedOf, m_v, m_x, m_past, m_kept, .int m_acts, .int m_images, m_heir, m_then, .int m_catGets, .long m_whole, .long m_bestSum, m_come, m_comeThen, .int m_tourHoursNow, m_hour, m_partIn, m_heirIn, .int m_fitsNow, .int m_foundHour, .int m_lookLeft, .int m_firstCatNow]))] := hD
  refine lv_aload_n hx hb dX7_begs_5 rfl (lv_at hl 0 rfl) ?_
  refine lv_iload_n hx hb dX7_begs_6 rfl (lv_at hl 1 rfl) ?_
  obtain ⟨r1, er1, hM⟩ := b_inv hM
  refine k_i0 [0] (va_runV (As := [.int p0]) (rest := []) ⟨hx, hb, hml, hown, hts⟩ (ctX7_refusesShameN l D dA _ h_m p0 (0 : Int32) m_trouble m_where m_taped m_size m_spot m_sort m_place m_number m_fault m_wrongAt m_word m_askedOf m_acts m_images m_catGets m_whole m_bestSum m_tourHoursNow m_fitsNow m_foundHour m_lookLeft m_firstCatNow (m_read) (m_tape) (m_v) (m_x) (m_past) (m_kept) (m_heir) (m_then) (m_come) (m_comeThen) (m_hour) (m_partIn) (m_heirIn) r1 er1) (cwV 1 hts (lw_V q1985 q1987 qs102 q122 q1988) rfl rfl rfl (by decide +kernel) ⟨Nat.le_of_ble_eq_true rfl, Nat.le_of_ble_eq_true rfl⟩) (pre_V (hP.sub [0] rfl) hK (hD.sub [0] (by decide) rfl) (ci := 11) (q0 := 0) rfl rfl) rfl rfl hl.1 rfl (lv_room (Nat.le_of_ble_eq_true rfl)) dX7_begs_7 ⟨Nat.le_of_ble_eq_true rfl, Nat.le_of_ble_eq_true rfl⟩) hP hD hS hA rfl (fun _ => rfl) (fun u2 H locs hP hD hS => ?_)
  have hP : va_P D clG [(h_m, .inr (11, [.int (0 : Int32), .int m_trouble, .int m_where, .null, m_read, m_tape, .int m_taped, .int m_size, .int m_spot, .int m_sort, .int m_place, .int m_number, .int m_fault, .int m_wrongAt, .long m_word, .int m_askedOf, m_v, m_x, m_past, m_kept, .int m_acts, .int m_images, m_heir, m_then, .int m_catGets, .long m_whole, .long m_bestSum, m_come, m_comeThen, .int m_tourHoursNow, m_hour, m_partIn, m_heirIn, .int m_fitsNow, .int m_foundHour, .int m_lookLeft, .int m_firstCatNow]))] H := hP
  have hD : va_D A [(h_m, .inr (11, [.int (0 : Int32), .int m_trouble, .int m_where, .null, m_read, m_tape, .int m_taped, .int m_size, .int m_spot, .int m_sort, .int m_place, .int m_number, .int m_fault, .int m_wrongAt, .long m_word, .int m_askedOf, m_v, m_x, m_past, m_kept, .int m_acts, .int m_images, m_heir, m_then, .int m_catGets, .long m_whole, .long m_bestSum, m_come, m_comeThen, .int m_tourHoursNow, m_hour, m_partIn, m_heirIn, .int m_fitsNow, .int m_foundHour, .int m_lookLeft, .int m_firstCatNow]))] := hD
  have kr1 := krX7_refusesShameN _ er1
  refine lv_toi (v := (1 : Int32)) (by rw [kr1]) ?_
  refine lv_istore (lv' := [(5, .int (1 : Int32)), (0, .ref h_m), (1, .int p0), (2, .int (b2i p1)), (3, .int (b2i p2)), (4, .int (b2i p3))]) hx hb dX7_begs_10 hl (by decide) rfl (fun ls hl => ?_)
  refine lv_iload hx hb dX7_begs_12 (lv_at hl 0 rfl) ?_
  refine lv_if_le (tgt := 26) hx hb dX7_begs_14 (by decide) (fun c3 => absurd c3 (by decide)) (fun _ => ?_)
  refine lv_aload_n hx hb dX7_begs_17 rfl (lv_at hl 1 rfl) ?_
  refine lv_iload hx hb dX7_begs_18 (lv_at hl 0 rfl) ?_
  obtain ⟨r4, er4, hM⟩ := b_inv hM
  refine k_i0 [0] (va_runV (As := [.int (1 : Int32)]) (rest := []) ⟨hx, hb, hml, hown, hts⟩ (ctX7_lost l D dA _ h_m (1 : Int32) (0 : Int32) m_trouble m_where m_taped m_size m_spot m_sort m_place m_number m_fault m_wrongAt m_word m_askedOf m_acts m_images m_catGets m_whole m_bestSum m_tourHoursNow m_fitsNow m_foundHour m_lookLeft m_firstCatNow (.null) (m_read) (m_tape) (m_v) (m_x) (m_past) (m_kept) (m_heir) (m_then) (m_come) (m_comeThen) (m_hour) (m_partIn) (m_heirIn) r4 er4) (cwV 1 hts (lw_V q1989 q1991 qs103 q122 q1992) rfl rfl rfl (by decide +kernel) ⟨Nat.le_of_ble_eq_true rfl, Nat.le_of_ble_eq_true rfl⟩) (pre_V (hP.sub [0] rfl) hK (hD.sub [0] (by decide) rfl) (ci := 11) (q0 := 0) rfl rfl) rfl rfl hl.1 rfl (lv_room (Nat.le_of_ble_eq_true rfl)) dX7_begs_20 ⟨Nat.le_of_ble_eq_true rfl, Nat.le_of_ble_eq_true rfl⟩) hP hD hS hA rfl (fun _ => rfl) (fun u5 H locs hP hD hS => ?_)
  have hP : va_P D clG [(h_m, .inr (11, [.int (0 : Int32), .int r4.2.1, .int r4.2.2, .null, m_read, m_tape, .int m_taped, .int m_size, .int m_spot, .int m_sort, .int m_place, .int m_number, .int m_fault, .int m_wrongAt, .long m_word, .int m_askedOf, m_v, m_x, m_past, m_kept, .int m_acts, .int m_images, m_heir, m_then, .int m_catGets, .long m_whole, .long m_bestSum, m_come, m_comeThen, .int m_tourHoursNow, m_hour, m_partIn, m_heirIn, .int m_fitsNow, .int m_foundHour, .int m_lookLeft, .int m_firstCatNow]))] H := hP
  have hD : va_D A [(h_m, .inr (11, [.int (0 : Int32), .int r4.2.1, .int r4.2.2, .null, m_read, m_tape, .int m_taped, .int m_size, .int m_spot, .int m_sort, .int m_place, .int m_number, .int m_fault, .int m_wrongAt, .long m_word, .int m_askedOf, m_v, m_x, m_past, m_kept, .int m_acts, .int m_images, m_heir, m_then, .int m_catGets, .long m_whole, .long m_bestSum, m_come, m_comeThen, .int m_tourHoursNow, m_hour, m_partIn, m_heirIn, .int m_fitsNow, .int m_foundHour, .int m_lookLeft, .int m_firstCatNow]))] := hD
  refine lv_goto (tgt := 49) hx hb dX7_begs_23 (by decide) ?_
  have hM := Option.some.inj hM
  subst hM
  exact W.iret (v := r4.1) hx hb hr (fun t ht hW => ⟨⟨r4.1, (), rfl, rfl, by rw [ht]; exact hP, hD⟩, hS.F ht⟩) hS.2.2 dX7_begs_49

set_option maxHeartbeats 40000000 in
set_option maxRecDepth 100000 in
theorem ctX1_restsN (l : Launch) (D : va_G) (dA : Nat → ClassId) (sz : Nat) (h_o : Nat) (p0 : Int32) (o_taped : Int32) (o_trouble : Int32) (o_fault : Int32) (o_where : Int32) (o_imageMany : Int32) (o_undoMany : Int32) (o_firstRest : Int32) (o_catAt : Int32) (o_tape : Value) (o_scanner : Value) (o_town : Value) (o_was : Value) (o_trial : Value) (o_night : Value) (o_plans : Value) (o_undone : Value) (o_images : Value) (o_often : Value) (o_next : Value) (res : (Int32 × Int32 × Int32)) (hM : MX1_restsN p0 = some res) : Met l yX1_rests (ws_ yX1_rests cX1_rests 3 (some .int)) ({ frames := 1, cells := 0, slots := 0, locals := 22 }) (pre_ D dA [.ref h_o, .int p0] [(h_o, .inr (0, [o_tape, .int o_taped, o_scanner, .null, .int o_trouble, .int o_fault, .int o_where, .int o_imageMany, .int o_undoMany, o_town, o_was, o_trial, o_night, o_plans, o_undone, o_images, o_often, .int o_firstRest, o_next, .int o_catAt]))] sz) (qi_ D res.1 (fun (u : Unit) => [(h_o, .inr (0, [o_tape, .int o_taped, o_scanner, .null, .int res.2.1, .int o_fault, .int res.2.2, .int o_imageMany, .int o_undoMany, o_town, o_was, o_trial, o_night, o_plans, o_undone, o_images, o_often, .int o_firstRest, o_next, .int o_catAt]))]) (va_A [(h_o, .inr (0, [o_tape, .int o_taped, o_scanner, .null, .int o_trouble, .int o_fault, .int o_where, .int o_imageMany, .int o_undoMany, o_town, o_was, o_trial, o_night, o_plans, o_undone, o_images, o_often, .int o_firstRest, o_next, .int o_catAt]))] sz)) 0 0 (va_A [(h_o, .inr (0, [o_tape, .int o_taped, o_scanner, .null, .int o_trouble, .int o_fault, .int o_where, .int o_imageMany, .int o_undoMany, o_town, o_was, o_trial, o_night, o_plans, o_undone, o_images, o_often, .int o_firstRest, o_next, .int o_catAt]))] sz) := by
  refine Met.ofW (cc := cX1_rests) (maxL := 3) (ret := (some .int)) (by decide) rfl ?_
  intro p e s m args below meth c s₁ B hml hv
  obtain ⟨rfl, hsz, hP, hK, hD0⟩ := hv
  have hx := B.exec
  have hb := B.bytes
  have hr := B.returns
  have hts := atoms_spec (ws := (ws_ yX1_rests cX1_rests 3 (some .int))) B.pre
  have hts : ∀ w ∈ lw_all, w.before _ s = true := fun w h => hts w (List.mem_cons_of_mem _ h)
  have hown : s.vm.findClass RX1 = some m.cls := findClass_of_methodNamed B.named
  have hlocks := B.notSynchronized
  subst hsz
  have hD := hD0.self (sz := s.heap.size)
  generalize hAe : va_A [(h_o, .inr (0, [o_tape, .int o_taped, o_scanner, .null, .int o_trouble, .int o_fault, .int o_where, .int o_imageMany, .int o_undoMany, o_town, o_was, o_trial, o_night, o_plans, o_undone, o_images, o_often, .int o_firstRest, o_next, .int o_catAt]))] s.heap.size = A at hD ⊢
  have hA : ∀ q : Nat, s.heap.size ≤ q → A q := fun q h => by rw [← hAe]; exact Or.inr h
  have hS : va_S A s.heap s.heap [] := va_S.rf
  have hP : va_P D clG [(h_o, .inr (0, [o_tape, .int o_taped, o_scanner, .null, .int o_trouble, .int o_fault, .int o_where, .int o_imageMany, .int o_undoMany, o_town, o_was, o_trial, o_night, o_plans, o_undone, o_images, o_often, .int o_firstRest, o_next, .int o_catAt]))] s.heap := hP
  have hl := lv_entry ([.ref h_o, .int p0]) (n := 3) (Nat.le_of_ble_eq_true rfl)
  rw [lg_entry_eq]
  generalize (lg_sl ([.ref h_o, .int p0]) ++ List.replicate (3 - (lg_sl ([.ref h_o, .int p0])).length) Slot.unset).toArray = ls at hl ⊢
  have hl : lv_has ls 3 [(0, .ref h_o), (1, .int p0)] := hl
  unfold MX1_restsN at hM
  refine lv_aload_n hx hb dX1_rests_0 rfl (lv_at hl 0 rfl) ?_
  obtain ⟨r1, er1, hM⟩ := b_inv hM
  refine k_v0 [0] (va_runV (As := []) (rest := []) ⟨hx, hb, hml, hown, hts⟩ (ctX1_anew l D dA _ h_o o_taped o_trouble o_fault o_where o_imageMany o_undoMany o_firstRest o_catAt (o_tape) (o_scanner) (.null) (o_town) (o_was) (o_trial) (o_night) (o_plans) (o_undone) (o_images) (o_often) (o_next) r1 er1) (cwV 0 hts (lw_V q432 q434 qs2 q113 q435) rfl rfl rfl (by decide +kernel) ⟨Nat.le_of_ble_eq_true rfl, Nat.le_of_ble_eq_true rfl⟩) (pre_V (hP.sub [0] rfl) hK (hD.sub [0] (by decide) rfl) (ci := 0) (q0 := 0) rfl rfl) rfl rfl hl.1 rfl (lv_room (Nat.le_of_ble_eq_true rfl)) dX1_rests_1 ⟨Nat.le_of_ble_eq_true rfl, Nat.le_of_ble_eq_true rfl⟩) hP hD hS hA rfl (fun _ => rfl) (fun u2 H locs hP hD hS => ?_)
  have hP : va_P D clG [(h_o, .inr (0, [o_tape, .int o_taped, o_scanner, .null, .int r1.1, .int o_fault, .int r1.2, .int o_imageMany, .int o_undoMany, o_town, o_was, o_trial, o_night, o_plans, o_undone, o_images, o_often, .int o_firstRest, o_next, .int o_catAt]))] H := hP
  have hD : va_D A [(h_o, .inr (0, [o_tape, .int o_taped, o_scanner, .null, .int r1.1, .int o_fault, .int r1.2, .int o_imageMany, .int o_undoMany, o_town, o_was, o_trial, o_night, o_plans, o_undone, o_images, o_often, .int o_firstRest, o_next, .int o_catAt]))] := hD
  refine lv_aload_n hx hb dX1_rests_4 rfl (lv_at hl 0 rfl) ?_
  refine lv_aload_n hx hb dX1_rests_5 rfl (lv_at hl 0 rfl) ?_
  refine va_get (D := D) (ci := 0) (v := .null) (C := RX1) (T := TX1) (N := 20) hx hb hts in_X1 hown hK.1 hP 0 rfl rfl 3 (by decide) (hts _ q361) (fun _ h9 => h9) rfl dX1_rests_6 ?_
  refine lv_ifnullN (tgt := 16) hx hb dX1_rests_9 (by decide) ?_
  refine lv_iconst (v := (0 : Int32)) hx hb dX1_rests_16 (by decide) ?_
  refine lv_iload_n hx hb dX1_rests_17 rfl (lv_at hl 1 rfl) ?_
  refine lv_iconst (v := (0 : Int32)) hx hb dX1_rests_18 (by decide) ?_
  refine lv_bipush (v := (9 : Int32)) hx hb dX1_rests_19 (by decide) ?_
  obtain ⟨r3, er3, hM⟩ := b_inv hM
  refine k_i0 [] (va_runS (As := [.int p0, .int (0 : Int32), .int (9 : Int32)]) (rest := [.int (0 : Int32), .ref h_o]) ⟨hx, hb, hml, hown, hts⟩ (ctX1_in l D dA _ p0 (0 : Int32) (9 : Int32) r3 er3) (va_cwS 3 hts (lw_S q436 q437 q113 q438) rfl rfl rfl (by decide +kernel) ⟨Nat.le_of_ble_eq_true rfl, Nat.le_of_ble_eq_true rfl⟩) (pre_S (hP.sub [] rfl) hK (hD.sub [] (by decide) rfl)) rfl rfl hl.1 rfl (lv_room (Nat.le_of_ble_eq_true rfl)) dX1_rests_21 ⟨Nat.le_of_ble_eq_true rfl, Nat.le_of_ble_eq_true rfl⟩) hP hD hS hA rfl (fun _ => rfl) (fun u4 H locs hP hD hS => ?_)
  have hP : va_P D clG [(h_o, .inr (0, [o_tape, .int o_taped, o_scanner, .null, .int r1.1, .int o_fault, .int r1.2, .int o_imageMany, .int o_undoMany, o_town, o_was, o_trial, o_night, o_plans, o_undone, o_images, o_often, .int o_firstRest, o_next, .int o_catAt]))] H := hP
  have hD : va_D A [(h_o, .inr (0, [o_tape, .int o_taped, o_scanner, .null, .int r1.1, .int o_fault, .int r1.2, .int o_imageMany, .int o_undoMany, o_town, o_was, o_trial, o_night, o_plans, o_undone, o_images, o_often, .int o_firstRest, o_next, .int o_catAt]))] := hD
  obtain ⟨r5, er5, hM⟩ := b_inv hM
  refine k_i0 [0] (va_runV (As := [.int (0 : Int32), .int (b2i r3)]) (rest := []) ⟨hx, hb, hml, hown, hts⟩ (ctX1_numberWhy l D dA _ h_o false r3 o_taped r1.1 o_fault r1.2 o_imageMany o_undoMany o_firstRest o_catAt (o_tape) (o_scanner) (.null) (o_town) (o_was) (o_trial) (o_night) (o_plans) (o_undone) (o_images) (o_often) (o_next) r5 er5) (cwV 2 hts (lw_V q1022 q1024 qs31 q113 q1025) rfl rfl rfl (by decide +kernel) ⟨Nat.le_of_ble_eq_true rfl, Nat.le_of_ble_eq_true rfl⟩) (pre_V (hP.sub [0] rfl) hK (hD.sub [0] (by decide) rfl) (ci := 0) (q0 := 0) rfl rfl) rfl rfl hl.1 rfl (lv_room (Nat.le_of_ble_eq_true rfl)) dX1_rests_24 ⟨Nat.le_of_ble_eq_true rfl, Nat.le_of_ble_eq_true rfl⟩) hP hD hS hA rfl (fun _ => rfl) (fun u6 H locs hP hD hS => ?_)
  have hP : va_P D clG [(h_o, .inr (0, [o_tape, .int o_taped, o_scanner, .null, .int r1.1, .int o_fault, .int r1.2, .int o_imageMany, .int o_undoMany, o_town, o_was, o_trial, o_night, o_plans, o_undone, o_images, o_often, .int o_firstRest, o_next, .int o_catAt]))] H := hP
  have hD : va_D A [(h_o, .inr (0, [o_tape, .int o_taped, o_scanner, .null, .int r1.1, .int o_fault, .int r1.2, .int o_imageMany, .int o_undoMany, o_town, o_was, o_trial, o_night, o_plans, o_undone, o_images, o_often, .int o_firstRest, o_next, .int o_catAt]))] := hD
  have kr5 := knw er5
  refine lv_toi (v := (1 : Int32)) (by rw [kr5]) ?_
  refine lv_istore_n (lv' := [(2, .int (1 : Int32)), (0, .ref h_o), (1, .int p0)]) hx hb dX1_rests_27 rfl hl (by decide) rfl (fun ls hl => ?_)
  refine lv_iload_n hx hb dX1_rests_28 rfl (lv_at hl 0 rfl) ?_
  refine lv_if_eq (tgt := 40) hx hb dX1_rests_29 (by decide) (fun c7 => absurd c7 (by decide)) (fun _ => ?_)
  refine lv_aload_n hx hb dX1_rests_32 rfl (lv_at hl 1 rfl) ?_
  refine lv_iload_n hx hb dX1_rests_33 rfl (lv_at hl 0 rfl) ?_
  obtain ⟨r8, er8, hM⟩ := b_inv hM
  refine k_i0 [0] (va_runV (As := [.int (1 : Int32)]) (rest := []) ⟨hx, hb, hml, hown, hts⟩ (ctX1_no l D dA _ h_o (1 : Int32) o_taped r1.1 o_fault r1.2 o_imageMany o_undoMany o_firstRest o_catAt (o_tape) (o_scanner) (.null) (o_town) (o_was) (o_trial) (o_night) (o_plans) (o_undone) (o_images) (o_often) (o_next) r8 er8) (cwV 1 hts (lw_V q439 q441 qs3 q113 q442) rfl rfl rfl (by decide +kernel) ⟨Nat.le_of_ble_eq_true rfl, Nat.le_of_ble_eq_true rfl⟩) (pre_V (hP.sub [0] rfl) hK (hD.sub [0] (by decide) rfl) (ci := 0) (q0 := 0) rfl rfl) rfl rfl hl.1 rfl (lv_room (Nat.le_of_ble_eq_true rfl)) dX1_rests_34 ⟨Nat.le_of_ble_eq_true rfl, Nat.le_of_ble_eq_true rfl⟩) hP hD hS hA rfl (fun _ => rfl) (fun u9 H locs hP hD hS => ?_)
  have hP : va_P D clG [(h_o, .inr (0, [o_tape, .int o_taped, o_scanner, .null, .int r8.2, .int o_fault, .int r1.2, .int o_imageMany, .int o_undoMany, o_town, o_was, o_trial, o_night, o_plans, o_undone, o_images, o_often, .int o_firstRest, o_next, .int o_catAt]))] H := hP
  have hD : va_D A [(h_o, .inr (0, [o_tape, .int o_taped, o_scanner, .null, .int r8.2, .int o_fault, .int r1.2, .int o_imageMany, .int o_undoMany, o_town, o_was, o_trial, o_night, o_plans, o_undone, o_images, o_often, .int o_firstRest, o_next, .int o_catAt]))] := hD
  refine lv_goto (tgt := 45) hx hb dX1_rests_37 (by decide) ?_
  have hM := Option.some.inj hM
  subst hM
  exact W.iret (v := r8.1) hx hb hr (fun t ht hW => ⟨⟨r8.1, (), rfl, rfl, by rw [ht]; exact hP, hD⟩, hS.F ht⟩) hS.2.2 dX1_rests_45

set_option maxHeartbeats 40000000 in
set_option maxRecDepth 100000 in
theorem ctX7_restsN (l : Launch) (D : va_G) (dA : Nat → ClassId) (sz : Nat) (h_m : Nat) (p0 : Int32) (m_thrown : Int32) (m_trouble : Int32) (m_where : Int32) (m_taped : Int32) (m_size : Int32) (m_spot : Int32) (m_sort : Int32) (m_place : Int32) (m_number : Int32) (m_fault : Int32) (m_wrongAt : Int32) (m_word : Int64) (m_askedOf : Int32) (m_acts : Int32) (m_images : Int32) (m_catGets : Int32) (m_whole : Int64) (m_bestSum : Int64) (m_tourHoursNow : Int32) (m_fitsNow : Int32) (m_foundHour : Int32) (m_lookLeft : Int32) (m_firstCatNow : Int32) (m_read : Value) (m_tape : Value) (m_v : Value) (m_x : Value) (m_past : Value) (m_kept : Value) (m_heir : Value) (m_then : Value) (m_come : Value) (m_comeThen : Value) (m_hour : Value) (m_partIn : Value) (m_heirIn : Value) (res : (Int32 × Int32 × Int32 × Int32)) (hM : MX7_restsN  = some res) : Met l yX7_rests (ws_ yX7_rests cX7_rests 5 (some .int)) ({ frames := 1, cells := 0, slots := 0, locals := 21 }) (pre_ D dA [.ref h_m, .int p0] [(h_m, .inr (11, [.int m_thrown, .int m_trouble, .int m_where, .null, m_read, m_tape, .int m_taped, .int m_size, .int m_spot, .int m_sort, .int m_place, .int m_number, .int m_fault, .int m_wrongAt, .long m_word, .int m_askedOf, m_v, m_x, m_past, m_kept, .int m_acts, .int m_images, m_heir, m_then, .int m_catGets, .long m_whole, .long m_bestSum, m_come, m_comeThen, .int m_tourHoursNow, m_hour, m_partIn, m_heirIn, .int m_fitsNow, .int m_foundHour, .int m_lookLeft, .int m_firstCatNow]))] sz) (qi_ D res.1 (fun (u : Unit) => [(h_m, .inr (11, [.int res.2.1, .int res.2.2.1, .int res.2.2.2, .null, m_read, m_tape, .int m_taped, .int m_size, .int m_spot, .int m_sort, .int m_place, .int m_number, .int m_fault, .int m_wrongAt, .long m_word, .int m_askedOf, m_v, m_x, m_past, m_kept, .int m_acts, .int m_images, m_heir, m_then, .int m_catGets, .long m_whole, .long m_bestSum, m_come, m_comeThen, .int m_tourHoursNow, m_hour, m_partIn, m_heirIn, .int m_fitsNow, .int m_foundHour, .int m_lookLeft, .int m_firstCatNow]))]) (va_A [(h_m, .inr (11, [.int m_thrown, .int m_trouble, .int m_where, .null, m_read, m_tape, .int m_taped, .int m_size, .int m_spot, .int m_sort, .int m_place, .int m_number, .int m_fault, .int m_wrongAt, .long m_word, .int m_askedOf, m_v, m_x, m_past, m_kept, .int m_acts, .int m_images, m_heir, m_then, .int m_catGets, .long m_whole, .long m_bestSum, m_come, m_comeThen, .int m_tourHoursNow, m_hour, m_partIn, m_heirIn, .int m_fitsNow, .int m_foundHour, .int m_lookLeft, .int m_firstCatNow]))] sz)) 0 0 (va_A [(h_m, .inr (11, [.int m_thrown, .int m_trouble, .int m_where, .null, m_read, m_tape, .int m_taped, .int m_size, .int m_spot, .int m_sort, .int m_place, .int m_number, .int m_fault, .int m_wrongAt, .long m_word, .int m_askedOf, m_v, m_x, m_past, m_kept, .int m_acts, .int m_images, m_heir, m_then, .int m_catGets, .long m_whole, .long m_bestSum, m_come, m_comeThen, .int m_tourHoursNow, m_hour, m_partIn, m_heirIn, .int m_fitsNow, .int m_foundHour, .int m_lookLeft, .int m_firstCatNow]))] sz) := by
  refine Met.ofW (cc := cX7_rests) (maxL := 5) (ret := (some .int)) (by decide) rfl ?_
  intro p e s m args below meth c s₁ B hml hv
  obtain ⟨rfl, hsz, hP, hK, hD0⟩ := hv
  have hx := B.exec
  have hb := B.bytes
  have hr := B.returns
  have hts := atoms_spec (ws := (ws_ yX7_rests cX7_rests 5 (some .int))) B.pre
  have hts : ∀ w ∈ lw_all, w.before _ s = true := fun w h => hts w (List.mem_cons_of_mem _ h)
  have hown : s.vm.findClass RX7 = some m.cls := findClass_of_methodNamed B.named
  have hlocks := B.notSynchronized
  subst hsz
  have hD := hD0.self (sz := s.heap.size)
  generalize hAe : va_A [(h_m, .inr (11, [.int m_thrown, .int m_trouble, .int m_where, .null, m_read, m_tape, .int m_taped, .int m_size, .int m_spot, .int m_sort, .int m_place, .int m_number, .int m_fault, .int m_wrongAt, .long m_word, .int m_askedOf, m_v, m_x, m_past, m_kept, .int m_acts, .int m_images, m_heir, m_then, .int m_catGets, .long m_whole, .long m_bestSum, m_come, m_comeThen, .int m_tourHoursNow, m_hour, m_partIn, m_heirIn, .int m_fitsNow, .int m_foundHour, .int m_lookLeft, .int m_firstCatNow]))] s.heap.size = A at hD ⊢
  have hA : ∀ q : Nat, s.heap.size ≤ q → A q := fun q h => by rw [← hAe]; exact Or.inr h
  have hS : va_S A s.heap s.heap [] := va_S.rf
  have hP : va_P D clG [(h_m, .inr (11, [.int m_thrown, .int m_trouble, .int m_where, .null, m_read, m_tape, .int m_taped, .int m_size, .int m_spot, .int m_sort, .int m_place, .int m_number, .int m_fault, .int m_wrongAt, .long m_word, .int m_askedOf, m_v, m_x, m_past, m_kept, .int m_acts, .int m_images, m_heir, m_then, .int m_catGets, .long m_whole, .long m_bestSum, m_come, m_comeThen, .int m_tourHoursNow, m_hour, m_partIn, m_heirIn, .int m_fitsNow, .int m_foundHour, .int m_lookLeft, .int m_firstCatNow]))] s.heap := hP
  have hl := lv_entry ([.ref h_m, .int p0]) (n := 5) (Nat.le_of_ble_eq_true rfl)
  rw [lg_entry_eq]
  generalize (lg_sl ([.ref h_m, .int p0]) ++ List.replicate (5 - (lg_sl ([.ref h_m, .int p0])).length) Slot.unset).toArray = ls at hl ⊢
  have hl : lv_has ls 5 [(0, .ref h_m), (1, .int p0)] := hl
  unfold MX7_restsN at hM
  refine lv_aload_n hx hb dX7_rests_0 rfl (lv_at hl 0 rfl) ?_
  refine lv_iconst (v := (0 : Int32)) hx hb dX7_rests_1 (by decide) ?_
  refine va_put (D := D) (ci := 11) (v := .int (0 : Int32)) (ty := .int) (C := RX7) (T := TX7) (N := 37) hx hb hts in_X7 tyX7 tyX7_ok nmX7 hown hK.1 hP hD hS 0 rfl rfl 0 (by decide) (hts _ q1372) (fun _ h9 => h9) rfl (by decide +kernel) rfl rfl (Nat.le_of_ble_eq_true rfl) dX7_rests_2 (fun H locs hP hD hS => ?_)
  have hP : va_P D clG [(h_m, .inr (11, [.int (0 : Int32), .int m_trouble, .int m_where, .null, m_read, m_tape, .int m_taped, .int m_size, .int m_spot, .int m_sort, .int m_place, .int m_number, .int m_fault, .int m_wrongAt, .long m_word, .int m_askedOf, m_v, m_x, m_past, m_kept, .int m_acts, .int m_images, m_heir, m_then, .int m_catGets, .long m_whole, .long m_bestSum, m_come, m_comeThen, .int m_tourHoursNow, m_hour, m_partIn, m_heirIn, .int m_fitsNow, .int m_foundHour, .int m_lookLeft, .int m_firstCatNow]))] H := hP
  have hD : va_D A [(h_m, .inr (11, [.int (0 : Int32), .int m_trouble, .int m_where, .null, m_read, m_tape, .int m_taped, .int m_size, .int m_spot, .int m_sort, .int m_place, .int m_number, .int m_fault, .int m_wrongAt, .long m_word, .int m_askedOf, m_v, m_x, m_past, m_kept, .int m_acts, .int m_images, m_heir, m_then, .int m_catGets, .long m_whole, .long m_bestSum, m_come, m_comeThen, .int m_tourHoursNow, m_hour, m_partIn, m_heirIn, .int m_fitsNow, .int m_foundHour, .int m_lookLeft, .int m_firstCatNow]))] := hD
  refine lv_aload_n hx hb dX7_rests_5 rfl (lv_at hl 0 rfl) ?_
  refine lv_iload_n hx hb dX7_rests_6 rfl (lv_at hl 1 rfl) ?_
  obtain ⟨r1, er1, hM⟩ := b_inv hM
  refine k_i0 [0] (va_runV (As := [.int p0]) (rest := []) ⟨hx, hb, hml, hown, hts⟩ (ctX7_refusesShameN l D dA _ h_m p0 (0 : Int32) m_trouble m_where m_taped m_size m_spot m_sort m_place m_number m_fault m_wrongAt m_word m_askedOf m_acts m_images m_catGets m_whole m_bestSum m_tourHoursNow m_fitsNow m_foundHour m_lookLeft m_firstCatNow (m_read) (m_tape) (m_v) (m_x) (m_past) (m_kept) (m_heir) (m_then) (m_come) (m_comeThen) (m_hour) (m_partIn) (m_heirIn) r1 er1) (cwV 1 hts (lw_V q1985 q1987 qs102 q122 q1988) rfl rfl rfl (by decide +kernel) ⟨Nat.le_of_ble_eq_true rfl, Nat.le_of_ble_eq_true rfl⟩) (pre_V (hP.sub [0] rfl) hK (hD.sub [0] (by decide) rfl) (ci := 11) (q0 := 0) rfl rfl) rfl rfl hl.1 rfl (lv_room (Nat.le_of_ble_eq_true rfl)) dX7_rests_7 ⟨Nat.le_of_ble_eq_true rfl, Nat.le_of_ble_eq_true rfl⟩) hP hD hS hA rfl (fun _ => rfl) (fun u2 H locs hP hD hS => ?_)
  have hP : va_P D clG [(h_m, .inr (11, [.int (0 : Int32), .int m_trouble, .int m_where, .null, m_read, m_tape, .int m_taped, .int m_size, .int m_spot, .int m_sort, .int m_place, .int m_number, .int m_fault, .int m_wrongAt, .long m_word, .int m_askedOf, m_v, m_x, m_past, m_kept, .int m_acts, .int m_images, m_heir, m_then, .int m_catGets, .long m_whole, .long m_bestSum, m_come, m_comeThen, .int m_tourHoursNow, m_hour, m_partIn, m_heirIn, .int m_fitsNow, .int m_foundHour, .int m_lookLeft, .int m_firstCatNow]))] H := hP
  have hD : va_D A [(h_m, .inr (11, [.int (0 : Int32), .int m_trouble, .int m_where, .null, m_read, m_tape, .int m_taped, .int m_size, .int m_spot, .int m_sort, .int m_place, .int m_number, .int m_fault, .int m_wrongAt, .long m_word, .int m_askedOf, m_v, m_x, m_past, m_kept, .int m_acts, .int m_images, m_heir, m_then, .int m_catGets, .long m_whole, .long m_bestSum, m_come, m_comeThen, .int m_tourHoursNow, m_hour, m_partIn, m_heirIn, .int m_fitsNow, .int m_foundHour, .int m_lookLeft, .int m_firstCatNow]))] := hD
  have kr1 := krX7_refusesShameN _ er1
  refine lv_toi (v := (1 : Int32)) (by rw [kr1]) ?_
  refine lv_istore_n (lv' := [(2, .int (1 : Int32)), (0, .ref h_m), (1, .int p0)]) hx hb dX7_rests_10 rfl hl (by decide) rfl (fun ls hl => ?_)
  refine lv_iload_n hx hb dX7_rests_11 rfl (lv_at hl 0 rfl) ?_
  refine lv_if_le (tgt := 21) hx hb dX7_rests_12 (by decide) (fun c3 => absurd c3 (by decide)) (fun _ => ?_)
  refine lv_aload_n hx hb dX7_rests_15 rfl (lv_at hl 1 rfl) ?_
  refine lv_iload_n hx hb dX7_rests_16 rfl (lv_at hl 0 rfl) ?_
  obtain ⟨r4, er4, hM⟩ := b_inv hM
  refine k_i0 [0] (va_runV (As := [.int (1 : Int32)]) (rest := []) ⟨hx, hb, hml, hown, hts⟩ (ctX7_refused l D dA _ h_m (1 : Int32) (0 : Int32) m_trouble m_where m_taped m_size m_spot m_sort m_place m_number m_fault m_wrongAt m_word m_askedOf m_acts m_images m_catGets m_whole m_bestSum m_tourHoursNow m_fitsNow m_foundHour m_lookLeft m_firstCatNow (.null) (m_read) (m_tape) (m_v) (m_x) (m_past) (m_kept) (m_heir) (m_then) (m_come) (m_comeThen) (m_hour) (m_partIn) (m_heirIn) r4 er4) (cwV 1 hts (lw_V q1496 q1498 qs50 q122 q1499) rfl rfl rfl (by decide +kernel) ⟨Nat.le_of_ble_eq_true rfl, Nat.le_of_ble_eq_true rfl⟩) (pre_V (hP.sub [0] rfl) hK (hD.sub [0] (by decide) rfl) (ci := 11) (q0 := 0) rfl rfl) rfl rfl hl.1 rfl (lv_room (Nat.le_of_ble_eq_true rfl)) dX7_rests_17 ⟨Nat.le_of_ble_eq_true rfl, Nat.le_of_ble_eq_true rfl⟩) hP hD hS hA rfl (fun _ => rfl) (fun u5 H locs hP hD hS => ?_)
  have hP : va_P D clG [(h_m, .inr (11, [.int (0 : Int32), .int r4.2.1, .int r4.2.2, .null, m_read, m_tape, .int m_taped, .int m_size, .int m_spot, .int m_sort, .int m_place, .int m_number, .int m_fault, .int m_wrongAt, .long m_word, .int m_askedOf, m_v, m_x, m_past, m_kept, .int m_acts, .int m_images, m_heir, m_then, .int m_catGets, .long m_whole, .long m_bestSum, m_come, m_comeThen, .int m_tourHoursNow, m_hour, m_partIn, m_heirIn, .int m_fitsNow, .int m_foundHour, .int m_lookLeft, .int m_firstCatNow]))] H := hP
  have hD : va_D A [(h_m, .inr (11, [.int (0 : Int32), .int r4.2.1, .int r4.2.2, .null, m_read, m_tape, .int m_taped, .int m_size, .int m_spot, .int m_sort, .int m_place, .int m_number, .int m_fault, .int m_wrongAt, .long m_word, .int m_askedOf, m_v, m_x, m_past, m_kept, .int m_acts, .int m_images, m_heir, m_then, .int m_catGets, .long m_whole, .long m_bestSum, m_come, m_comeThen, .int m_tourHoursNow, m_hour, m_partIn, m_heirIn, .int m_fitsNow, .int m_foundHour, .int m_lookLeft, .int m_firstCatNow]))] := hD
  have hM := Option.some.inj hM
  subst hM
  exact W.iret (v := r4.1) hx hb hr (fun t ht hW => ⟨⟨r4.1, (), rfl, rfl, by rw [ht]; exact hP, hD⟩, hS.F ht⟩) hS.2.2 dX7_rests_20

set_option maxHeartbeats 40000000 in
set_option maxRecDepth 100000 in
theorem ctX1_restN (l : Launch) (D : va_G) (dA : Nat → ClassId) (sz : Nat) (h_o : Nat) (p0 : Int32) (o_taped : Int32) (o_trouble : Int32) (o_fault : Int32) (o_where : Int32) (o_imageMany : Int32) (o_undoMany : Int32) (o_firstRest : Int32) (o_catAt : Int32) (o_tape : Value) (o_scanner : Value) (o_town : Value) (o_was : Value) (o_trial : Value) (o_night : Value) (o_plans : Value) (o_undone : Value) (o_images : Value) (o_often : Value) (o_next : Value) (res : (Int32 × Int32 × Int32)) (hM : MX1_restN p0 = some res) : Met l yX1_rest (ws_ yX1_rest cX1_rest 3 (some .int)) ({ frames := 1, cells := 0, slots := 0, locals := 22 }) (pre_ D dA [.ref h_o, .int p0] [(h_o, .inr (0, [o_tape, .int o_taped, o_scanner, .null, .int o_trouble, .int o_fault, .int o_where, .int o_imageMany, .int o_undoMany, o_town, o_was, o_trial, o_night, o_plans, o_undone, o_images, o_often, .int o_firstRest, o_next, .int o_catAt]))] sz) (qi_ D res.1 (fun (u : Unit) => [(h_o, .inr (0, [o_tape, .int o_taped, o_scanner, .null, .int res.2.1, .int o_fault, .int res.2.2, .int o_imageMany, .int o_undoMany, o_town, o_was, o_trial, o_night, o_plans, o_undone, o_images, o_often, .int o_firstRest, o_next, .int o_catAt]))]) (va_A [(h_o, .inr (0, [o_tape, .int o_taped, o_scanner, .null, .int o_trouble, .int o_fault, .int o_where, .int o_imageMany, .int o_undoMany, o_town, o_was, o_trial, o_night, o_plans, o_undone, o_images, o_often, .int o_firstRest, o_next, .int o_catAt]))] sz)) 0 0 (va_A [(h_o, .inr (0, [o_tape, .int o_taped, o_scanner, .null, .int o_trouble, .int o_fault, .int o_where, .int o_imageMany, .int o_undoMany, o_town, o_was, o_trial, o_night, o_plans, o_undone, o_images, o_often, .int o_firstRest, o_next, .int o_catAt]))] sz) := by
  refine Met.ofW (cc := cX1_rest) (maxL := 3) (ret := (some .int)) (by decide) rfl ?_
  intro p e s m args below meth c s₁ B hml hv
  obtain ⟨rfl, hsz, hP, hK, hD0⟩ := hv
  have hx := B.exec
  have hb := B.bytes
  have hr := B.returns
  have hts := atoms_spec (ws := (ws_ yX1_rest cX1_rest 3 (some .int))) B.pre
  have hts : ∀ w ∈ lw_all, w.before _ s = true := fun w h => hts w (List.mem_cons_of_mem _ h)
  have hown : s.vm.findClass RX1 = some m.cls := findClass_of_methodNamed B.named
  have hlocks := B.notSynchronized
  subst hsz
  have hD := hD0.self (sz := s.heap.size)
  generalize hAe : va_A [(h_o, .inr (0, [o_tape, .int o_taped, o_scanner, .null, .int o_trouble, .int o_fault, .int o_where, .int o_imageMany, .int o_undoMany, o_town, o_was, o_trial, o_night, o_plans, o_undone, o_images, o_often, .int o_firstRest, o_next, .int o_catAt]))] s.heap.size = A at hD ⊢
  have hA : ∀ q : Nat, s.heap.size ≤ q → A q := fun q h => by rw [← hAe]; exact Or.inr h
  have hS : va_S A s.heap s.heap [] := va_S.rf
  have hP : va_P D clG [(h_o, .inr (0, [o_tape, .int o_taped, o_scanner, .null, .int o_trouble, .int o_fault, .int o_where, .int o_imageMany, .int o_undoMany, o_town, o_was, o_trial, o_night, o_plans, o_undone, o_images, o_often, .int o_firstRest, o_next, .int o_catAt]))] s.heap := hP
  have hl := lv_entry ([.ref h_o, .int p0]) (n := 3) (Nat.le_of_ble_eq_true rfl)
  rw [lg_entry_eq]
  generalize (lg_sl ([.ref h_o, .int p0]) ++ List.replicate (3 - (lg_sl ([.ref h_o, .int p0])).length) Slot.unset).toArray = ls at hl ⊢
  have hl : lv_has ls 3 [(0, .ref h_o), (1, .int p0)] := hl
  unfold MX1_restN at hM
  refine lv_aload_n hx hb dX1_rest_0 rfl (lv_at hl 0 rfl) ?_
  obtain ⟨r1, er1, hM⟩ := b_inv hM
  refine k_v0 [0] (va_runV (As := []) (rest := []) ⟨hx, hb, hml, hown, hts⟩ (ctX1_anew l D dA _ h_o o_taped o_trouble o_fault o_where o_imageMany o_undoMany o_firstRest o_catAt (o_tape) (o_scanner) (.null) (o_town) (o_was) (o_trial) (o_night) (o_plans) (o_undone) (o_images) (o_often) (o_next) r1 er1) (cwV 0 hts (lw_V q432 q434 qs2 q113 q435) rfl rfl rfl (by decide +kernel) ⟨Nat.le_of_ble_eq_true rfl, Nat.le_of_ble_eq_true rfl⟩) (pre_V (hP.sub [0] rfl) hK (hD.sub [0] (by decide) rfl) (ci := 0) (q0 := 0) rfl rfl) rfl rfl hl.1 rfl (lv_room (Nat.le_of_ble_eq_true rfl)) dX1_rest_1 ⟨Nat.le_of_ble_eq_true rfl, Nat.le_of_ble_eq_true rfl⟩) hP hD hS hA rfl (fun _ => rfl) (fun u2 H locs hP hD hS => ?_)
  have hP : va_P D clG [(h_o, .inr (0, [o_tape, .int o_taped, o_scanner, .null, .int r1.1, .int o_fault, .int r1.2, .int o_imageMany, .int o_undoMany, o_town, o_was, o_trial, o_night, o_plans, o_undone, o_images, o_often, .int o_firstRest, o_next, .int o_catAt]))] H := hP
  have hD : va_D A [(h_o, .inr (0, [o_tape, .int o_taped, o_scanner, .null, .int r1.1, .int o_fault, .int r1.2, .int o_imageMany, .int o_undoMany, o_town, o_was, o_trial, o_night, o_plans, o_undone, o_images, o_often, .int o_firstRest, o_next, .int o_catAt]))] := hD
  refine lv_aload_n hx hb dX1_rest_4 rfl (lv_at hl 0 rfl) ?_
  refine lv_aload_n hx hb dX1_rest_5 rfl (lv_at hl 0 rfl) ?_
  refine va_get (D := D) (ci := 0) (v := .null) (C := RX1) (T := TX1) (N := 20) hx hb hts in_X1 hown hK.1 hP 0 rfl rfl 3 (by decide) (hts _ q361) (fun _ h9 => h9) rfl dX1_rest_6 ?_
  refine lv_ifnullN (tgt := 16) hx hb dX1_rest_9 (by decide) ?_
  refine lv_iconst (v := (0 : Int32)) hx hb dX1_rest_16 (by decide) ?_
  refine lv_iload_n hx hb dX1_rest_17 rfl (lv_at hl 1 rfl) ?_
  refine lv_iconst (v := (0 : Int32)) hx hb dX1_rest_18 (by decide) ?_
  refine lv_bipush (v := (9 : Int32)) hx hb dX1_rest_19 (by decide) ?_
  obtain ⟨r3, er3, hM⟩ := b_inv hM
  refine k_i0 [] (va_runS (As := [.int p0, .int (0 : Int32), .int (9 : Int32)]) (rest := [.int (0 : Int32), .ref h_o]) ⟨hx, hb, hml, hown, hts⟩ (ctX1_in l D dA _ p0 (0 : Int32) (9 : Int32) r3 er3) (va_cwS 3 hts (lw_S q436 q437 q113 q438) rfl rfl rfl (by decide +kernel) ⟨Nat.le_of_ble_eq_true rfl, Nat.le_of_ble_eq_true rfl⟩) (pre_S (hP.sub [] rfl) hK (hD.sub [] (by decide) rfl)) rfl rfl hl.1 rfl (lv_room (Nat.le_of_ble_eq_true rfl)) dX1_rest_21 ⟨Nat.le_of_ble_eq_true rfl, Nat.le_of_ble_eq_true rfl⟩) hP hD hS hA rfl (fun _ => rfl) (fun u4 H locs hP hD hS => ?_)
  have hP : va_P D clG [(h_o, .inr (0, [o_tape, .int o_taped, o_scanner, .null, .int r1.1, .int o_fault, .int r1.2, .int o_imageMany, .int o_undoMany, o_town, o_was, o_trial, o_night, o_plans, o_undone, o_images, o_often, .int o_firstRest, o_next, .int o_catAt]))] H := hP
  have hD : va_D A [(h_o, .inr (0, [o_tape, .int o_taped, o_scanner, .null, .int r1.1, .int o_fault, .int r1.2, .int o_imageMany, .int o_undoMany, o_town, o_was, o_trial, o_night, o_plans, o_undone, o_images, o_often, .int o_firstRest, o_next, .int o_catAt]))] := hD
  obtain ⟨r5, er5, hM⟩ := b_inv hM
  refine k_i0 [0] (va_runV (As := [.int (0 : Int32), .int (b2i r3)]) (rest := []) ⟨hx, hb, hml, hown, hts⟩ (ctX1_numberWhy l D dA _ h_o false r3 o_taped r1.1 o_fault r1.2 o_imageMany o_undoMany o_firstRest o_catAt (o_tape) (o_scanner) (.null) (o_town) (o_was) (o_trial) (o_night) (o_plans) (o_undone) (o_images) (o_often) (o_next) r5 er5) (cwV 2 hts (lw_V q1022 q1024 qs31 q113 q1025) rfl rfl rfl (by decide +kernel) ⟨Nat.le_of_ble_eq_true rfl, Nat.le_of_ble_eq_true rfl⟩) (pre_V (hP.sub [0] rfl) hK (hD.sub [0] (by decide) rfl) (ci := 0) (q0 := 0) rfl rfl) rfl rfl hl.1 rfl (lv_room (Nat.le_of_ble_eq_true rfl)) dX1_rest_24 ⟨Nat.le_of_ble_eq_true rfl, Nat.le_of_ble_eq_true rfl⟩) hP hD hS hA rfl (fun _ => rfl) (fun u6 H locs hP hD hS => ?_)
  have hP : va_P D clG [(h_o, .inr (0, [o_tape, .int o_taped, o_scanner, .null, .int r1.1, .int o_fault, .int r1.2, .int o_imageMany, .int o_undoMany, o_town, o_was, o_trial, o_night, o_plans, o_undone, o_images, o_often, .int o_firstRest, o_next, .int o_catAt]))] H := hP
  have hD : va_D A [(h_o, .inr (0, [o_tape, .int o_taped, o_scanner, .null, .int r1.1, .int o_fault, .int r1.2, .int o_imageMany, .int o_undoMany, o_town, o_was, o_trial, o_night, o_plans, o_undone, o_images, o_often, .int o_firstRest, o_next, .int o_catAt]))] := hD
  have kr5 := knw er5
  refine lv_toi (v := (1 : Int32)) (by rw [kr5]) ?_
  refine lv_istore_n (lv' := [(2, .int (1 : Int32)), (0, .ref h_o), (1, .int p0)]) hx hb dX1_rest_27 rfl hl (by decide) rfl (fun ls hl => ?_)
  refine lv_iload_n hx hb dX1_rest_28 rfl (lv_at hl 0 rfl) ?_
  refine lv_if_eq (tgt := 38) hx hb dX1_rest_29 (by decide) (fun c7 => absurd c7 (by decide)) (fun _ => ?_)
  refine lv_aload_n hx hb dX1_rest_32 rfl (lv_at hl 1 rfl) ?_
  refine lv_iload_n hx hb dX1_rest_33 rfl (lv_at hl 0 rfl) ?_
  obtain ⟨r8, er8, hM⟩ := b_inv hM
  refine k_i0 [0] (va_runV (As := [.int (1 : Int32)]) (rest := []) ⟨hx, hb, hml, hown, hts⟩ (ctX1_no l D dA _ h_o (1 : Int32) o_taped r1.1 o_fault r1.2 o_imageMany o_undoMany o_firstRest o_catAt (o_tape) (o_scanner) (.null) (o_town) (o_was) (o_trial) (o_night) (o_plans) (o_undone) (o_images) (o_often) (o_next) r8 er8) (cwV 1 hts (lw_V q439 q441 qs3 q113 q442) rfl rfl rfl (by decide +kernel) ⟨Nat.le_of_ble_eq_true rfl, Nat.le_of_ble_eq_true rfl⟩) (pre_V (hP.sub [0] rfl) hK (hD.sub [0] (by decide) rfl) (ci := 0) (q0 := 0) rfl rfl) rfl rfl hl.1 rfl (lv_room (Nat.le_of_ble_eq_true rfl)) dX1_rest_34 ⟨Nat.le_of_ble_eq_true rfl, Nat.le_of_ble_eq_true rfl⟩) hP hD hS hA rfl (fun _ => rfl) (fun u9 H locs hP hD hS => ?_)
  have hP : va_P D clG [(h_o, .inr (0, [o_tape, .int o_taped, o_scanner, .null, .int r8.2, .int o_fault, .int r1.2, .int o_imageMany, .int o_undoMany, o_town, o_was, o_trial, o_night, o_plans, o_undone, o_images, o_often, .int o_firstRest, o_next, .int o_catAt]))] H := hP
  have hD : va_D A [(h_o, .inr (0, [o_tape, .int o_taped, o_scanner, .null, .int r8.2, .int o_fault, .int r1.2, .int o_imageMany, .int o_undoMany, o_town, o_was, o_trial, o_night, o_plans, o_undone, o_images, o_often, .int o_firstRest, o_next, .int o_catAt]))] := hD
  have hM := Option.some.inj hM
  subst hM
  exact W.iret (v := r8.1) hx hb hr (fun t ht hW => ⟨⟨r8.1, (), rfl, rfl, by rw [ht]; exact hP, hD⟩, hS.F ht⟩) hS.2.2 dX1_rest_37

set_option maxHeartbeats 40000000 in
set_option maxRecDepth 100000 in
theorem ctX7_restN (l : Launch) (D : va_G) (dA : Nat → ClassId) (sz : Nat) (h_m : Nat) (p0 : Int32) (m_thrown : Int32) (m_trouble : Int32) (m_where : Int32) (m_taped : Int32) (m_size : Int32) (m_spot : Int32) (m_sort : Int32) (m_place : Int32) (m_number : Int32) (m_fault : Int32) (m_wrongAt : Int32) (m_word : Int64) (m_askedOf : Int32) (m_acts : Int32) (m_images : Int32) (m_catGets : Int32) (m_whole : Int64) (m_bestSum : Int64) (m_tourHoursNow : Int32) (m_fitsNow : Int32) (m_foundHour : Int32) (m_lookLeft : Int32) (m_firstCatNow : Int32) (m_read : Value) (m_tape : Value) (m_v : Value) (m_x : Value) (m_past : Value) (m_kept : Value) (m_heir : Value) (m_then : Value) (m_come : Value) (m_comeThen : Value) (m_hour : Value) (m_partIn : Value) (m_heirIn : Value) (res : (Int32 × Int32 × Int32 × Int32)) (hM : MX7_restN  = some res) : Met l yX7_rest (ws_ yX7_rest cX7_rest 4 (some .int)) ({ frames := 1, cells := 0, slots := 0, locals := 21 }) (pre_ D dA [.ref h_m, .int p0] [(h_m, .inr (11, [.int m_thrown, .int m_trouble, .int m_where, .null, m_read, m_tape, .int m_taped, .int m_size, .int m_spot, .int m_sort, .int m_place, .int m_number, .int m_fault, .int m_wrongAt, .long m_word, .int m_askedOf, m_v, m_x, m_past, m_kept, .int m_acts, .int m_images, m_heir, m_then, .int m_catGets, .long m_whole, .long m_bestSum, m_come, m_comeThen, .int m_tourHoursNow, m_hour, m_partIn, m_heirIn, .int m_fitsNow, .int m_foundHour, .int m_lookLeft, .int m_firstCatNow]))] sz) (qi_ D res.1 (fun (u : Unit) => [(h_m, .inr (11, [.int res.2.1, .int res.2.2.1, .int res.2.2.2, .null, m_read, m_tape, .int m_taped, .int m_size, .int m_spot, .int m_sort, .int m_place, .int m_number, .int m_fault, .int m_wrongAt, .long m_word, .int m_askedOf, m_v, m_x, m_past, m_kept, .int m_acts, .int m_images, m_heir, m_then, .int m_catGets, .long m_whole, .long m_bestSum, m_come, m_comeThen, .int m_tourHoursNow, m_hour, m_partIn, m_heirIn, .int m_fitsNow, .int m_foundHour, .int m_lookLeft, .int m_firstCatNow]))]) (va_A [(h_m, .inr (11, [.int m_thrown, .int m_trouble, .int m_where, .null, m_read, m_tape, .int m_taped, .int m_size, .int m_spot, .int m_sort, .int m_place, .int m_number, .int m_fault, .int m_wrongAt, .long m_word, .int m_askedOf, m_v, m_x, m_past, m_kept, .int m_acts, .int m_images, m_heir, m_then, .int m_catGets, .long m_whole, .long m_bestSum, m_come, m_comeThen, .int m_tourHoursNow, m_hour, m_partIn, m_heirIn, .int m_fitsNow, .int m_foundHour, .int m_lookLeft, .int m_firstCatNow]))] sz)) 0 0 (va_A [(h_m, .inr (11, [.int m_thrown, .int m_trouble, .int m_where, .null, m_read, m_tape, .int m_taped, .int m_size, .int m_spot, .int m_sort, .int m_place, .int m_number, .int m_fault, .int m_wrongAt, .long m_word, .int m_askedOf, m_v, m_x, m_past, m_kept, .int m_acts, .int m_images, m_heir, m_then, .int m_catGets, .long m_whole, .long m_bestSum, m_come, m_comeThen, .int m_tourHoursNow, m_hour, m_partIn, m_heirIn, .int m_fitsNow, .int m_foundHour, .int m_lookLeft, .int m_firstCatNow]))] sz) := by
  refine Met.ofW (cc := cX7_rest) (maxL := 4) (ret := (some .int)) (by decide) rfl ?_
  intro p e s m args below meth c s₁ B hml hv
  obtain ⟨rfl, hsz, hP, hK, hD0⟩ := hv
  have hx := B.exec
  have hb := B.bytes
  have hr := B.returns
  have hts := atoms_spec (ws := (ws_ yX7_rest cX7_rest 4 (some .int))) B.pre
  have hts : ∀ w ∈ lw_all, w.before _ s = true := fun w h => hts w (List.mem_cons_of_mem _ h)
  have hown : s.vm.findClass RX7 = some m.cls := findClass_of_methodNamed B.named
  have hlocks := B.notSynchronized
  subst hsz
  have hD := hD0.self (sz := s.heap.size)
  generalize hAe : va_A [(h_m, .inr (11, [.int m_thrown, .int m_trouble, .int m_where, .null, m_read, m_tape, .int m_taped, .int m_size, .int m_spot, .int m_sort, .int m_place, .int m_number, .int m_fault, .int m_wrongAt, .long m_word, .int m_askedOf, m_v, m_x, m_past, m_kept, .int m_acts, .int m_images, m_heir, m_then, .int m_catGets, .long m_whole, .long m_bestSum, m_come, m_comeThen, .int m_tourHoursNow, m_hour, m_partIn, m_heirIn, .int m_fitsNow, .int m_foundHour, .int m_lookLeft, .int m_firstCatNow]))] s.heap.size = A at hD ⊢
  have hA : ∀ q : Nat, s.heap.size ≤ q → A q := fun q h => by rw [← hAe]; exact Or.inr h
  have hS : va_S A s.heap s.heap [] := va_S.rf
  have hP : va_P D clG [(h_m, .inr (11, [.int m_thrown, .int m_trouble, .int m_where, .null, m_read, m_tape, .int m_taped, .int m_size, .int m_spot, .int m_sort, .int m_place, .int m_number, .int m_fault, .int m_wrongAt, .long m_word, .int m_askedOf, m_v, m_x, m_past, m_kept, .int m_acts, .int m_images, m_heir, m_then, .int m_catGets, .long m_whole, .long m_bestSum, m_come, m_comeThen, .int m_tourHoursNow, m_hour, m_partIn, m_heirIn, .int m_fitsNow, .int m_foundHour, .int m_lookLeft, .int m_firstCatNow]))] s.heap := hP
  have hl := lv_entry ([.ref h_m, .int p0]) (n := 4) (Nat.le_of_ble_eq_true rfl)
  rw [lg_entry_eq]
  generalize (lg_sl ([.ref h_m, .int p0]) ++ List.replicate (4 - (lg_sl ([.ref h_m, .int p0])).length) Slot.unset).toArray = ls at hl ⊢
  have hl : lv_has ls 4 [(0, .ref h_m), (1, .int p0)] := hl
  unfold MX7_restN at hM
  refine lv_aload_n hx hb dX7_rest_0 rfl (lv_at hl 0 rfl) ?_
  refine lv_iconst (v := (0 : Int32)) hx hb dX7_rest_1 (by decide) ?_
  refine va_put (D := D) (ci := 11) (v := .int (0 : Int32)) (ty := .int) (C := RX7) (T := TX7) (N := 37) hx hb hts in_X7 tyX7 tyX7_ok nmX7 hown hK.1 hP hD hS 0 rfl rfl 0 (by decide) (hts _ q1372) (fun _ h9 => h9) rfl (by decide +kernel) rfl rfl (Nat.le_of_ble_eq_true rfl) dX7_rest_2 (fun H locs hP hD hS => ?_)
  have hP : va_P D clG [(h_m, .inr (11, [.int (0 : Int32), .int m_trouble, .int m_where, .null, m_read, m_tape, .int m_taped, .int m_size, .int m_spot, .int m_sort, .int m_place, .int m_number, .int m_fault, .int m_wrongAt, .long m_word, .int m_askedOf, m_v, m_x, m_past, m_kept, .int m_acts, .int m_images, m_heir, m_then, .int m_catGets, .long m_whole, .long m_bestSum, m_come, m_comeThen, .int m_tourHoursNow, m_hour, m_partIn, m_heirIn, .int m_fitsNow, .int m_foundHour, .int m_lookLeft, .int m_firstCatNow]))] H := hP
  have hD : va_D A [(h_m, .inr (11, [.int (0 : Int32), .int m_trouble, .int m_where, .null, m_read, m_tape, .int m_taped, .int m_size, .int m_spot, .int m_sort, .int m_place, .int m_number, .int m_fault, .int m_wrongAt, .long m_word, .int m_askedOf, m_v, m_x, m_past, m_kept, .int m_acts, .int m_images, m_heir, m_then, .int m_catGets, .long m_whole, .long m_bestSum, m_come, m_comeThen, .int m_tourHoursNow, m_hour, m_partIn, m_heirIn, .int m_fitsNow, .int m_foundHour, .int m_lookLeft, .int m_firstCatNow]))] := hD
  refine lv_aload_n hx hb dX7_rest_5 rfl (lv_at hl 0 rfl) ?_
  refine lv_iload_n hx hb dX7_rest_6 rfl (lv_at hl 1 rfl) ?_
  obtain ⟨r1, er1, hM⟩ := b_inv hM
  refine k_i0 [0] (va_runV (As := [.int p0]) (rest := []) ⟨hx, hb, hml, hown, hts⟩ (ctX7_refusesShameN l D dA _ h_m p0 (0 : Int32) m_trouble m_where m_taped m_size m_spot m_sort m_place m_number m_fault m_wrongAt m_word m_askedOf m_acts m_images m_catGets m_whole m_bestSum m_tourHoursNow m_fitsNow m_foundHour m_lookLeft m_firstCatNow (m_read) (m_tape) (m_v) (m_x) (m_past) (m_kept) (m_heir) (m_then) (m_come) (m_comeThen) (m_hour) (m_partIn) (m_heirIn) r1 er1) (cwV 1 hts (lw_V q1985 q1987 qs102 q122 q1988) rfl rfl rfl (by decide +kernel) ⟨Nat.le_of_ble_eq_true rfl, Nat.le_of_ble_eq_true rfl⟩) (pre_V (hP.sub [0] rfl) hK (hD.sub [0] (by decide) rfl) (ci := 11) (q0 := 0) rfl rfl) rfl rfl hl.1 rfl (lv_room (Nat.le_of_ble_eq_true rfl)) dX7_rest_7 ⟨Nat.le_of_ble_eq_true rfl, Nat.le_of_ble_eq_true rfl⟩) hP hD hS hA rfl (fun _ => rfl) (fun u2 H locs hP hD hS => ?_)
  have hP : va_P D clG [(h_m, .inr (11, [.int (0 : Int32), .int m_trouble, .int m_where, .null, m_read, m_tape, .int m_taped, .int m_size, .int m_spot, .int m_sort, .int m_place, .int m_number, .int m_fault, .int m_wrongAt, .long m_word, .int m_askedOf, m_v, m_x, m_past, m_kept, .int m_acts, .int m_images, m_heir, m_then, .int m_catGets, .long m_whole, .long m_bestSum, m_come, m_comeThen, .int m_tourHoursNow, m_hour, m_partIn, m_heirIn, .int m_fitsNow, .int m_foundHour, .int m_lookLeft, .int m_firstCatNow]))] H := hP
  have hD : va_D A [(h_m, .inr (11, [.int (0 : Int32), .int m_trouble, .int m_where, .null, m_read, m_tape, .int m_taped, .int m_size, .int m_spot, .int m_sort, .int m_place, .int m_number, .int m_fault, .int m_wrongAt, .long m_word, .int m_askedOf, m_v, m_x, m_past, m_kept, .int m_acts, .int m_images, m_heir, m_then, .int m_catGets, .long m_whole, .long m_bestSum, m_come, m_comeThen, .int m_tourHoursNow, m_hour, m_partIn, m_heirIn, .int m_fitsNow, .int m_foundHour, .int m_lookLeft, .int m_firstCatNow]))] := hD
  have kr1 := krX7_refusesShameN _ er1
  refine lv_toi (v := (1 : Int32)) (by rw [kr1]) ?_
  refine lv_istore_n (lv' := [(2, .int (1 : Int32)), (0, .ref h_m), (1, .int p0)]) hx hb dX7_rest_10 rfl hl (by decide) rfl (fun ls hl => ?_)
  refine lv_iload_n hx hb dX7_rest_11 rfl (lv_at hl 0 rfl) ?_
  refine lv_if_le (tgt := 21) hx hb dX7_rest_12 (by decide) (fun c3 => absurd c3 (by decide)) (fun _ => ?_)
  refine lv_aload_n hx hb dX7_rest_15 rfl (lv_at hl 1 rfl) ?_
  refine lv_iload_n hx hb dX7_rest_16 rfl (lv_at hl 0 rfl) ?_
  obtain ⟨r4, er4, hM⟩ := b_inv hM
  refine k_i0 [0] (va_runV (As := [.int (1 : Int32)]) (rest := []) ⟨hx, hb, hml, hown, hts⟩ (ctX7_refused l D dA _ h_m (1 : Int32) (0 : Int32) m_trouble m_where m_taped m_size m_spot m_sort m_place m_number m_fault m_wrongAt m_word m_askedOf m_acts m_images m_catGets m_whole m_bestSum m_tourHoursNow m_fitsNow m_foundHour m_lookLeft m_firstCatNow (.null) (m_read) (m_tape) (m_v) (m_x) (m_past) (m_kept) (m_heir) (m_then) (m_come) (m_comeThen) (m_hour) (m_partIn) (m_heirIn) r4 er4) (cwV 1 hts (lw_V q1496 q1498 qs50 q122 q1499) rfl rfl rfl (by decide +kernel) ⟨Nat.le_of_ble_eq_true rfl, Nat.le_of_ble_eq_true rfl⟩) (pre_V (hP.sub [0] rfl) hK (hD.sub [0] (by decide) rfl) (ci := 11) (q0 := 0) rfl rfl) rfl rfl hl.1 rfl (lv_room (Nat.le_of_ble_eq_true rfl)) dX7_rest_17 ⟨Nat.le_of_ble_eq_true rfl, Nat.le_of_ble_eq_true rfl⟩) hP hD hS hA rfl (fun _ => rfl) (fun u5 H locs hP hD hS => ?_)
  have hP : va_P D clG [(h_m, .inr (11, [.int (0 : Int32), .int r4.2.1, .int r4.2.2, .null, m_read, m_tape, .int m_taped, .int m_size, .int m_spot, .int m_sort, .int m_place, .int m_number, .int m_fault, .int m_wrongAt, .long m_word, .int m_askedOf, m_v, m_x, m_past, m_kept, .int m_acts, .int m_images, m_heir, m_then, .int m_catGets, .long m_whole, .long m_bestSum, m_come, m_comeThen, .int m_tourHoursNow, m_hour, m_partIn, m_heirIn, .int m_fitsNow, .int m_foundHour, .int m_lookLeft, .int m_firstCatNow]))] H := hP
  have hD : va_D A [(h_m, .inr (11, [.int (0 : Int32), .int r4.2.1, .int r4.2.2, .null, m_read, m_tape, .int m_taped, .int m_size, .int m_spot, .int m_sort, .int m_place, .int m_number, .int m_fault, .int m_wrongAt, .long m_word, .int m_askedOf, m_v, m_x, m_past, m_kept, .int m_acts, .int m_images, m_heir, m_then, .int m_catGets, .long m_whole, .long m_bestSum, m_come, m_comeThen, .int m_tourHoursNow, m_hour, m_partIn, m_heirIn, .int m_fitsNow, .int m_foundHour, .int m_lookLeft, .int m_firstCatNow]))] := hD
  have hM := Option.some.inj hM
  subst hM
  exact W.iret (v := r4.1) hx hb hr (fun t ht hW => ⟨⟨r4.1, (), rfl, rfl, by rw [ht]; exact hP, hD⟩, hS.F ht⟩) hS.2.2 dX7_rest_20

set_option maxHeartbeats 40000000 in
set_option maxRecDepth 100000 in
theorem ctX1_nightsWhyF (l : Launch) (D : va_G) (dA : Nat → ClassId) (sz : Nat) (h_o : Nat) (p1 : Int32) (p2 : Int32) (o_taped : Int32) (o_trouble : Int32) (o_fault : Int32) (o_where : Int32) (o_imageMany : Int32) (o_undoMany : Int32) (o_firstRest : Int32) (o_catAt : Int32) (o_tape : Value) (o_scanner : Value) (o_city : Value) (o_town : Value) (o_was : Value) (o_trial : Value) (o_night : Value) (o_plans : Value) (o_undone : Value) (o_images : Value) (o_often : Value) (o_next : Value) (res : Int32) (hM : MX1_nightsWhyF p1 p2 = some res) : Met l yX1_nightsWhy (ws_ yX1_nightsWhy cX1_nightsWhy 7 (some .int)) ({ frames := 1, cells := 0, slots := 0, locals := 22 }) (pre_ D dA [.ref h_o, .int (0 : Int32), .int p1, .int p2] [(h_o, .inr (0, [o_tape, .int o_taped, o_scanner, o_city, .int o_trouble, .int o_fault, .int o_where, .int o_imageMany, .int o_undoMany, o_town, o_was, o_trial, o_night, o_plans, o_undone, o_images, o_often, .int o_firstRest, o_next, .int o_catAt]))] sz) (qi_ D res (fun (u : Unit) => [(h_o, .inr (0, [o_tape, .int o_taped, o_scanner, o_city, .int o_trouble, .int o_fault, .int o_where, .int o_imageMany, .int o_undoMany, o_town, o_was, o_trial, o_night, o_plans, o_undone, o_images, o_often, .int o_firstRest, o_next, .int o_catAt]))]) (va_A [(h_o, .inr (0, [o_tape, .int o_taped, o_scanner, o_city, .int o_trouble, .int o_fault, .int o_where, .int o_imageMany, .int o_undoMany, o_town, o_was, o_trial, o_night, o_plans, o_undone, o_images, o_often, .int o_firstRest, o_next, .int o_catAt]))] sz)) 0 0 (va_A [(h_o, .inr (0, [o_tape, .int o_taped, o_scanner, o_city, .int o_trouble, .int o_fault, .int o_where, .int o_imageMany, .int o_undoMany, o_town, o_was, o_trial, o_night, o_plans, o_undone, o_images, o_often, .int o_firstRest, o_next, .int o_catAt]))] sz) := by
  refine Met.ofW (cc := cX1_nightsWhy) (maxL := 7) (ret := (some .int)) (by decide) rfl ?_
  intro p e s m args below meth c s₁ B hml hv
  obtain ⟨rfl, hsz, hP, hK, hD0⟩ := hv
  have hx := B.exec
  have hb := B.bytes
  have hr := B.returns
  have hts := atoms_spec (ws := (ws_ yX1_nightsWhy cX1_nightsWhy 7 (some .int))) B.pre
  have hts : ∀ w ∈ lw_all, w.before _ s = true := fun w h => hts w (List.mem_cons_of_mem _ h)
  have hown : s.vm.findClass RX1 = some m.cls := findClass_of_methodNamed B.named
  have hlocks := B.notSynchronized
  subst hsz
  have hD := hD0.self (sz := s.heap.size)
  generalize hAe : va_A [(h_o, .inr (0, [o_tape, .int o_taped, o_scanner, o_city, .int o_trouble, .int o_fault, .int o_where, .int o_imageMany, .int o_undoMany, o_town, o_was, o_trial, o_night, o_plans, o_undone, o_images, o_often, .int o_firstRest, o_next, .int o_catAt]))] s.heap.size = A at hD ⊢
  have hA : ∀ q : Nat, s.heap.size ≤ q → A q := fun q h => by rw [← hAe]; exact Or.inr h
  have hS : va_S A s.heap s.heap [] := va_S.rf
  have hP : va_P D clG [(h_o, .inr (0, [o_tape, .int o_taped, o_scanner, o_city, .int o_trouble, .int o_fault, .int o_where, .int o_imageMany, .int o_undoMany, o_town, o_was, o_trial, o_night, o_plans, o_undone, o_images, o_often, .int o_firstRest, o_next, .int o_catAt]))] s.heap := hP
  have hl := lv_entry ([.ref h_o, .int (0 : Int32), .int p1, .int p2]) (n := 7) (Nat.le_of_ble_eq_true rfl)
  rw [lg_entry_eq]
  generalize (lg_sl ([.ref h_o, .int (0 : Int32), .int p1, .int p2]) ++ List.replicate (7 - (lg_sl ([.ref h_o, .int (0 : Int32), .int p1, .int p2])).length) Slot.unset).toArray = ls at hl ⊢
  have hl : lv_has ls 7 [(0, .ref h_o), (1, .int (0 : Int32)), (2, .int p1), (3, .int p2)] := hl
  unfold MX1_nightsWhyF at hM
  refine lv_aload_n hx hb dX1_nightsWhy_0 rfl (lv_at hl 0 rfl) ?_
  refine lv_iload_n hx hb dX1_nightsWhy_1 rfl (lv_at hl 1 rfl) ?_
  refine lv_iload_n hx hb dX1_nightsWhy_2 rfl (lv_at hl 2 rfl) ?_
  refine lv_iconst (v := (0 : Int32)) hx hb dX1_nightsWhy_3 (by decide) ?_
  refine lv_ldcw (v := (65536 : Int32)) hx hb hown (hts _ q1273) dX1_nightsWhy_4 ?_
  obtain ⟨r1, er1, hM⟩ := b_inv hM
  refine k_i0 [] (va_runS (As := [.int p1, .int (0 : Int32), .int (65536 : Int32)]) (rest := [.int (0 : Int32), .ref h_o]) ⟨hx, hb, hml, hown, hts⟩ (ctX1_in l D dA _ p1 (0 : Int32) (65536 : Int32) r1 er1) (va_cwS 3 hts (lw_S q436 q437 q113 q438) rfl rfl rfl (by decide +kernel) ⟨Nat.le_of_ble_eq_true rfl, Nat.le_of_ble_eq_true rfl⟩) (pre_S (hP.sub [] rfl) hK (hD.sub [] (by decide) rfl)) rfl rfl hl.1 rfl (lv_room (Nat.le_of_ble_eq_true rfl)) dX1_nightsWhy_7 ⟨Nat.le_of_ble_eq_true rfl, Nat.le_of_ble_eq_true rfl⟩) hP hD hS hA rfl (fun _ => rfl) (fun u2 H locs hP hD hS => ?_)
  have hP : va_P D clG [(h_o, .inr (0, [o_tape, .int o_taped, o_scanner, o_city, .int o_trouble, .int o_fault, .int o_where, .int o_imageMany, .int o_undoMany, o_town, o_was, o_trial, o_night, o_plans, o_undone, o_images, o_often, .int o_firstRest, o_next, .int o_catAt]))] H := hP
  have hD : va_D A [(h_o, .inr (0, [o_tape, .int o_taped, o_scanner, o_city, .int o_trouble, .int o_fault, .int o_where, .int o_imageMany, .int o_undoMany, o_town, o_was, o_trial, o_night, o_plans, o_undone, o_images, o_often, .int o_firstRest, o_next, .int o_catAt]))] := hD
  refine lv_if_eq (tgt := 27) hx hb dX1_nightsWhy_10 (by decide) (fun c3 => ?_) (fun c3 => ?_)
  · rw [if_pos c3] at hM
    refine lv_iconst (v := (0 : Int32)) hx hb dX1_nightsWhy_27 (by decide) ?_
    obtain ⟨r4, er4, hM⟩ := b_inv hM
    refine k_i0 [0] (va_runV (As := [.int (0 : Int32), .int (0 : Int32)]) (rest := []) ⟨hx, hb, hml, hown, hts⟩ (ctX1_numberWhy l D dA _ h_o false false o_taped o_trouble o_fault o_where o_imageMany o_undoMany o_firstRest o_catAt (o_tape) (o_scanner) (o_city) (o_town) (o_was) (o_trial) (o_night) (o_plans) (o_undone) (o_images) (o_often) (o_next) r4 er4) (cwV 2 hts (lw_V q1022 q1024 qs31 q113 q1025) rfl rfl rfl (by decide +kernel) ⟨Nat.le_of_ble_eq_true rfl, Nat.le_of_ble_eq_true rfl⟩) (pre_V (hP.sub [0] rfl) hK (hD.sub [0] (by decide) rfl) (ci := 0) (q0 := 0) rfl rfl) rfl rfl hl.1 rfl (lv_room (Nat.le_of_ble_eq_true rfl)) dX1_nightsWhy_28 ⟨Nat.le_of_ble_eq_true rfl, Nat.le_of_ble_eq_true rfl⟩) hP hD hS hA rfl (fun _ => rfl) (fun u5 H locs hP hD hS => ?_)
    have hP : va_P D clG [(h_o, .inr (0, [o_tape, .int o_taped, o_scanner, o_city, .int o_trouble, .int o_fault, .int o_where, .int o_imageMany, .int o_undoMany, o_town, o_was, o_trial, o_night, o_plans, o_undone, o_images, o_often, .int o_firstRest, o_next, .int o_catAt]))] H := hP
    have hD : va_D A [(h_o, .inr (0, [o_tape, .int o_taped, o_scanner, o_city, .int o_trouble, .int o_fault, .int o_where, .int o_imageMany, .int o_undoMany, o_town, o_was, o_trial, o_night, o_plans, o_undone, o_images, o_often, .int o_firstRest, o_next, .int o_catAt]))] := hD
    have kr4 := knw er4
    refine lv_toi (v := (1 : Int32)) (by rw [kr4]) ?_
    refine lv_istore (lv' := [(4, .int (1 : Int32)), (0, .ref h_o), (1, .int (0 : Int32)), (2, .int p1), (3, .int p2)]) hx hb dX1_nightsWhy_31 hl (by decide) rfl (fun ls hl => ?_)
    have hl := lv_sub (l' := [(4, .int (1 : Int32)), (0, .ref h_o), (2, .int p1), (3, .int p2)]) hl [0, 1, 3, 4] rfl
    refine lv_iload hx hb dX1_nightsWhy_33 (lv_at hl 0 rfl) ?_
    refine lv_if_eq (tgt := 41) hx hb dX1_nightsWhy_35 (by decide) (fun c6 => absurd c6 (by decide)) (fun _ => ?_)
    refine lv_iload hx hb dX1_nightsWhy_38 (lv_at hl 0 rfl) ?_
    have hM := Option.some.inj hM
    subst hM
    exact W.iret (v := (1 : Int32)) hx hb hr (fun t ht hW => ⟨⟨(1 : Int32), (), rfl, rfl, by rw [ht]; exact hP, hD⟩, hS.F ht⟩) hS.2.2 dX1_nightsWhy_40
  · rw [if_neg c3] at hM
    refine lv_iload_n hx hb dX1_nightsWhy_13 rfl (lv_at hl 3 rfl) ?_
    refine lv_iconst (v := (0 : Int32)) hx hb dX1_nightsWhy_14 (by decide) ?_
    refine lv_bipush (v := (60 : Int32)) hx hb dX1_nightsWhy_15 (by decide) ?_
    obtain ⟨r7, er7, hM⟩ := b_inv hM
    refine k_i0 [] (va_runS (As := [.int p2, .int (0 : Int32), .int (60 : Int32)]) (rest := [.int (0 : Int32), .ref h_o]) ⟨hx, hb, hml, hown, hts⟩ (ctX1_in l D dA _ p2 (0 : Int32) (60 : Int32) r7 er7) (va_cwS 3 hts (lw_S q436 q437 q113 q438) rfl rfl rfl (by decide +kernel) ⟨Nat.le_of_ble_eq_true rfl, Nat.le_of_ble_eq_true rfl⟩) (pre_S (hP.sub [] rfl) hK (hD.sub [] (by decide) rfl)) rfl rfl hl.1 rfl (lv_room (Nat.le_of_ble_eq_true rfl)) dX1_nightsWhy_17 ⟨Nat.le_of_ble_eq_true rfl, Nat.le_of_ble_eq_true rfl⟩) hP hD hS hA rfl (fun _ => rfl) (fun u8 H locs hP hD hS => ?_)
    have hP : va_P D clG [(h_o, .inr (0, [o_tape, .int o_taped, o_scanner, o_city, .int o_trouble, .int o_fault, .int o_where, .int o_imageMany, .int o_undoMany, o_town, o_was, o_trial, o_night, o_plans, o_undone, o_images, o_often, .int o_firstRest, o_next, .int o_catAt]))] H := hP
    have hD : va_D A [(h_o, .inr (0, [o_tape, .int o_taped, o_scanner, o_city, .int o_trouble, .int o_fault, .int o_where, .int o_imageMany, .int o_undoMany, o_town, o_was, o_trial, o_night, o_plans, o_undone, o_images, o_often, .int o_firstRest, o_next, .int o_catAt]))] := hD
    refine lv_if_eq (tgt := 27) hx hb dX1_nightsWhy_20 (by decide) (fun c9 => ?_) (fun c9 => ?_)
    · rw [if_pos c9] at hM
      refine lv_iconst (v := (0 : Int32)) hx hb dX1_nightsWhy_27 (by decide) ?_
      obtain ⟨r10, er10, hM⟩ := b_inv hM
      refine k_i0 [0] (va_runV (As := [.int (0 : Int32), .int (0 : Int32)]) (rest := []) ⟨hx, hb, hml, hown, hts⟩ (ctX1_numberWhy l D dA _ h_o false false o_taped o_trouble o_fault o_where o_imageMany o_undoMany o_firstRest o_catAt (o_tape) (o_scanner) (o_city) (o_town) (o_was) (o_trial) (o_night) (o_plans) (o_undone) (o_images) (o_often) (o_next) r10 er10) (cwV 2 hts (lw_V q1022 q1024 qs31 q113 q1025) rfl rfl rfl (by decide +kernel) ⟨Nat.le_of_ble_eq_true rfl, Nat.le_of_ble_eq_true rfl⟩) (pre_V (hP.sub [0] rfl) hK (hD.sub [0] (by decide) rfl) (ci := 0) (q0 := 0) rfl rfl) rfl rfl hl.1 rfl (lv_room (Nat.le_of_ble_eq_true rfl)) dX1_nightsWhy_28 ⟨Nat.le_of_ble_eq_true rfl, Nat.le_of_ble_eq_true rfl⟩) hP hD hS hA rfl (fun _ => rfl) (fun u11 H locs hP hD hS => ?_)
      have hP : va_P D clG [(h_o, .inr (0, [o_tape, .int o_taped, o_scanner, o_city, .int o_trouble, .int o_fault, .int o_where, .int o_imageMany, .int o_undoMany, o_town, o_was, o_trial, o_night, o_plans, o_undone, o_images, o_often, .int o_firstRest, o_next, .int o_catAt]))] H := hP
      have hD : va_D A [(h_o, .inr (0, [o_tape, .int o_taped, o_scanner, o_city, .int o_trouble, .int o_fault, .int o_where, .int o_imageMany, .int o_undoMany, o_town, o_was, o_trial, o_night, o_plans, o_undone, o_images, o_often, .int o_firstRest, o_next, .int o_catAt]))] := hD
      have kr10 := knw er10
      refine lv_toi (v := (1 : Int32)) (by rw [kr10]) ?_
      refine lv_istore (lv' := [(4, .int (1 : Int32)), (0, .ref h_o), (1, .int (0 : Int32)), (2, .int p1), (3, .int p2)]) hx hb dX1_nightsWhy_31 hl (by decide) rfl (fun ls hl => ?_)
      have hl := lv_sub (l' := [(4, .int (1 : Int32)), (0, .ref h_o), (2, .int p1), (3, .int p2)]) hl [0, 1, 3, 4] rfl
      refine lv_iload hx hb dX1_nightsWhy_33 (lv_at hl 0 rfl) ?_
      refine lv_if_eq (tgt := 41) hx hb dX1_nightsWhy_35 (by decide) (fun c12 => absurd c12 (by decide)) (fun _ => ?_)
      refine lv_iload hx hb dX1_nightsWhy_38 (lv_at hl 0 rfl) ?_
      have hM := Option.some.inj hM
      subst hM
      exact W.iret (v := (1 : Int32)) hx hb hr (fun t ht hW => ⟨⟨(1 : Int32), (), rfl, rfl, by rw [ht]; exact hP, hD⟩, hS.F ht⟩) hS.2.2 dX1_nightsWhy_40
    · rw [if_neg c9] at hM
      refine lv_iconst (v := (1 : Int32)) hx hb dX1_nightsWhy_23 (by decide) ?_
      refine lv_goto (tgt := 28) hx hb dX1_nightsWhy_24 (by decide) ?_
      obtain ⟨r13, er13, hM⟩ := b_inv hM
      refine k_i0 [0] (va_runV (As := [.int (0 : Int32), .int (1 : Int32)]) (rest := []) ⟨hx, hb, hml, hown, hts⟩ (ctX1_numberWhy l D dA _ h_o false true o_taped o_trouble o_fault o_where o_imageMany o_undoMany o_firstRest o_catAt (o_tape) (o_scanner) (o_city) (o_town) (o_was) (o_trial) (o_night) (o_plans) (o_undone) (o_images) (o_often) (o_next) r13 er13) (cwV 2 hts (lw_V q1022 q1024 qs31 q113 q1025) rfl rfl rfl (by decide +kernel) ⟨Nat.le_of_ble_eq_true rfl, Nat.le_of_ble_eq_true rfl⟩) (pre_V (hP.sub [0] rfl) hK (hD.sub [0] (by decide) rfl) (ci := 0) (q0 := 0) rfl rfl) rfl rfl hl.1 rfl (lv_room (Nat.le_of_ble_eq_true rfl)) dX1_nightsWhy_28 ⟨Nat.le_of_ble_eq_true rfl, Nat.le_of_ble_eq_true rfl⟩) hP hD hS hA rfl (fun _ => rfl) (fun u14 H locs hP hD hS => ?_)
      have hP : va_P D clG [(h_o, .inr (0, [o_tape, .int o_taped, o_scanner, o_city, .int o_trouble, .int o_fault, .int o_where, .int o_imageMany, .int o_undoMany, o_town, o_was, o_trial, o_night, o_plans, o_undone, o_images, o_often, .int o_firstRest, o_next, .int o_catAt]))] H := hP
      have hD : va_D A [(h_o, .inr (0, [o_tape, .int o_taped, o_scanner, o_city, .int o_trouble, .int o_fault, .int o_where, .int o_imageMany, .int o_undoMany, o_town, o_was, o_trial, o_night, o_plans, o_undone, o_images, o_often, .int o_firstRest, o_next, .int o_catAt]))] := hD
      have kr13 := knw er13
      refine lv_toi (v := (1 : Int32)) (by rw [kr13]) ?_
      refine lv_istore (lv' := [(4, .int (1 : Int32)), (0, .ref h_o), (1, .int (0 : Int32)), (2, .int p1), (3, .int p2)]) hx hb dX1_nightsWhy_31 hl (by decide) rfl (fun ls hl => ?_)
      have hl := lv_sub (l' := [(4, .int (1 : Int32)), (0, .ref h_o), (2, .int p1), (3, .int p2)]) hl [0, 1, 3, 4] rfl
      refine lv_iload hx hb dX1_nightsWhy_33 (lv_at hl 0 rfl) ?_
      refine lv_if_eq (tgt := 41) hx hb dX1_nightsWhy_35 (by decide) (fun c15 => absurd c15 (by decide)) (fun _ => ?_)
      refine lv_iload hx hb dX1_nightsWhy_38 (lv_at hl 0 rfl) ?_
      have hM := Option.some.inj hM
      subst hM
      exact W.iret (v := (1 : Int32)) hx hb hr (fun t ht hW => ⟨⟨(1 : Int32), (), rfl, rfl, by rw [ht]; exact hP, hD⟩, hS.F ht⟩) hS.2.2 dX1_nightsWhy_40
theorem krX1_nightsWhyF (p1 : Int32) (p2 : Int32) (res : Int32) (h : MX1_nightsWhyF p1 p2 = some res) : res = (1 : Int32) := by
  unfold MX1_nightsWhyF at h
  repeat first | (obtain ⟨_, _, h⟩ := b_inv h) | (split at h)
  all_goals (cases h; rfl)

set_option maxHeartbeats 40000000 in
set_option maxRecDepth 100000 in
theorem ctX1_nightsN (l : Launch) (D : va_G) (dA : Nat → ClassId) (sz : Nat) (h_o : Nat) (p0 : Int32) (p1 : Int32) (p2 : Int32) (o_taped : Int32) (o_trouble : Int32) (o_fault : Int32) (o_where : Int32) (o_imageMany : Int32) (o_undoMany : Int32) (o_firstRest : Int32) (o_catAt : Int32) (o_tape : Value) (o_scanner : Value) (o_town : Value) (o_was : Value) (o_trial : Value) (o_night : Value) (o_plans : Value) (o_undone : Value) (o_images : Value) (o_often : Value) (o_next : Value) (res : (Int32 × Int32 × Int32)) (hM : MX1_nightsN p1 p2 = some res) : Met l yX1_nights (ws_ yX1_nights cX1_nights 5 (some .int)) ({ frames := 2, cells := 0, slots := 0, locals := 48 }) (pre_ D dA [.ref h_o, .int p0, .int p1, .int p2] [(h_o, .inr (0, [o_tape, .int o_taped, o_scanner, .null, .int o_trouble, .int o_fault, .int o_where, .int o_imageMany, .int o_undoMany, o_town, o_was, o_trial, o_night, o_plans, o_undone, o_images, o_often, .int o_firstRest, o_next, .int o_catAt]))] sz) (qi_ D res.1 (fun (u : Unit) => [(h_o, .inr (0, [o_tape, .int o_taped, o_scanner, .null, .int res.2.1, .int o_fault, .int res.2.2, .int o_imageMany, .int o_undoMany, o_town, o_was, o_trial, o_night, o_plans, o_undone, o_images, o_often, .int o_firstRest, o_next, .int o_catAt]))]) (va_A [(h_o, .inr (0, [o_tape, .int o_taped, o_scanner, .null, .int o_trouble, .int o_fault, .int o_where, .int o_imageMany, .int o_undoMany, o_town, o_was, o_trial, o_night, o_plans, o_undone, o_images, o_often, .int o_firstRest, o_next, .int o_catAt]))] sz)) 0 0 (va_A [(h_o, .inr (0, [o_tape, .int o_taped, o_scanner, .null, .int o_trouble, .int o_fault, .int o_where, .int o_imageMany, .int o_undoMany, o_town, o_was, o_trial, o_night, o_plans, o_undone, o_images, o_often, .int o_firstRest, o_next, .int o_catAt]))] sz) := by
  refine Met.ofW (cc := cX1_nights) (maxL := 5) (ret := (some .int)) (by decide) rfl ?_
  intro p e s m args below meth c s₁ B hml hv
  obtain ⟨rfl, hsz, hP, hK, hD0⟩ := hv
  have hx := B.exec
  have hb := B.bytes
  have hr := B.returns
  have hts := atoms_spec (ws := (ws_ yX1_nights cX1_nights 5 (some .int))) B.pre
  have hts : ∀ w ∈ lw_all, w.before _ s = true := fun w h => hts w (List.mem_cons_of_mem _ h)
  have hown : s.vm.findClass RX1 = some m.cls := findClass_of_methodNamed B.named
  have hlocks := B.notSynchronized
  subst hsz
  have hD := hD0.self (sz := s.heap.size)
  generalize hAe : va_A [(h_o, .inr (0, [o_tape, .int o_taped, o_scanner, .null, .int o_trouble, .int o_fault, .int o_where, .int o_imageMany, .int o_undoMany, o_town, o_was, o_trial, o_night, o_plans, o_undone, o_images, o_often, .int o_firstRest, o_next, .int o_catAt]))] s.heap.size = A at hD ⊢
  have hA : ∀ q : Nat, s.heap.size ≤ q → A q := fun q h => by rw [← hAe]; exact Or.inr h
  have hS : va_S A s.heap s.heap [] := va_S.rf
  have hP : va_P D clG [(h_o, .inr (0, [o_tape, .int o_taped, o_scanner, .null, .int o_trouble, .int o_fault, .int o_where, .int o_imageMany, .int o_undoMany, o_town, o_was, o_trial, o_night, o_plans, o_undone, o_images, o_often, .int o_firstRest, o_next, .int o_catAt]))] s.heap := hP
  have hl := lv_entry ([.ref h_o, .int p0, .int p1, .int p2]) (n := 5) (Nat.le_of_ble_eq_true rfl)
  rw [lg_entry_eq]
  generalize (lg_sl ([.ref h_o, .int p0, .int p1, .int p2]) ++ List.replicate (5 - (lg_sl ([.ref h_o, .int p0, .int p1, .int p2])).length) Slot.unset).toArray = ls at hl ⊢
  have hl : lv_has ls 5 [(0, .ref h_o), (1, .int p0), (2, .int p1), (3, .int p2)] := hl
  unfold MX1_nightsN at hM
  refine lv_aload_n hx hb dX1_nights_0 rfl (lv_at hl 0 rfl) ?_
  obtain ⟨r1, er1, hM⟩ := b_inv hM
  refine k_v0 [0] (va_runV (As := []) (rest := []) ⟨hx, hb, hml, hown, hts⟩ (ctX1_anew l D dA _ h_o o_taped o_trouble o_fault o_where o_imageMany o_undoMany o_firstRest o_catAt (o_tape) (o_scanner) (.null) (o_town) (o_was) (o_trial) (o_night) (o_plans) (o_undone) (o_images) (o_often) (o_next) r1 er1) (cwV 0 hts (lw_V q432 q434 qs2 q113 q435) rfl rfl rfl (by decide +kernel) ⟨Nat.le_of_ble_eq_true rfl, Nat.le_of_ble_eq_true rfl⟩) (pre_V (hP.sub [0] rfl) hK (hD.sub [0] (by decide) rfl) (ci := 0) (q0 := 0) rfl rfl) rfl rfl hl.1 rfl (lv_room (Nat.le_of_ble_eq_true rfl)) dX1_nights_1 ⟨Nat.le_of_ble_eq_true rfl, Nat.le_of_ble_eq_true rfl⟩) hP hD hS hA rfl (fun _ => rfl) (fun u2 H locs hP hD hS => ?_)
  have hP : va_P D clG [(h_o, .inr (0, [o_tape, .int o_taped, o_scanner, .null, .int r1.1, .int o_fault, .int r1.2, .int o_imageMany, .int o_undoMany, o_town, o_was, o_trial, o_night, o_plans, o_undone, o_images, o_often, .int o_firstRest, o_next, .int o_catAt]))] H := hP
  have hD : va_D A [(h_o, .inr (0, [o_tape, .int o_taped, o_scanner, .null, .int r1.1, .int o_fault, .int r1.2, .int o_imageMany, .int o_undoMany, o_town, o_was, o_trial, o_night, o_plans, o_undone, o_images, o_often, .int o_firstRest, o_next, .int o_catAt]))] := hD
  refine lv_aload_n hx hb dX1_nights_4 rfl (lv_at hl 0 rfl) ?_
  refine lv_aload_n hx hb dX1_nights_5 rfl (lv_at hl 0 rfl) ?_
  refine lv_iload_n hx hb dX1_nights_6 rfl (lv_at hl 1 rfl) ?_
  obtain ⟨r3, er3, hM⟩ := b_inv hM
  refine k_i0 [0] (va_runV (As := [.int p0]) (rest := [.ref h_o]) ⟨hx, hb, hml, hown, hts⟩ (ctX1_isPersonN l D dA _ h_o p0 o_taped r1.1 o_fault r1.2 o_imageMany o_undoMany o_firstRest o_catAt (o_tape) (o_scanner) (o_town) (o_was) (o_trial) (o_night) (o_plans) (o_undone) (o_images) (o_often) (o_next) r3 er3) (cwV 1 hts (lw_V q913 q915 qs24 q113 q916) rfl rfl rfl (by decide +kernel) ⟨Nat.le_of_ble_eq_true rfl, Nat.le_of_ble_eq_true rfl⟩) (pre_V (hP.sub [0] rfl) hK (hD.sub [0] (by decide) rfl) (ci := 0) (q0 := 0) rfl rfl) rfl rfl hl.1 rfl (lv_room (Nat.le_of_ble_eq_true rfl)) dX1_nights_7 ⟨Nat.le_of_ble_eq_true rfl, Nat.le_of_ble_eq_true rfl⟩) hP hD hS hA rfl (fun _ => rfl) (fun u4 H locs hP hD hS => ?_)
  have hP : va_P D clG [(h_o, .inr (0, [o_tape, .int o_taped, o_scanner, .null, .int r1.1, .int o_fault, .int r1.2, .int o_imageMany, .int o_undoMany, o_town, o_was, o_trial, o_night, o_plans, o_undone, o_images, o_often, .int o_firstRest, o_next, .int o_catAt]))] H := hP
  have hD : va_D A [(h_o, .inr (0, [o_tape, .int o_taped, o_scanner, .null, .int r1.1, .int o_fault, .int r1.2, .int o_imageMany, .int o_undoMany, o_town, o_was, o_trial, o_night, o_plans, o_undone, o_images, o_often, .int o_firstRest, o_next, .int o_catAt]))] := hD
  have kr3 := krX1_isPersonN _ er3
  refine lv_toi (v := (0 : Int32)) (by rw [kr3]; rfl) ?_
  refine lv_iload_n hx hb dX1_nights_10 rfl (lv_at hl 2 rfl) ?_
  refine lv_iload_n hx hb dX1_nights_11 rfl (lv_at hl 3 rfl) ?_
  obtain ⟨r5, er5, hM⟩ := b_inv hM
  refine k_i0 [0] (va_runV (As := [.int (0 : Int32), .int p1, .int p2]) (rest := []) ⟨hx, hb, hml, hown, hts⟩ (ctX1_nightsWhyF l D dA _ h_o p1 p2 o_taped r1.1 o_fault r1.2 o_imageMany o_undoMany o_firstRest o_catAt (o_tape) (o_scanner) (.null) (o_town) (o_was) (o_trial) (o_night) (o_plans) (o_undone) (o_images) (o_often) (o_next) r5 er5) (cwV 3 hts (lw_V q1269 q1271 qs46 q113 q1272) rfl rfl rfl (by decide +kernel) ⟨Nat.le_of_ble_eq_true rfl, Nat.le_of_ble_eq_true rfl⟩) (pre_V (hP.sub [0] rfl) hK (hD.sub [0] (by decide) rfl) (ci := 0) (q0 := 0) rfl rfl) rfl rfl hl.1 rfl (lv_room (Nat.le_of_ble_eq_true rfl)) dX1_nights_12 ⟨Nat.le_of_ble_eq_true rfl, Nat.le_of_ble_eq_true rfl⟩) hP hD hS hA rfl (fun _ => rfl) (fun u6 H locs hP hD hS => ?_)
  have hP : va_P D clG [(h_o, .inr (0, [o_tape, .int o_taped, o_scanner, .null, .int r1.1, .int o_fault, .int r1.2, .int o_imageMany, .int o_undoMany, o_town, o_was, o_trial, o_night, o_plans, o_undone, o_images, o_often, .int o_firstRest, o_next, .int o_catAt]))] H := hP
  have hD : va_D A [(h_o, .inr (0, [o_tape, .int o_taped, o_scanner, .null, .int r1.1, .int o_fault, .int r1.2, .int o_imageMany, .int o_undoMany, o_town, o_was, o_trial, o_night, o_plans, o_undone, o_images, o_often, .int o_firstRest, o_next, .int o_catAt]))] := hD
  have kr5 := krX1_nightsWhyF p1 p2 _ er5
  refine lv_toi (v := (1 : Int32)) (by rw [kr5]) ?_
  refine lv_istore (lv' := [(4, .int (1 : Int32)), (0, .ref h_o), (1, .int p0), (2, .int p1), (3, .int p2)]) hx hb dX1_nights_15 hl (by decide) rfl (fun ls hl => ?_)
  have hl := lv_sub (l' := [(4, .int (1 : Int32)), (0, .ref h_o), (1, .int p0)]) hl [0, 1, 2] rfl
  refine lv_iload hx hb dX1_nights_17 (lv_at hl 0 rfl) ?_
  refine lv_if_eq (tgt := 31) hx hb dX1_nights_19 (by decide) (fun c7 => absurd c7 (by decide)) (fun _ => ?_)
  refine lv_aload_n hx hb dX1_nights_22 rfl (lv_at hl 1 rfl) ?_
  refine lv_iload hx hb dX1_nights_23 (lv_at hl 0 rfl) ?_
  obtain ⟨r8, er8, hM⟩ := b_inv hM
  refine k_i0 [0] (va_runV (As := [.int (1 : Int32)]) (rest := []) ⟨hx, hb, hml, hown, hts⟩ (ctX1_no l D dA _ h_o (1 : Int32) o_taped r1.1 o_fault r1.2 o_imageMany o_undoMany o_firstRest o_catAt (o_tape) (o_scanner) (.null) (o_town) (o_was) (o_trial) (o_night) (o_plans) (o_undone) (o_images) (o_often) (o_next) r8 er8) (cwV 1 hts (lw_V q439 q441 qs3 q113 q442) rfl rfl rfl (by decide +kernel) ⟨Nat.le_of_ble_eq_true rfl, Nat.le_of_ble_eq_true rfl⟩) (pre_V (hP.sub [0] rfl) hK (hD.sub [0] (by decide) rfl) (ci := 0) (q0 := 0) rfl rfl) rfl rfl hl.1 rfl (lv_room (Nat.le_of_ble_eq_true rfl)) dX1_nights_25 ⟨Nat.le_of_ble_eq_true rfl, Nat.le_of_ble_eq_true rfl⟩) hP hD hS hA rfl (fun _ => rfl) (fun u9 H locs hP hD hS => ?_)
  have hP : va_P D clG [(h_o, .inr (0, [o_tape, .int o_taped, o_scanner, .null, .int r8.2, .int o_fault, .int r1.2, .int o_imageMany, .int o_undoMany, o_town, o_was, o_trial, o_night, o_plans, o_undone, o_images, o_often, .int o_firstRest, o_next, .int o_catAt]))] H := hP
  have hD : va_D A [(h_o, .inr (0, [o_tape, .int o_taped, o_scanner, .null, .int r8.2, .int o_fault, .int r1.2, .int o_imageMany, .int o_undoMany, o_town, o_was, o_trial, o_night, o_plans, o_undone, o_images, o_often, .int o_firstRest, o_next, .int o_catAt]))] := hD
  refine lv_goto (tgt := 40) hx hb dX1_nights_28 (by decide) ?_
  have hM := Option.some.inj hM
  subst hM
  exact W.iret (v := r8.1) hx hb hr (fun t ht hW => ⟨⟨r8.1, (), rfl, rfl, by rw [ht]; exact hP, hD⟩, hS.F ht⟩) hS.2.2 dX1_nights_40

set_option maxHeartbeats 40000000 in
set_option maxRecDepth 100000 in
theorem ctX7_refusesSeedF (l : Launch) (D : va_G) (dA : Nat → ClassId) (sz : Nat) (h_m : Nat) (p1 : Int32) (p2 : Int32) (m_thrown : Int32) (m_trouble : Int32) (m_where : Int32) (m_taped : Int32) (m_size : Int32) (m_spot : Int32) (m_sort : Int32) (m_place : Int32) (m_number : Int32) (m_fault : Int32) (m_wrongAt : Int32) (m_word : Int64) (m_askedOf : Int32) (m_acts : Int32) (m_images : Int32) (m_catGets : Int32) (m_whole : Int64) (m_bestSum : Int64) (m_tourHoursNow : Int32) (m_fitsNow : Int32) (m_foundHour : Int32) (m_lookLeft : Int32) (m_firstCatNow : Int32) (m_city : Value) (m_read : Value) (m_tape : Value) (m_v : Value) (m_x : Value) (m_past : Value) (m_kept : Value) (m_heir : Value) (m_then : Value) (m_come : Value) (m_comeThen : Value) (m_hour : Value) (m_partIn : Value) (m_heirIn : Value) (res : Int32) (hM : MX7_refusesSeedF  = some res) : Met l yX7_refusesSeed (ws_ yX7_refusesSeed cX7_refusesSeed 4 (some .int)) ({ frames := 0, cells := 0, slots := 0, locals := 0 }) (pre_ D dA [.ref h_m, .int (0 : Int32), .int p1, .int p2] [(h_m, .inr (11, [.int m_thrown, .int m_trouble, .int m_where, m_city, m_read, m_tape, .int m_taped, .int m_size, .int m_spot, .int m_sort, .int m_place, .int m_number, .int m_fault, .int m_wrongAt, .long m_word, .int m_askedOf, m_v, m_x, m_past, m_kept, .int m_acts, .int m_images, m_heir, m_then, .int m_catGets, .long m_whole, .long m_bestSum, m_come, m_comeThen, .int m_tourHoursNow, m_hour, m_partIn, m_heirIn, .int m_fitsNow, .int m_foundHour, .int m_lookLeft, .int m_firstCatNow]))] sz) (qi_ D res (fun (u : Unit) => [(h_m, .inr (11, [.int m_thrown, .int m_trouble, .int m_where, m_city, m_read, m_tape, .int m_taped, .int m_size, .int m_spot, .int m_sort, .int m_place, .int m_number, .int m_fault, .int m_wrongAt, .long m_word, .int m_askedOf, m_v, m_x, m_past, m_kept, .int m_acts, .int m_images, m_heir, m_then, .int m_catGets, .long m_whole, .long m_bestSum, m_come, m_comeThen, .int m_tourHoursNow, m_hour, m_partIn, m_heirIn, .int m_fitsNow, .int m_foundHour, .int m_lookLeft, .int m_firstCatNow]))]) (va_A [(h_m, .inr (11, [.int m_thrown, .int m_trouble, .int m_where, m_city, m_read, m_tape, .int m_taped, .int m_size, .int m_spot, .int m_sort, .int m_place, .int m_number, .int m_fault, .int m_wrongAt, .long m_word, .int m_askedOf, m_v, m_x, m_past, m_kept, .int m_acts, .int m_images, m_heir, m_then, .int m_catGets, .long m_whole, .long m_bestSum, m_come, m_comeThen, .int m_tourHoursNow, m_hour, m_partIn, m_heirIn, .int m_fitsNow, .int m_foundHour, .int m_lookLeft, .int m_firstCatNow]))] sz)) 0 0 (va_A [(h_m, .inr (11, [.int m_thrown, .int m_trouble, .int m_where, m_city, m_read, m_tape, .int m_taped, .int m_size, .int m_spot, .int m_sort, .int m_place, .int m_number, .int m_fault, .int m_wrongAt, .long m_word, .int m_askedOf, m_v, m_x, m_past, m_kept, .int m_acts, .int m_images, m_heir, m_then, .int m_catGets, .long m_whole, .long m_bestSum, m_come, m_comeThen, .int m_tourHoursNow, m_hour, m_partIn, m_heirIn, .int m_fitsNow, .int m_foundHour, .int m_lookLeft, .int m_firstCatNow]))] sz) := by
  refine Met.ofW (cc := cX7_refusesSeed) (maxL := 4) (ret := (some .int)) (by decide) rfl ?_
  intro p e s m args below meth c s₁ B hml hv
  obtain ⟨rfl, hsz, hP, hK, hD0⟩ := hv
  have hx := B.exec
  have hb := B.bytes
  have hr := B.returns
  have hts := atoms_spec (ws := (ws_ yX7_refusesSeed cX7_refusesSeed 4 (some .int))) B.pre
  have hts : ∀ w ∈ lw_all, w.before _ s = true := fun w h => hts w (List.mem_cons_of_mem _ h)
  have hown : s.vm.findClass RX7 = some m.cls := findClass_of_methodNamed B.named
  have hlocks := B.notSynchronized
  subst hsz
  have hD := hD0.self (sz := s.heap.size)
  generalize hAe : va_A [(h_m, .inr (11, [.int m_thrown, .int m_trouble, .int m_where, m_city, m_read, m_tape, .int m_taped, .int m_size, .int m_spot, .int m_sort, .int m_place, .int m_number, .int m_fault, .int m_wrongAt, .long m_word, .int m_askedOf, m_v, m_x, m_past, m_kept, .int m_acts, .int m_images, m_heir, m_then, .int m_catGets, .long m_whole, .long m_bestSum, m_come, m_comeThen, .int m_tourHoursNow, m_hour, m_partIn, m_heirIn, .int m_fitsNow, .int m_foundHour, .int m_lookLeft, .int m_firstCatNow]))] s.heap.size = A at hD ⊢
  have hA : ∀ q : Nat, s.heap.size ≤ q → A q := fun q h => by rw [← hAe]; exact Or.inr h
  have hS : va_S A s.heap s.heap [] := va_S.rf
  have hP : va_P D clG [(h_m, .inr (11, [.int m_thrown, .int m_trouble, .int m_where, m_city, m_read, m_tape, .int m_taped, .int m_size, .int m_spot, .int m_sort, .int m_place, .int m_number, .int m_fault, .int m_wrongAt, .long m_word, .int m_askedOf, m_v, m_x, m_past, m_kept, .int m_acts, .int m_images, m_heir, m_then, .int m_catGets, .long m_whole, .long m_bestSum, m_come, m_comeThen, .int m_tourHoursNow, m_hour, m_partIn, m_heirIn, .int m_fitsNow, .int m_foundHour, .int m_lookLeft, .int m_firstCatNow]))] s.heap := hP
  have hl := lv_entry ([.ref h_m, .int (0 : Int32), .int p1, .int p2]) (n := 4) (Nat.le_of_ble_eq_true rfl)
  rw [lg_entry_eq]
  generalize (lg_sl ([.ref h_m, .int (0 : Int32), .int p1, .int p2]) ++ List.replicate (4 - (lg_sl ([.ref h_m, .int (0 : Int32), .int p1, .int p2])).length) Slot.unset).toArray = ls at hl ⊢
  have hl : lv_has ls 4 [(0, .ref h_m), (1, .int (0 : Int32)), (2, .int p1), (3, .int p2)] := hl
  unfold MX7_refusesSeedF at hM
  refine lv_iload_n hx hb dX7_refusesSeed_0 rfl (lv_at hl 1 rfl) ?_
  refine lv_if_ne (tgt := 8) hx hb dX7_refusesSeed_1 (by decide) (fun c1 => absurd c1 (by decide)) (fun _ => ?_)
  refine lv_iconst (v := (1 : Int32)) hx hb dX7_refusesSeed_4 (by decide) ?_
  refine lv_goto (tgt := 34) hx hb dX7_refusesSeed_5 (by decide) ?_
  have hM := Option.some.inj hM
  subst hM
  exact W.iret (v := (1 : Int32)) hx hb hr (fun t ht hW => ⟨⟨(1 : Int32), (), rfl, rfl, by rw [ht]; exact hP, hD⟩, hS.F ht⟩) hS.2.2 dX7_refusesSeed_34
theorem krX7_refusesSeedF  (res : Int32) (h : MX7_refusesSeedF  = some res) : res = (1 : Int32) := by
  unfold MX7_refusesSeedF at h
  repeat first | (obtain ⟨_, _, h⟩ := b_inv h) | (split at h)
  all_goals (cases h; rfl)

set_option maxHeartbeats 40000000 in
set_option maxRecDepth 100000 in
theorem ctX7_nightsN (l : Launch) (D : va_G) (dA : Nat → ClassId) (sz : Nat) (h_m : Nat) (p0 : Int32) (p1 : Int32) (p2 : Int32) (m_thrown : Int32) (m_trouble : Int32) (m_where : Int32) (m_taped : Int32) (m_size : Int32) (m_spot : Int32) (m_sort : Int32) (m_place : Int32) (m_number : Int32) (m_fault : Int32) (m_wrongAt : Int32) (m_word : Int64) (m_askedOf : Int32) (m_acts : Int32) (m_images : Int32) (m_catGets : Int32) (m_whole : Int64) (m_bestSum : Int64) (m_tourHoursNow : Int32) (m_fitsNow : Int32) (m_foundHour : Int32) (m_lookLeft : Int32) (m_firstCatNow : Int32) (m_read : Value) (m_tape : Value) (m_v : Value) (m_x : Value) (m_past : Value) (m_kept : Value) (m_heir : Value) (m_then : Value) (m_come : Value) (m_comeThen : Value) (m_hour : Value) (m_partIn : Value) (m_heirIn : Value) (res : (Int32 × Int32 × Int32 × Int32)) (hM : MX7_nightsN  = some res) : Met l yX7_nights (ws_ yX7_nights cX7_nights 5 (some .int)) ({ frames := 1, cells := 0, slots := 0, locals := 23 }) (pre_ D dA [.ref h_m, .int p0, .int p1, .int p2] [(h_m, .inr (11, [.int m_thrown, .int m_trouble, .int m_where, .null, m_read, m_tape, .int m_taped, .int m_size, .int m_spot, .int m_sort, .int m_place, .int m_number, .int m_fault, .int m_wrongAt, .long m_word, .int m_askedOf, m_v, m_x, m_past, m_kept, .int m_acts, .int m_images, m_heir, m_then, .int m_catGets, .long m_whole, .long m_bestSum, m_come, m_comeThen, .int m_tourHoursNow, m_hour, m_partIn, m_heirIn, .int m_fitsNow, .int m_foundHour, .int m_lookLeft, .int m_firstCatNow]))] sz) (qi_ D res.1 (fun (u : Unit) => [(h_m, .inr (11, [.int res.2.1, .int res.2.2.1, .int res.2.2.2, .null, m_read, m_tape, .int m_taped, .int m_size, .int m_spot, .int m_sort, .int m_place, .int m_number, .int m_fault, .int m_wrongAt, .long m_word, .int m_askedOf, m_v, m_x, m_past, m_kept, .int m_acts, .int m_images, m_heir, m_then, .int m_catGets, .long m_whole, .long m_bestSum, m_come, m_comeThen, .int m_tourHoursNow, m_hour, m_partIn, m_heirIn, .int m_fitsNow, .int m_foundHour, .int m_lookLeft, .int m_firstCatNow]))]) (va_A [(h_m, .inr (11, [.int m_thrown, .int m_trouble, .int m_where, .null, m_read, m_tape, .int m_taped, .int m_size, .int m_spot, .int m_sort, .int m_place, .int m_number, .int m_fault, .int m_wrongAt, .long m_word, .int m_askedOf, m_v, m_x, m_past, m_kept, .int m_acts, .int m_images, m_heir, m_then, .int m_catGets, .long m_whole, .long m_bestSum, m_come, m_comeThen, .int m_tourHoursNow, m_hour, m_partIn, m_heirIn, .int m_fitsNow, .int m_foundHour, .int m_lookLeft, .int m_firstCatNow]))] sz)) 0 0 (va_A [(h_m, .inr (11, [.int m_thrown, .int m_trouble, .int m_where, .null, m_read, m_tape, .int m_taped, .int m_size, .int m_spot, .int m_sort, .int m_place, .int m_number, .int m_fault, .int m_wrongAt, .long m_word, .int m_askedOf, m_v, m_x, m_past, m_kept, .int m_acts, .int m_images, m_heir, m_then, .int m_catGets, .long m_whole, .long m_bestSum, m_come, m_comeThen, .int m_tourHoursNow, m_hour, m_partIn, m_heirIn, .int m_fitsNow, .int m_foundHour, .int m_lookLeft, .int m_firstCatNow]))] sz) := by
  refine Met.ofW (cc := cX7_nights) (maxL := 5) (ret := (some .int)) (by decide) rfl ?_
  intro p e s m args below meth c s₁ B hml hv
  obtain ⟨rfl, hsz, hP, hK, hD0⟩ := hv
  have hx := B.exec
  have hb := B.bytes
  have hr := B.returns
  have hts := atoms_spec (ws := (ws_ yX7_nights cX7_nights 5 (some .int))) B.pre
  have hts : ∀ w ∈ lw_all, w.before _ s = true := fun w h => hts w (List.mem_cons_of_mem _ h)
  have hown : s.vm.findClass RX7 = some m.cls := findClass_of_methodNamed B.named
  have hlocks := B.notSynchronized
  subst hsz
  have hD := hD0.self (sz := s.heap.size)
  generalize hAe : va_A [(h_m, .inr (11, [.int m_thrown, .int m_trouble, .int m_where, .null, m_read, m_tape, .int m_taped, .int m_size, .int m_spot, .int m_sort, .int m_place, .int m_number, .int m_fault, .int m_wrongAt, .long m_word, .int m_askedOf, m_v, m_x, m_past, m_kept, .int m_acts, .int m_images, m_heir, m_then, .int m_catGets, .long m_whole, .long m_bestSum, m_come, m_comeThen, .int m_tourHoursNow, m_hour, m_partIn, m_heirIn, .int m_fitsNow, .int m_foundHour, .int m_lookLeft, .int m_firstCatNow]))] s.heap.size = A at hD ⊢
  have hA : ∀ q : Nat, s.heap.size ≤ q → A q := fun q h => by rw [← hAe]; exact Or.inr h
  have hS : va_S A s.heap s.heap [] := va_S.rf
  have hP : va_P D clG [(h_m, .inr (11, [.int m_thrown, .int m_trouble, .int m_where, .null, m_read, m_tape, .int m_taped, .int m_size, .int m_spot, .int m_sort, .int m_place, .int m_number, .int m_fault, .int m_wrongAt, .long m_word, .int m_askedOf, m_v, m_x, m_past, m_kept, .int m_acts, .int m_images, m_heir, m_then, .int m_catGets, .long m_whole, .long m_bestSum, m_come, m_comeThen, .int m_tourHoursNow, m_hour, m_partIn, m_heirIn, .int m_fitsNow, .int m_foundHour, .int m_lookLeft, .int m_firstCatNow]))] s.heap := hP
  have hl := lv_entry ([.ref h_m, .int p0, .int p1, .int p2]) (n := 5) (Nat.le_of_ble_eq_true rfl)
  rw [lg_entry_eq]
  generalize (lg_sl ([.ref h_m, .int p0, .int p1, .int p2]) ++ List.replicate (5 - (lg_sl ([.ref h_m, .int p0, .int p1, .int p2])).length) Slot.unset).toArray = ls at hl ⊢
  have hl : lv_has ls 5 [(0, .ref h_m), (1, .int p0), (2, .int p1), (3, .int p2)] := hl
  unfold MX7_nightsN at hM
  refine lv_aload_n hx hb dX7_nights_0 rfl (lv_at hl 0 rfl) ?_
  refine lv_iconst (v := (0 : Int32)) hx hb dX7_nights_1 (by decide) ?_
  refine va_put (D := D) (ci := 11) (v := .int (0 : Int32)) (ty := .int) (C := RX7) (T := TX7) (N := 37) hx hb hts in_X7 tyX7 tyX7_ok nmX7 hown hK.1 hP hD hS 0 rfl rfl 0 (by decide) (hts _ q1372) (fun _ h9 => h9) rfl (by decide +kernel) rfl rfl (Nat.le_of_ble_eq_true rfl) dX7_nights_2 (fun H locs hP hD hS => ?_)
  have hP : va_P D clG [(h_m, .inr (11, [.int (0 : Int32), .int m_trouble, .int m_where, .null, m_read, m_tape, .int m_taped, .int m_size, .int m_spot, .int m_sort, .int m_place, .int m_number, .int m_fault, .int m_wrongAt, .long m_word, .int m_askedOf, m_v, m_x, m_past, m_kept, .int m_acts, .int m_images, m_heir, m_then, .int m_catGets, .long m_whole, .long m_bestSum, m_come, m_comeThen, .int m_tourHoursNow, m_hour, m_partIn, m_heirIn, .int m_fitsNow, .int m_foundHour, .int m_lookLeft, .int m_firstCatNow]))] H := hP
  have hD : va_D A [(h_m, .inr (11, [.int (0 : Int32), .int m_trouble, .int m_where, .null, m_read, m_tape, .int m_taped, .int m_size, .int m_spot, .int m_sort, .int m_place, .int m_number, .int m_fault, .int m_wrongAt, .long m_word, .int m_askedOf, m_v, m_x, m_past, m_kept, .int m_acts, .int m_images, m_heir, m_then, .int m_catGets, .long m_whole, .long m_bestSum, m_come, m_comeThen, .int m_tourHoursNow, m_hour, m_partIn, m_heirIn, .int m_fitsNow, .int m_foundHour, .int m_lookLeft, .int m_firstCatNow]))] := hD
  refine lv_aload_n hx hb dX7_nights_5 rfl (lv_at hl 0 rfl) ?_
  refine lv_aload_n hx hb dX7_nights_6 rfl (lv_at hl 0 rfl) ?_
  refine lv_iload_n hx hb dX7_nights_7 rfl (lv_at hl 1 rfl) ?_
  obtain ⟨r1, er1, hM⟩ := b_inv hM
  refine k_i0 [0] (va_runV (As := [.int p0]) (rest := [.ref h_m]) ⟨hx, hb, hml, hown, hts⟩ (ctX7_isPersonN l D dA _ h_m p0 (0 : Int32) m_trouble m_where m_taped m_size m_spot m_sort m_place m_number m_fault m_wrongAt m_word m_askedOf m_acts m_images m_catGets m_whole m_bestSum m_tourHoursNow m_fitsNow m_foundHour m_lookLeft m_firstCatNow (m_read) (m_tape) (m_v) (m_x) (m_past) (m_kept) (m_heir) (m_then) (m_come) (m_comeThen) (m_hour) (m_partIn) (m_heirIn) r1 er1) (cwV 1 hts (lw_V q1733 q1735 qs71 q122 q1736) rfl rfl rfl (by decide +kernel) ⟨Nat.le_of_ble_eq_true rfl, Nat.le_of_ble_eq_true rfl⟩) (pre_V (hP.sub [0] rfl) hK (hD.sub [0] (by decide) rfl) (ci := 11) (q0 := 0) rfl rfl) rfl rfl hl.1 rfl (lv_room (Nat.le_of_ble_eq_true rfl)) dX7_nights_8 ⟨Nat.le_of_ble_eq_true rfl, Nat.le_of_ble_eq_true rfl⟩) hP hD hS hA rfl (fun _ => rfl) (fun u2 H locs hP hD hS => ?_)
  have hP : va_P D clG [(h_m, .inr (11, [.int (0 : Int32), .int m_trouble, .int m_where, .null, m_read, m_tape, .int m_taped, .int m_size, .int m_spot, .int m_sort, .int m_place, .int m_number, .int m_fault, .int m_wrongAt, .long m_word, .int m_askedOf, m_v, m_x, m_past, m_kept, .int m_acts, .int m_images, m_heir, m_then, .int m_catGets, .long m_whole, .long m_bestSum, m_come, m_comeThen, .int m_tourHoursNow, m_hour, m_partIn, m_heirIn, .int m_fitsNow, .int m_foundHour, .int m_lookLeft, .int m_firstCatNow]))] H := hP
  have hD : va_D A [(h_m, .inr (11, [.int (0 : Int32), .int m_trouble, .int m_where, .null, m_read, m_tape, .int m_taped, .int m_size, .int m_spot, .int m_sort, .int m_place, .int m_number, .int m_fault, .int m_wrongAt, .long m_word, .int m_askedOf, m_v, m_x, m_past, m_kept, .int m_acts, .int m_images, m_heir, m_then, .int m_catGets, .long m_whole, .long m_bestSum, m_come, m_comeThen, .int m_tourHoursNow, m_hour, m_partIn, m_heirIn, .int m_fitsNow, .int m_foundHour, .int m_lookLeft, .int m_firstCatNow]))] := hD
  have kr1 := krX7_isPersonN _ er1
  refine lv_toi (v := (0 : Int32)) (by rw [kr1]; rfl) ?_
  refine lv_iload_n hx hb dX7_nights_11 rfl (lv_at hl 2 rfl) ?_
  refine lv_iload_n hx hb dX7_nights_12 rfl (lv_at hl 3 rfl) ?_
  obtain ⟨r3, er3, hM⟩ := b_inv hM
  refine k_i0 [0] (va_runV (As := [.int (0 : Int32), .int p1, .int p2]) (rest := []) ⟨hx, hb, hml, hown, hts⟩ (ctX7_refusesSeedF l D dA _ h_m p1 p2 (0 : Int32) m_trouble m_where m_taped m_size m_spot m_sort m_place m_number m_fault m_wrongAt m_word m_askedOf m_acts m_images m_catGets m_whole m_bestSum m_tourHoursNow m_fitsNow m_foundHour m_lookLeft m_firstCatNow (.null) (m_read) (m_tape) (m_v) (m_x) (m_past) (m_kept) (m_heir) (m_then) (m_come) (m_comeThen) (m_hour) (m_partIn) (m_heirIn) r3 er3) (cwV 3 hts (lw_V q2014 q2016 qs104 q122 q2017) rfl rfl rfl (by decide +kernel) ⟨Nat.le_of_ble_eq_true rfl, Nat.le_of_ble_eq_true rfl⟩) (pre_V (hP.sub [0] rfl) hK (hD.sub [0] (by decide) rfl) (ci := 11) (q0 := 0) rfl rfl) rfl rfl hl.1 rfl (lv_room (Nat.le_of_ble_eq_true rfl)) dX7_nights_13 ⟨Nat.le_of_ble_eq_true rfl, Nat.le_of_ble_eq_true rfl⟩) hP hD hS hA rfl (fun _ => rfl) (fun u4 H locs hP hD hS => ?_)
  have hP : va_P D clG [(h_m, .inr (11, [.int (0 : Int32), .int m_trouble, .int m_where, .null, m_read, m_tape, .int m_taped, .int m_size, .int m_spot, .int m_sort, .int m_place, .int m_number, .int m_fault, .int m_wrongAt, .long m_word, .int m_askedOf, m_v, m_x, m_past, m_kept, .int m_acts, .int m_images, m_heir, m_then, .int m_catGets, .long m_whole, .long m_bestSum, m_come, m_comeThen, .int m_tourHoursNow, m_hour, m_partIn, m_heirIn, .int m_fitsNow, .int m_foundHour, .int m_lookLeft, .int m_firstCatNow]))] H := hP
  have hD : va_D A [(h_m, .inr (11, [.int (0 : Int32), .int m_trouble, .int m_where, .null, m_read, m_tape, .int m_taped, .int m_size, .int m_spot, .int m_sort, .int m_place, .int m_number, .int m_fault, .int m_wrongAt, .long m_word, .int m_askedOf, m_v, m_x, m_past, m_kept, .int m_acts, .int m_images, m_heir, m_then, .int m_catGets, .long m_whole, .long m_bestSum, m_come, m_comeThen, .int m_tourHoursNow, m_hour, m_partIn, m_heirIn, .int m_fitsNow, .int m_foundHour, .int m_lookLeft, .int m_firstCatNow]))] := hD
  have kr3 := krX7_refusesSeedF _ er3
  refine lv_toi (v := (1 : Int32)) (by rw [kr3]) ?_
  refine lv_istore (lv' := [(4, .int (1 : Int32)), (0, .ref h_m), (1, .int p0), (2, .int p1), (3, .int p2)]) hx hb dX7_nights_16 hl (by decide) rfl (fun ls hl => ?_)
  refine lv_iload hx hb dX7_nights_18 (lv_at hl 0 rfl) ?_
  refine lv_if_le (tgt := 30) hx hb dX7_nights_20 (by decide) (fun c5 => absurd c5 (by decide)) (fun _ => ?_)
  refine lv_aload_n hx hb dX7_nights_23 rfl (lv_at hl 1 rfl) ?_
  refine lv_iload hx hb dX7_nights_24 (lv_at hl 0 rfl) ?_
  obtain ⟨r6, er6, hM⟩ := b_inv hM
  refine k_i0 [0] (va_runV (As := [.int (1 : Int32)]) (rest := []) ⟨hx, hb, hml, hown, hts⟩ (ctX7_refused l D dA _ h_m (1 : Int32) (0 : Int32) m_trouble m_where m_taped m_size m_spot m_sort m_place m_number m_fault m_wrongAt m_word m_askedOf m_acts m_images m_catGets m_whole m_bestSum m_tourHoursNow m_fitsNow m_foundHour m_lookLeft m_firstCatNow (.null) (m_read) (m_tape) (m_v) (m_x) (m_past) (m_kept) (m_heir) (m_then) (m_come) (m_comeThen) (m_hour) (m_partIn) (m_heirIn) r6 er6) (cwV 1 hts (lw_V q1496 q1498 qs50 q122 q1499) rfl rfl rfl (by decide +kernel) ⟨Nat.le_of_ble_eq_true rfl, Nat.le_of_ble_eq_true rfl⟩) (pre_V (hP.sub [0] rfl) hK (hD.sub [0] (by decide) rfl) (ci := 11) (q0 := 0) rfl rfl) rfl rfl hl.1 rfl (lv_room (Nat.le_of_ble_eq_true rfl)) dX7_nights_26 ⟨Nat.le_of_ble_eq_true rfl, Nat.le_of_ble_eq_true rfl⟩) hP hD hS hA rfl (fun _ => rfl) (fun u7 H locs hP hD hS => ?_)
  have hP : va_P D clG [(h_m, .inr (11, [.int (0 : Int32), .int r6.2.1, .int r6.2.2, .null, m_read, m_tape, .int m_taped, .int m_size, .int m_spot, .int m_sort, .int m_place, .int m_number, .int m_fault, .int m_wrongAt, .long m_word, .int m_askedOf, m_v, m_x, m_past, m_kept, .int m_acts, .int m_images, m_heir, m_then, .int m_catGets, .long m_whole, .long m_bestSum, m_come, m_comeThen, .int m_tourHoursNow, m_hour, m_partIn, m_heirIn, .int m_fitsNow, .int m_foundHour, .int m_lookLeft, .int m_firstCatNow]))] H := hP
  have hD : va_D A [(h_m, .inr (11, [.int (0 : Int32), .int r6.2.1, .int r6.2.2, .null, m_read, m_tape, .int m_taped, .int m_size, .int m_spot, .int m_sort, .int m_place, .int m_number, .int m_fault, .int m_wrongAt, .long m_word, .int m_askedOf, m_v, m_x, m_past, m_kept, .int m_acts, .int m_images, m_heir, m_then, .int m_catGets, .long m_whole, .long m_bestSum, m_come, m_comeThen, .int m_tourHoursNow, m_hour, m_partIn, m_heirIn, .int m_fitsNow, .int m_foundHour, .int m_lookLeft, .int m_firstCatNow]))] := hD
  have hM := Option.some.inj hM
  subst hM
  exact W.iret (v := r6.1) hx hb hr (fun t ht hW => ⟨⟨r6.1, (), rfl, rfl, by rw [ht]; exact hP, hD⟩, hS.F ht⟩) hS.2.2 dX7_nights_29

set_option maxHeartbeats 40000000 in
set_option maxRecDepth 100000 in
theorem ctX1_livesN (l : Launch) (D : va_G) (dA : Nat → ClassId) (sz : Nat) (h_o : Nat) (p0 : Int32) (p1 : Int32) (o_taped : Int32) (o_trouble : Int32) (o_fault : Int32) (o_where : Int32) (o_imageMany : Int32) (o_undoMany : Int32) (o_firstRest : Int32) (o_catAt : Int32) (o_tape : Value) (o_scanner : Value) (o_town : Value) (o_was : Value) (o_trial : Value) (o_night : Value) (o_plans : Value) (o_undone : Value) (o_images : Value) (o_often : Value) (o_next : Value) (res : (Int32 × Int32 × Int32)) (hM : MX1_livesN p0 p1 = some res) : Met l yX1_lives (ws_ yX1_lives cX1_lives 4 (some .int)) ({ frames := 2, cells := 0, slots := 0, locals := 48 }) (pre_ D dA [.ref h_o, .int p0, .int p1] [(h_o, .inr (0, [o_tape, .int o_taped, o_scanner, .null, .int o_trouble, .int o_fault, .int o_where, .int o_imageMany, .int o_undoMany, o_town, o_was, o_trial, o_night, o_plans, o_undone, o_images, o_often, .int o_firstRest, o_next, .int o_catAt]))] sz) (qi_ D res.1 (fun (u : Unit) => [(h_o, .inr (0, [o_tape, .int o_taped, o_scanner, .null, .int res.2.1, .int o_fault, .int res.2.2, .int o_imageMany, .int o_undoMany, o_town, o_was, o_trial, o_night, o_plans, o_undone, o_images, o_often, .int o_firstRest, o_next, .int o_catAt]))]) (va_A [(h_o, .inr (0, [o_tape, .int o_taped, o_scanner, .null, .int o_trouble, .int o_fault, .int o_where, .int o_imageMany, .int o_undoMany, o_town, o_was, o_trial, o_night, o_plans, o_undone, o_images, o_often, .int o_firstRest, o_next, .int o_catAt]))] sz)) 0 0 (va_A [(h_o, .inr (0, [o_tape, .int o_taped, o_scanner, .null, .int o_trouble, .int o_fault, .int o_where, .int o_imageMany, .int o_undoMany, o_town, o_was, o_trial, o_night, o_plans, o_undone, o_images, o_often, .int o_firstRest, o_next, .int o_catAt]))] sz) := by
  refine Met.ofW (cc := cX1_lives) (maxL := 4) (ret := (some .int)) (by decide) rfl ?_
  intro p e s m args below meth c s₁ B hml hv
  obtain ⟨rfl, hsz, hP, hK, hD0⟩ := hv
  have hx := B.exec
  have hb := B.bytes
  have hr := B.returns
  have hts := atoms_spec (ws := (ws_ yX1_lives cX1_lives 4 (some .int))) B.pre
  have hts : ∀ w ∈ lw_all, w.before _ s = true := fun w h => hts w (List.mem_cons_of_mem _ h)
  have hown : s.vm.findClass RX1 = some m.cls := findClass_of_methodNamed B.named
  have hlocks := B.notSynchronized
  subst hsz
  have hD := hD0.self (sz := s.heap.size)
  generalize hAe : va_A [(h_o, .inr (0, [o_tape, .int o_taped, o_scanner, .null, .int o_trouble, .int o_fault, .int o_where, .int o_imageMany, .int o_undoMany, o_town, o_was, o_trial, o_night, o_plans, o_undone, o_images, o_often, .int o_firstRest, o_next, .int o_catAt]))] s.heap.size = A at hD ⊢
  have hA : ∀ q : Nat, s.heap.size ≤ q → A q := fun q h => by rw [← hAe]; exact Or.inr h
  have hS : va_S A s.heap s.heap [] := va_S.rf
  have hP : va_P D clG [(h_o, .inr (0, [o_tape, .int o_taped, o_scanner, .null, .int o_trouble, .int o_fault, .int o_where, .int o_imageMany, .int o_undoMany, o_town, o_was, o_trial, o_night, o_plans, o_undone, o_images, o_often, .int o_firstRest, o_next, .int o_catAt]))] s.heap := hP
  have hl := lv_entry ([.ref h_o, .int p0, .int p1]) (n := 4) (Nat.le_of_ble_eq_true rfl)
  rw [lg_entry_eq]
  generalize (lg_sl ([.ref h_o, .int p0, .int p1]) ++ List.replicate (4 - (lg_sl ([.ref h_o, .int p0, .int p1])).length) Slot.unset).toArray = ls at hl ⊢
  have hl : lv_has ls 4 [(0, .ref h_o), (1, .int p0), (2, .int p1)] := hl
  unfold MX1_livesN at hM
  refine lv_aload_n hx hb dX1_lives_0 rfl (lv_at hl 0 rfl) ?_
  obtain ⟨r1, er1, hM⟩ := b_inv hM
  refine k_v0 [0] (va_runV (As := []) (rest := []) ⟨hx, hb, hml, hown, hts⟩ (ctX1_anew l D dA _ h_o o_taped o_trouble o_fault o_where o_imageMany o_undoMany o_firstRest o_catAt (o_tape) (o_scanner) (.null) (o_town) (o_was) (o_trial) (o_night) (o_plans) (o_undone) (o_images) (o_often) (o_next) r1 er1) (cwV 0 hts (lw_V q432 q434 qs2 q113 q435) rfl rfl rfl (by decide +kernel) ⟨Nat.le_of_ble_eq_true rfl, Nat.le_of_ble_eq_true rfl⟩) (pre_V (hP.sub [0] rfl) hK (hD.sub [0] (by decide) rfl) (ci := 0) (q0 := 0) rfl rfl) rfl rfl hl.1 rfl (lv_room (Nat.le_of_ble_eq_true rfl)) dX1_lives_1 ⟨Nat.le_of_ble_eq_true rfl, Nat.le_of_ble_eq_true rfl⟩) hP hD hS hA rfl (fun _ => rfl) (fun u2 H locs hP hD hS => ?_)
  have hP : va_P D clG [(h_o, .inr (0, [o_tape, .int o_taped, o_scanner, .null, .int r1.1, .int o_fault, .int r1.2, .int o_imageMany, .int o_undoMany, o_town, o_was, o_trial, o_night, o_plans, o_undone, o_images, o_often, .int o_firstRest, o_next, .int o_catAt]))] H := hP
  have hD : va_D A [(h_o, .inr (0, [o_tape, .int o_taped, o_scanner, .null, .int r1.1, .int o_fault, .int r1.2, .int o_imageMany, .int o_undoMany, o_town, o_was, o_trial, o_night, o_plans, o_undone, o_images, o_often, .int o_firstRest, o_next, .int o_catAt]))] := hD
  refine lv_aload_n hx hb dX1_lives_4 rfl (lv_at hl 0 rfl) ?_
  refine lv_aload_n hx hb dX1_lives_5 rfl (lv_at hl 0 rfl) ?_
  refine va_get (D := D) (ci := 0) (v := .null) (C := RX1) (T := TX1) (N := 20) hx hb hts in_X1 hown hK.1 hP 0 rfl rfl 3 (by decide) (hts _ q361) (fun _ h9 => h9) rfl dX1_lives_6 ?_
  refine lv_ifnullN (tgt := 16) hx hb dX1_lives_9 (by decide) ?_
  refine lv_iconst (v := (0 : Int32)) hx hb dX1_lives_16 (by decide) ?_
  refine lv_iload_n hx hb dX1_lives_17 rfl (lv_at hl 1 rfl) ?_
  refine lv_iload_n hx hb dX1_lives_18 rfl (lv_at hl 2 rfl) ?_
  obtain ⟨r3, er3, hM⟩ := b_inv hM
  refine k_i0 [0] (va_runV (As := [.int (0 : Int32), .int p0, .int p1]) (rest := []) ⟨hx, hb, hml, hown, hts⟩ (ctX1_nightsWhyF l D dA _ h_o p0 p1 o_taped r1.1 o_fault r1.2 o_imageMany o_undoMany o_firstRest o_catAt (o_tape) (o_scanner) (.null) (o_town) (o_was) (o_trial) (o_night) (o_plans) (o_undone) (o_images) (o_often) (o_next) r3 er3) (cwV 3 hts (lw_V q1269 q1271 qs46 q113 q1272) rfl rfl rfl (by decide +kernel) ⟨Nat.le_of_ble_eq_true rfl, Nat.le_of_ble_eq_true rfl⟩) (pre_V (hP.sub [0] rfl) hK (hD.sub [0] (by decide) rfl) (ci := 0) (q0 := 0) rfl rfl) rfl rfl hl.1 rfl (lv_room (Nat.le_of_ble_eq_true rfl)) dX1_lives_19 ⟨Nat.le_of_ble_eq_true rfl, Nat.le_of_ble_eq_true rfl⟩) hP hD hS hA rfl (fun _ => rfl) (fun u4 H locs hP hD hS => ?_)
  have hP : va_P D clG [(h_o, .inr (0, [o_tape, .int o_taped, o_scanner, .null, .int r1.1, .int o_fault, .int r1.2, .int o_imageMany, .int o_undoMany, o_town, o_was, o_trial, o_night, o_plans, o_undone, o_images, o_often, .int o_firstRest, o_next, .int o_catAt]))] H := hP
  have hD : va_D A [(h_o, .inr (0, [o_tape, .int o_taped, o_scanner, .null, .int r1.1, .int o_fault, .int r1.2, .int o_imageMany, .int o_undoMany, o_town, o_was, o_trial, o_night, o_plans, o_undone, o_images, o_often, .int o_firstRest, o_next, .int o_catAt]))] := hD
  have kr3 := krX1_nightsWhyF p0 p1 _ er3
  refine lv_toi (v := (1 : Int32)) (by rw [kr3]) ?_
  refine lv_istore_n (lv' := [(3, .int (1 : Int32)), (0, .ref h_o), (1, .int p0), (2, .int p1)]) hx hb dX1_lives_22 rfl hl (by decide) rfl (fun ls hl => ?_)
  have hl := lv_sub (l' := [(3, .int (1 : Int32)), (0, .ref h_o)]) hl [0, 1] rfl
  refine lv_iload_n hx hb dX1_lives_23 rfl (lv_at hl 0 rfl) ?_
  refine lv_if_eq (tgt := 35) hx hb dX1_lives_24 (by decide) (fun c5 => absurd c5 (by decide)) (fun _ => ?_)
  refine lv_aload_n hx hb dX1_lives_27 rfl (lv_at hl 1 rfl) ?_
  refine lv_iload_n hx hb dX1_lives_28 rfl (lv_at hl 0 rfl) ?_
  obtain ⟨r6, er6, hM⟩ := b_inv hM
  refine k_i0 [0] (va_runV (As := [.int (1 : Int32)]) (rest := []) ⟨hx, hb, hml, hown, hts⟩ (ctX1_no l D dA _ h_o (1 : Int32) o_taped r1.1 o_fault r1.2 o_imageMany o_undoMany o_firstRest o_catAt (o_tape) (o_scanner) (.null) (o_town) (o_was) (o_trial) (o_night) (o_plans) (o_undone) (o_images) (o_often) (o_next) r6 er6) (cwV 1 hts (lw_V q439 q441 qs3 q113 q442) rfl rfl rfl (by decide +kernel) ⟨Nat.le_of_ble_eq_true rfl, Nat.le_of_ble_eq_true rfl⟩) (pre_V (hP.sub [0] rfl) hK (hD.sub [0] (by decide) rfl) (ci := 0) (q0 := 0) rfl rfl) rfl rfl hl.1 rfl (lv_room (Nat.le_of_ble_eq_true rfl)) dX1_lives_29 ⟨Nat.le_of_ble_eq_true rfl, Nat.le_of_ble_eq_true rfl⟩) hP hD hS hA rfl (fun _ => rfl) (fun u7 H locs hP hD hS => ?_)
  have hP : va_P D clG [(h_o, .inr (0, [o_tape, .int o_taped, o_scanner, .null, .int r6.2, .int o_fault, .int r1.2, .int o_imageMany, .int o_undoMany, o_town, o_was, o_trial, o_night, o_plans, o_undone, o_images, o_often, .int o_firstRest, o_next, .int o_catAt]))] H := hP
  have hD : va_D A [(h_o, .inr (0, [o_tape, .int o_taped, o_scanner, .null, .int r6.2, .int o_fault, .int r1.2, .int o_imageMany, .int o_undoMany, o_town, o_was, o_trial, o_night, o_plans, o_undone, o_images, o_often, .int o_firstRest, o_next, .int o_catAt]))] := hD
  refine lv_goto (tgt := 42) hx hb dX1_lives_32 (by decide) ?_
  have hM := Option.some.inj hM
  subst hM
  exact W.iret (v := r6.1) hx hb hr (fun t ht hW => ⟨⟨r6.1, (), rfl, rfl, by rw [ht]; exact hP, hD⟩, hS.F ht⟩) hS.2.2 dX1_lives_42

set_option maxHeartbeats 40000000 in
set_option maxRecDepth 100000 in
theorem ctX7_livesN (l : Launch) (D : va_G) (dA : Nat → ClassId) (sz : Nat) (h_m : Nat) (p0 : Int32) (p1 : Int32) (m_thrown : Int32) (m_trouble : Int32) (m_where : Int32) (m_taped : Int32) (m_size : Int32) (m_spot : Int32) (m_sort : Int32) (m_place : Int32) (m_number : Int32) (m_fault : Int32) (m_wrongAt : Int32) (m_word : Int64) (m_askedOf : Int32) (m_acts : Int32) (m_images : Int32) (m_catGets : Int32) (m_whole : Int64) (m_bestSum : Int64) (m_tourHoursNow : Int32) (m_fitsNow : Int32) (m_foundHour : Int32) (m_lookLeft : Int32) (m_firstCatNow : Int32) (m_read : Value) (m_tape : Value) (m_v : Value) (m_x : Value) (m_past : Value) (m_kept : Value) (m_heir : Value) (m_then : Value) (m_come : Value) (m_comeThen : Value) (m_hour : Value) (m_partIn : Value) (m_heirIn : Value) (res : (Int32 × Int32 × Int32 × Int32)) (hM : MX7_livesN  = some res) : Met l yX7_lives (ws_ yX7_lives cX7_lives 4 (some .int)) ({ frames := 1, cells := 0, slots := 0, locals := 23 }) (pre_ D dA [.ref h_m, .int p0, .int p1] [(h_m, .inr (11, [.int m_thrown, .int m_trouble, .int m_where, .null, m_read, m_tape, .int m_taped, .int m_size, .int m_spot, .int m_sort, .int m_place, .int m_number, .int m_fault, .int m_wrongAt, .long m_word, .int m_askedOf, m_v, m_x, m_past, m_kept, .int m_acts, .int m_images, m_heir, m_then, .int m_catGets, .long m_whole, .long m_bestSum, m_come, m_comeThen, .int m_tourHoursNow, m_hour, m_partIn, m_heirIn, .int m_fitsNow, .int m_foundHour, .int m_lookLeft, .int m_firstCatNow]))] sz) (qi_ D res.1 (fun (u : Unit) => [(h_m, .inr (11, [.int res.2.1, .int res.2.2.1, .int res.2.2.2, .null, m_read, m_tape, .int m_taped, .int m_size, .int m_spot, .int m_sort, .int m_place, .int m_number, .int m_fault, .int m_wrongAt, .long m_word, .int m_askedOf, m_v, m_x, m_past, m_kept, .int m_acts, .int m_images, m_heir, m_then, .int m_catGets, .long m_whole, .long m_bestSum, m_come, m_comeThen, .int m_tourHoursNow, m_hour, m_partIn, m_heirIn, .int m_fitsNow, .int m_foundHour, .int m_lookLeft, .int m_firstCatNow]))]) (va_A [(h_m, .inr (11, [.int m_thrown, .int m_trouble, .int m_where, .null, m_read, m_tape, .int m_taped, .int m_size, .int m_spot, .int m_sort, .int m_place, .int m_number, .int m_fault, .int m_wrongAt, .long m_word, .int m_askedOf, m_v, m_x, m_past, m_kept, .int m_acts, .int m_images, m_heir, m_then, .int m_catGets, .long m_whole, .long m_bestSum, m_come, m_comeThen, .int m_tourHoursNow, m_hour, m_partIn, m_heirIn, .int m_fitsNow, .int m_foundHour, .int m_lookLeft, .int m_firstCatNow]))] sz)) 0 0 (va_A [(h_m, .inr (11, [.int m_thrown, .int m_trouble, .int m_where, .null, m_read, m_tape, .int m_taped, .int m_size, .int m_spot, .int m_sort, .int m_place, .int m_number, .int m_fault, .int m_wrongAt, .long m_word, .int m_askedOf, m_v, m_x, m_past, m_kept, .int m_acts, .int m_images, m_heir, m_then, .int m_catGets, .long m_whole, .long m_bestSum, m_come, m_comeThen, .int m_tourHoursNow, m_hour, m_partIn, m_heirIn, .int m_fitsNow, .int m_foundHour, .int m_lookLeft, .int m_firstCatNow]))] sz) := by
  refine Met.ofW (cc := cX7_lives) (maxL := 4) (ret := (some .int)) (by decide) rfl ?_
  intro p e s m args below meth c s₁ B hml hv
  obtain ⟨rfl, hsz, hP, hK, hD0⟩ := hv
  have hx := B.exec
  have hb := B.bytes
  have hr := B.returns
  have hts := atoms_spec (ws := (ws_ yX7_lives cX7_lives 4 (some .int))) B.pre
  have hts : ∀ w ∈ lw_all, w.before _ s = true := fun w h => hts w (List.mem_cons_of_mem _ h)
  have hown : s.vm.findClass RX7 = some m.cls := findClass_of_methodNamed B.named
  have hlocks := B.notSynchronized
  subst hsz
  have hD := hD0.self (sz := s.heap.size)
  generalize hAe : va_A [(h_m, .inr (11, [.int m_thrown, .int m_trouble, .int m_where, .null, m_read, m_tape, .int m_taped, .int m_size, .int m_spot, .int m_sort, .int m_place, .int m_number, .int m_fault, .int m_wrongAt, .long m_word, .int m_askedOf, m_v, m_x, m_past, m_kept, .int m_acts, .int m_images, m_heir, m_then, .int m_catGets, .long m_whole, .long m_bestSum, m_come, m_comeThen, .int m_tourHoursNow, m_hour, m_partIn, m_heirIn, .int m_fitsNow, .int m_foundHour, .int m_lookLeft, .int m_firstCatNow]))] s.heap.size = A at hD ⊢
  have hA : ∀ q : Nat, s.heap.size ≤ q → A q := fun q h => by rw [← hAe]; exact Or.inr h
  have hS : va_S A s.heap s.heap [] := va_S.rf
  have hP : va_P D clG [(h_m, .inr (11, [.int m_thrown, .int m_trouble, .int m_where, .null, m_read, m_tape, .int m_taped, .int m_size, .int m_spot, .int m_sort, .int m_place, .int m_number, .int m_fault, .int m_wrongAt, .long m_word, .int m_askedOf, m_v, m_x, m_past, m_kept, .int m_acts, .int m_images, m_heir, m_then, .int m_catGets, .long m_whole, .long m_bestSum, m_come, m_comeThen, .int m_tourHoursNow, m_hour, m_partIn, m_heirIn, .int m_fitsNow, .int m_foundHour, .int m_lookLeft, .int m_firstCatNow]))] s.heap := hP
  have hl := lv_entry ([.ref h_m, .int p0, .int p1]) (n := 4) (Nat.le_of_ble_eq_true rfl)
  rw [lg_entry_eq]
  generalize (lg_sl ([.ref h_m, .int p0, .int p1]) ++ List.replicate (4 - (lg_sl ([.ref h_m, .int p0, .int p1])).length) Slot.unset).toArray = ls at hl ⊢
  have hl : lv_has ls 4 [(0, .ref h_m), (1, .int p0), (2, .int p1)] := hl
  unfold MX7_livesN at hM
  refine lv_aload_n hx hb dX7_lives_0 rfl (lv_at hl 0 rfl) ?_
  refine lv_iconst (v := (0 : Int32)) hx hb dX7_lives_1 (by decide) ?_
  refine va_put (D := D) (ci := 11) (v := .int (0 : Int32)) (ty := .int) (C := RX7) (T := TX7) (N := 37) hx hb hts in_X7 tyX7 tyX7_ok nmX7 hown hK.1 hP hD hS 0 rfl rfl 0 (by decide) (hts _ q1372) (fun _ h9 => h9) rfl (by decide +kernel) rfl rfl (Nat.le_of_ble_eq_true rfl) dX7_lives_2 (fun H locs hP hD hS => ?_)
  have hP : va_P D clG [(h_m, .inr (11, [.int (0 : Int32), .int m_trouble, .int m_where, .null, m_read, m_tape, .int m_taped, .int m_size, .int m_spot, .int m_sort, .int m_place, .int m_number, .int m_fault, .int m_wrongAt, .long m_word, .int m_askedOf, m_v, m_x, m_past, m_kept, .int m_acts, .int m_images, m_heir, m_then, .int m_catGets, .long m_whole, .long m_bestSum, m_come, m_comeThen, .int m_tourHoursNow, m_hour, m_partIn, m_heirIn, .int m_fitsNow, .int m_foundHour, .int m_lookLeft, .int m_firstCatNow]))] H := hP
  have hD : va_D A [(h_m, .inr (11, [.int (0 : Int32), .int m_trouble, .int m_where, .null, m_read, m_tape, .int m_taped, .int m_size, .int m_spot, .int m_sort, .int m_place, .int m_number, .int m_fault, .int m_wrongAt, .long m_word, .int m_askedOf, m_v, m_x, m_past, m_kept, .int m_acts, .int m_images, m_heir, m_then, .int m_catGets, .long m_whole, .long m_bestSum, m_come, m_comeThen, .int m_tourHoursNow, m_hour, m_partIn, m_heirIn, .int m_fitsNow, .int m_foundHour, .int m_lookLeft, .int m_firstCatNow]))] := hD
  refine lv_aload_n hx hb dX7_lives_5 rfl (lv_at hl 0 rfl) ?_
  refine lv_aload_n hx hb dX7_lives_6 rfl (lv_at hl 0 rfl) ?_
  refine va_get (D := D) (ci := 11) (v := .null) (C := RX7) (T := TX7) (N := 37) hx hb hts in_X7 hown hK.1 hP 0 rfl rfl 3 (by decide) (hts _ q1375) (fun _ h9 => h9) rfl dX7_lives_7 ?_
  refine lv_ifnullN (tgt := 17) hx hb dX7_lives_10 (by decide) ?_
  refine lv_iconst (v := (0 : Int32)) hx hb dX7_lives_17 (by decide) ?_
  refine lv_iload_n hx hb dX7_lives_18 rfl (lv_at hl 1 rfl) ?_
  refine lv_iload_n hx hb dX7_lives_19 rfl (lv_at hl 2 rfl) ?_
  obtain ⟨r1, er1, hM⟩ := b_inv hM
  refine k_i0 [0] (va_runV (As := [.int (0 : Int32), .int p0, .int p1]) (rest := []) ⟨hx, hb, hml, hown, hts⟩ (ctX7_refusesSeedF l D dA _ h_m p0 p1 (0 : Int32) m_trouble m_where m_taped m_size m_spot m_sort m_place m_number m_fault m_wrongAt m_word m_askedOf m_acts m_images m_catGets m_whole m_bestSum m_tourHoursNow m_fitsNow m_foundHour m_lookLeft m_firstCatNow (.null) (m_read) (m_tape) (m_v) (m_x) (m_past) (m_kept) (m_heir) (m_then) (m_come) (m_comeThen) (m_hour) (m_partIn) (m_heirIn) r1 er1) (cwV 3 hts (lw_V q2014 q2016 qs104 q122 q2017) rfl rfl rfl (by decide +kernel) ⟨Nat.le_of_ble_eq_true rfl, Nat.le_of_ble_eq_true rfl⟩) (pre_V (hP.sub [0] rfl) hK (hD.sub [0] (by decide) rfl) (ci := 11) (q0 := 0) rfl rfl) rfl rfl hl.1 rfl (lv_room (Nat.le_of_ble_eq_true rfl)) dX7_lives_20 ⟨Nat.le_of_ble_eq_true rfl, Nat.le_of_ble_eq_true rfl⟩) hP hD hS hA rfl (fun _ => rfl) (fun u2 H locs hP hD hS => ?_)
  have hP : va_P D clG [(h_m, .inr (11, [.int (0 : Int32), .int m_trouble, .int m_where, .null, m_read, m_tape, .int m_taped, .int m_size, .int m_spot, .int m_sort, .int m_place, .int m_number, .int m_fault, .int m_wrongAt, .long m_word, .int m_askedOf, m_v, m_x, m_past, m_kept, .int m_acts, .int m_images, m_heir, m_then, .int m_catGets, .long m_whole, .long m_bestSum, m_come, m_comeThen, .int m_tourHoursNow, m_hour, m_partIn, m_heirIn, .int m_fitsNow, .int m_foundHour, .int m_lookLeft, .int m_firstCatNow]))] H := hP
  have hD : va_D A [(h_m, .inr (11, [.int (0 : Int32), .int m_trouble, .int m_where, .null, m_read, m_tape, .int m_taped, .int m_size, .int m_spot, .int m_sort, .int m_place, .int m_number, .int m_fault, .int m_wrongAt, .long m_word, .int m_askedOf, m_v, m_x, m_past, m_kept, .int m_acts, .int m_images, m_heir, m_then, .int m_catGets, .long m_whole, .long m_bestSum, m_come, m_comeThen, .int m_tourHoursNow, m_hour, m_partIn, m_heirIn, .int m_fitsNow, .int m_foundHour, .int m_lookLeft, .int m_firstCatNow]))] := hD
  have kr1 := krX7_refusesSeedF _ er1
  refine lv_toi (v := (1 : Int32)) (by rw [kr1]) ?_
  refine lv_istore_n (lv' := [(3, .int (1 : Int32)), (0, .ref h_m), (1, .int p0), (2, .int p1)]) hx hb dX7_lives_23 rfl hl (by decide) rfl (fun ls hl => ?_)
  refine lv_iload_n hx hb dX7_lives_24 rfl (lv_at hl 0 rfl) ?_
  refine lv_if_le (tgt := 34) hx hb dX7_lives_25 (by decide) (fun c3 => absurd c3 (by decide)) (fun _ => ?_)
  refine lv_aload_n hx hb dX7_lives_28 rfl (lv_at hl 1 rfl) ?_
  refine lv_iload_n hx hb dX7_lives_29 rfl (lv_at hl 0 rfl) ?_
  obtain ⟨r4, er4, hM⟩ := b_inv hM
  refine k_i0 [0] (va_runV (As := [.int (1 : Int32)]) (rest := []) ⟨hx, hb, hml, hown, hts⟩ (ctX7_refused l D dA _ h_m (1 : Int32) (0 : Int32) m_trouble m_where m_taped m_size m_spot m_sort m_place m_number m_fault m_wrongAt m_word m_askedOf m_acts m_images m_catGets m_whole m_bestSum m_tourHoursNow m_fitsNow m_foundHour m_lookLeft m_firstCatNow (.null) (m_read) (m_tape) (m_v) (m_x) (m_past) (m_kept) (m_heir) (m_then) (m_come) (m_comeThen) (m_hour) (m_partIn) (m_heirIn) r4 er4) (cwV 1 hts (lw_V q1496 q1498 qs50 q122 q1499) rfl rfl rfl (by decide +kernel) ⟨Nat.le_of_ble_eq_true rfl, Nat.le_of_ble_eq_true rfl⟩) (pre_V (hP.sub [0] rfl) hK (hD.sub [0] (by decide) rfl) (ci := 11) (q0 := 0) rfl rfl) rfl rfl hl.1 rfl (lv_room (Nat.le_of_ble_eq_true rfl)) dX7_lives_30 ⟨Nat.le_of_ble_eq_true rfl, Nat.le_of_ble_eq_true rfl⟩) hP hD hS hA rfl (fun _ => rfl) (fun u5 H locs hP hD hS => ?_)
  have hP : va_P D clG [(h_m, .inr (11, [.int (0 : Int32), .int r4.2.1, .int r4.2.2, .null, m_read, m_tape, .int m_taped, .int m_size, .int m_spot, .int m_sort, .int m_place, .int m_number, .int m_fault, .int m_wrongAt, .long m_word, .int m_askedOf, m_v, m_x, m_past, m_kept, .int m_acts, .int m_images, m_heir, m_then, .int m_catGets, .long m_whole, .long m_bestSum, m_come, m_comeThen, .int m_tourHoursNow, m_hour, m_partIn, m_heirIn, .int m_fitsNow, .int m_foundHour, .int m_lookLeft, .int m_firstCatNow]))] H := hP
  have hD : va_D A [(h_m, .inr (11, [.int (0 : Int32), .int r4.2.1, .int r4.2.2, .null, m_read, m_tape, .int m_taped, .int m_size, .int m_spot, .int m_sort, .int m_place, .int m_number, .int m_fault, .int m_wrongAt, .long m_word, .int m_askedOf, m_v, m_x, m_past, m_kept, .int m_acts, .int m_images, m_heir, m_then, .int m_catGets, .long m_whole, .long m_bestSum, m_come, m_comeThen, .int m_tourHoursNow, m_hour, m_partIn, m_heirIn, .int m_fitsNow, .int m_foundHour, .int m_lookLeft, .int m_firstCatNow]))] := hD
  have hM := Option.some.inj hM
  subst hM
  exact W.iret (v := r4.1) hx hb hr (fun t ht hW => ⟨⟨r4.1, (), rfl, rfl, by rw [ht]; exact hP, hD⟩, hS.F ht⟩) hS.2.2 dX7_lives_33

set_option maxHeartbeats 40000000 in
set_option maxRecDepth 100000 in
theorem ctX1_firstCatN (l : Launch) (D : va_G) (dA : Nat → ClassId) (sz : Nat) (h_o : Nat) (p0 : Int32) (p1 : Int32) (o_taped : Int32) (o_trouble : Int32) (o_fault : Int32) (o_where : Int32) (o_imageMany : Int32) (o_undoMany : Int32) (o_firstRest : Int32) (o_catAt : Int32) (o_tape : Value) (o_scanner : Value) (o_town : Value) (o_was : Value) (o_trial : Value) (o_night : Value) (o_plans : Value) (o_undone : Value) (o_images : Value) (o_often : Value) (o_next : Value) (res : (Int32 × Int32 × Int32)) (hM : MX1_firstCatN p0 p1 = some res) : Met l yX1_firstCat (ws_ yX1_firstCat cX1_firstCat 4 (some .int)) ({ frames := 2, cells := 0, slots := 0, locals := 48 }) (pre_ D dA [.ref h_o, .int p0, .int p1] [(h_o, .inr (0, [o_tape, .int o_taped, o_scanner, .null, .int o_trouble, .int o_fault, .int o_where, .int o_imageMany, .int o_undoMany, o_town, o_was, o_trial, o_night, o_plans, o_undone, o_images, o_often, .int o_firstRest, o_next, .int o_catAt]))] sz) (qi_ D res.1 (fun (u : Unit) => [(h_o, .inr (0, [o_tape, .int o_taped, o_scanner, .null, .int res.2.1, .int o_fault, .int res.2.2, .int o_imageMany, .int o_undoMany, o_town, o_was, o_trial, o_night, o_plans, o_undone, o_images, o_often, .int o_firstRest, o_next, .int o_catAt]))]) (va_A [(h_o, .inr (0, [o_tape, .int o_taped, o_scanner, .null, .int o_trouble, .int o_fault, .int o_where, .int o_imageMany, .int o_undoMany, o_town, o_was, o_trial, o_night, o_plans, o_undone, o_images, o_often, .int o_firstRest, o_next, .int o_catAt]))] sz)) 0 0 (va_A [(h_o, .inr (0, [o_tape, .int o_taped, o_scanner, .null, .int o_trouble, .int o_fault, .int o_where, .int o_imageMany, .int o_undoMany, o_town, o_was, o_trial, o_night, o_plans, o_undone, o_images, o_often, .int o_firstRest, o_next, .int o_catAt]))] sz) := by
  refine Met.ofW (cc := cX1_firstCat) (maxL := 4) (ret := (some .int)) (by decide) rfl ?_
  intro p e s m args below meth c s₁ B hml hv
  obtain ⟨rfl, hsz, hP, hK, hD0⟩ := hv
  have hx := B.exec
  have hb := B.bytes
  have hr := B.returns
  have hts := atoms_spec (ws := (ws_ yX1_firstCat cX1_firstCat 4 (some .int))) B.pre
  have hts : ∀ w ∈ lw_all, w.before _ s = true := fun w h => hts w (List.mem_cons_of_mem _ h)
  have hown : s.vm.findClass RX1 = some m.cls := findClass_of_methodNamed B.named
  have hlocks := B.notSynchronized
  subst hsz
  have hD := hD0.self (sz := s.heap.size)
  generalize hAe : va_A [(h_o, .inr (0, [o_tape, .int o_taped, o_scanner, .null, .int o_trouble, .int o_fault, .int o_where, .int o_imageMany, .int o_undoMany, o_town, o_was, o_trial, o_night, o_plans, o_undone, o_images, o_often, .int o_firstRest, o_next, .int o_catAt]))] s.heap.size = A at hD ⊢
  have hA : ∀ q : Nat, s.heap.size ≤ q → A q := fun q h => by rw [← hAe]; exact Or.inr h
  have hS : va_S A s.heap s.heap [] := va_S.rf
  have hP : va_P D clG [(h_o, .inr (0, [o_tape, .int o_taped, o_scanner, .null, .int o_trouble, .int o_fault, .int o_where, .int o_imageMany, .int o_undoMany, o_town, o_was, o_trial, o_night, o_plans, o_undone, o_images, o_often, .int o_firstRest, o_next, .int o_catAt]))] s.heap := hP
  have hl := lv_entry ([.ref h_o, .int p0, .int p1]) (n := 4) (Nat.le_of_ble_eq_true rfl)
  rw [lg_entry_eq]
  generalize (lg_sl ([.ref h_o, .int p0, .int p1]) ++ List.replicate (4 - (lg_sl ([.ref h_o, .int p0, .int p1])).length) Slot.unset).toArray = ls at hl ⊢
  have hl : lv_has ls 4 [(0, .ref h_o), (1, .int p0), (2, .int p1)] := hl
  unfold MX1_firstCatN at hM
  refine lv_aload_n hx hb dX1_firstCat_0 rfl (lv_at hl 0 rfl) ?_
  obtain ⟨r1, er1, hM⟩ := b_inv hM
  refine k_v0 [0] (va_runV (As := []) (rest := []) ⟨hx, hb, hml, hown, hts⟩ (ctX1_anew l D dA _ h_o o_taped o_trouble o_fault o_where o_imageMany o_undoMany o_firstRest o_catAt (o_tape) (o_scanner) (.null) (o_town) (o_was) (o_trial) (o_night) (o_plans) (o_undone) (o_images) (o_often) (o_next) r1 er1) (cwV 0 hts (lw_V q432 q434 qs2 q113 q435) rfl rfl rfl (by decide +kernel) ⟨Nat.le_of_ble_eq_true rfl, Nat.le_of_ble_eq_true rfl⟩) (pre_V (hP.sub [0] rfl) hK (hD.sub [0] (by decide) rfl) (ci := 0) (q0 := 0) rfl rfl) rfl rfl hl.1 rfl (lv_room (Nat.le_of_ble_eq_true rfl)) dX1_firstCat_1 ⟨Nat.le_of_ble_eq_true rfl, Nat.le_of_ble_eq_true rfl⟩) hP hD hS hA rfl (fun _ => rfl) (fun u2 H locs hP hD hS => ?_)
  have hP : va_P D clG [(h_o, .inr (0, [o_tape, .int o_taped, o_scanner, .null, .int r1.1, .int o_fault, .int r1.2, .int o_imageMany, .int o_undoMany, o_town, o_was, o_trial, o_night, o_plans, o_undone, o_images, o_often, .int o_firstRest, o_next, .int o_catAt]))] H := hP
  have hD : va_D A [(h_o, .inr (0, [o_tape, .int o_taped, o_scanner, .null, .int r1.1, .int o_fault, .int r1.2, .int o_imageMany, .int o_undoMany, o_town, o_was, o_trial, o_night, o_plans, o_undone, o_images, o_often, .int o_firstRest, o_next, .int o_catAt]))] := hD
  refine lv_aload_n hx hb dX1_firstCat_4 rfl (lv_at hl 0 rfl) ?_
  refine lv_aload_n hx hb dX1_firstCat_5 rfl (lv_at hl 0 rfl) ?_
  refine va_get (D := D) (ci := 0) (v := .null) (C := RX1) (T := TX1) (N := 20) hx hb hts in_X1 hown hK.1 hP 0 rfl rfl 3 (by decide) (hts _ q361) (fun _ h9 => h9) rfl dX1_firstCat_6 ?_
  refine lv_ifnullN (tgt := 16) hx hb dX1_firstCat_9 (by decide) ?_
  refine lv_iconst (v := (0 : Int32)) hx hb dX1_firstCat_16 (by decide) ?_
  refine lv_iload_n hx hb dX1_firstCat_17 rfl (lv_at hl 1 rfl) ?_
  refine lv_iload_n hx hb dX1_firstCat_18 rfl (lv_at hl 2 rfl) ?_
  obtain ⟨r3, er3, hM⟩ := b_inv hM
  refine k_i0 [0] (va_runV (As := [.int (0 : Int32), .int p0, .int p1]) (rest := []) ⟨hx, hb, hml, hown, hts⟩ (ctX1_nightsWhyF l D dA _ h_o p0 p1 o_taped r1.1 o_fault r1.2 o_imageMany o_undoMany o_firstRest o_catAt (o_tape) (o_scanner) (.null) (o_town) (o_was) (o_trial) (o_night) (o_plans) (o_undone) (o_images) (o_often) (o_next) r3 er3) (cwV 3 hts (lw_V q1269 q1271 qs46 q113 q1272) rfl rfl rfl (by decide +kernel) ⟨Nat.le_of_ble_eq_true rfl, Nat.le_of_ble_eq_true rfl⟩) (pre_V (hP.sub [0] rfl) hK (hD.sub [0] (by decide) rfl) (ci := 0) (q0 := 0) rfl rfl) rfl rfl hl.1 rfl (lv_room (Nat.le_of_ble_eq_true rfl)) dX1_firstCat_19 ⟨Nat.le_of_ble_eq_true rfl, Nat.le_of_ble_eq_true rfl⟩) hP hD hS hA rfl (fun _ => rfl) (fun u4 H locs hP hD hS => ?_)
  have hP : va_P D clG [(h_o, .inr (0, [o_tape, .int o_taped, o_scanner, .null, .int r1.1, .int o_fault, .int r1.2, .int o_imageMany, .int o_undoMany, o_town, o_was, o_trial, o_night, o_plans, o_undone, o_images, o_often, .int o_firstRest, o_next, .int o_catAt]))] H := hP
  have hD : va_D A [(h_o, .inr (0, [o_tape, .int o_taped, o_scanner, .null, .int r1.1, .int o_fault, .int r1.2, .int o_imageMany, .int o_undoMany, o_town, o_was, o_trial, o_night, o_plans, o_undone, o_images, o_often, .int o_firstRest, o_next, .int o_catAt]))] := hD
  have kr3 := krX1_nightsWhyF p0 p1 _ er3
  refine lv_toi (v := (1 : Int32)) (by rw [kr3]) ?_
  refine lv_istore_n (lv' := [(3, .int (1 : Int32)), (0, .ref h_o), (1, .int p0), (2, .int p1)]) hx hb dX1_firstCat_22 rfl hl (by decide) rfl (fun ls hl => ?_)
  have hl := lv_sub (l' := [(3, .int (1 : Int32)), (0, .ref h_o)]) hl [0, 1] rfl
  refine lv_iload_n hx hb dX1_firstCat_23 rfl (lv_at hl 0 rfl) ?_
  refine lv_if_eq (tgt := 35) hx hb dX1_firstCat_24 (by decide) (fun c5 => absurd c5 (by decide)) (fun _ => ?_)
  refine lv_aload_n hx hb dX1_firstCat_27 rfl (lv_at hl 1 rfl) ?_
  refine lv_iload_n hx hb dX1_firstCat_28 rfl (lv_at hl 0 rfl) ?_
  obtain ⟨r6, er6, hM⟩ := b_inv hM
  refine k_i0 [0] (va_runV (As := [.int (1 : Int32)]) (rest := []) ⟨hx, hb, hml, hown, hts⟩ (ctX1_no l D dA _ h_o (1 : Int32) o_taped r1.1 o_fault r1.2 o_imageMany o_undoMany o_firstRest o_catAt (o_tape) (o_scanner) (.null) (o_town) (o_was) (o_trial) (o_night) (o_plans) (o_undone) (o_images) (o_often) (o_next) r6 er6) (cwV 1 hts (lw_V q439 q441 qs3 q113 q442) rfl rfl rfl (by decide +kernel) ⟨Nat.le_of_ble_eq_true rfl, Nat.le_of_ble_eq_true rfl⟩) (pre_V (hP.sub [0] rfl) hK (hD.sub [0] (by decide) rfl) (ci := 0) (q0 := 0) rfl rfl) rfl rfl hl.1 rfl (lv_room (Nat.le_of_ble_eq_true rfl)) dX1_firstCat_29 ⟨Nat.le_of_ble_eq_true rfl, Nat.le_of_ble_eq_true rfl⟩) hP hD hS hA rfl (fun _ => rfl) (fun u7 H locs hP hD hS => ?_)
  have hP : va_P D clG [(h_o, .inr (0, [o_tape, .int o_taped, o_scanner, .null, .int r6.2, .int o_fault, .int r1.2, .int o_imageMany, .int o_undoMany, o_town, o_was, o_trial, o_night, o_plans, o_undone, o_images, o_often, .int o_firstRest, o_next, .int o_catAt]))] H := hP
  have hD : va_D A [(h_o, .inr (0, [o_tape, .int o_taped, o_scanner, .null, .int r6.2, .int o_fault, .int r1.2, .int o_imageMany, .int o_undoMany, o_town, o_was, o_trial, o_night, o_plans, o_undone, o_images, o_often, .int o_firstRest, o_next, .int o_catAt]))] := hD
  refine lv_goto (tgt := 39) hx hb dX1_firstCat_32 (by decide) ?_
  have hM := Option.some.inj hM
  subst hM
  exact W.iret (v := r6.1) hx hb hr (fun t ht hW => ⟨⟨r6.1, (), rfl, rfl, by rw [ht]; exact hP, hD⟩, hS.F ht⟩) hS.2.2 dX1_firstCat_39

set_option maxHeartbeats 40000000 in
set_option maxRecDepth 100000 in
theorem ctX7_firstCatN (l : Launch) (D : va_G) (dA : Nat → ClassId) (sz : Nat) (h_m : Nat) (p0 : Int32) (p1 : Int32) (m_thrown : Int32) (m_trouble : Int32) (m_where : Int32) (m_taped : Int32) (m_size : Int32) (m_spot : Int32) (m_sort : Int32) (m_place : Int32) (m_number : Int32) (m_fault : Int32) (m_wrongAt : Int32) (m_word : Int64) (m_askedOf : Int32) (m_acts : Int32) (m_images : Int32) (m_catGets : Int32) (m_whole : Int64) (m_bestSum : Int64) (m_tourHoursNow : Int32) (m_fitsNow : Int32) (m_foundHour : Int32) (m_lookLeft : Int32) (m_firstCatNow : Int32) (m_read : Value) (m_tape : Value) (m_v : Value) (m_x : Value) (m_past : Value) (m_kept : Value) (m_heir : Value) (m_then : Value) (m_come : Value) (m_comeThen : Value) (m_hour : Value) (m_partIn : Value) (m_heirIn : Value) (res : (Int32 × Int32 × Int32 × Int32)) (hM : MX7_firstCatN  = some res) : Met l yX7_firstCat (ws_ yX7_firstCat cX7_firstCat 4 (some .int)) ({ frames := 1, cells := 0, slots := 0, locals := 23 }) (pre_ D dA [.ref h_m, .int p0, .int p1] [(h_m, .inr (11, [.int m_thrown, .int m_trouble, .int m_where, .null, m_read, m_tape, .int m_taped, .int m_size, .int m_spot, .int m_sort, .int m_place, .int m_number, .int m_fault, .int m_wrongAt, .long m_word, .int m_askedOf, m_v, m_x, m_past, m_kept, .int m_acts, .int m_images, m_heir, m_then, .int m_catGets, .long m_whole, .long m_bestSum, m_come, m_comeThen, .int m_tourHoursNow, m_hour, m_partIn, m_heirIn, .int m_fitsNow, .int m_foundHour, .int m_lookLeft, .int m_firstCatNow]))] sz) (qi_ D res.1 (fun (u : Unit) => [(h_m, .inr (11, [.int res.2.1, .int res.2.2.1, .int res.2.2.2, .null, m_read, m_tape, .int m_taped, .int m_size, .int m_spot, .int m_sort, .int m_place, .int m_number, .int m_fault, .int m_wrongAt, .long m_word, .int m_askedOf, m_v, m_x, m_past, m_kept, .int m_acts, .int m_images, m_heir, m_then, .int m_catGets, .long m_whole, .long m_bestSum, m_come, m_comeThen, .int m_tourHoursNow, m_hour, m_partIn, m_heirIn, .int m_fitsNow, .int m_foundHour, .int m_lookLeft, .int m_firstCatNow]))]) (va_A [(h_m, .inr (11, [.int m_thrown, .int m_trouble, .int m_where, .null, m_read, m_tape, .int m_taped, .int m_size, .int m_spot, .int m_sort, .int m_place, .int m_number, .int m_fault, .int m_wrongAt, .long m_word, .int m_askedOf, m_v, m_x, m_past, m_kept, .int m_acts, .int m_images, m_heir, m_then, .int m_catGets, .long m_whole, .long m_bestSum, m_come, m_comeThen, .int m_tourHoursNow, m_hour, m_partIn, m_heirIn, .int m_fitsNow, .int m_foundHour, .int m_lookLeft, .int m_firstCatNow]))] sz)) 0 0 (va_A [(h_m, .inr (11, [.int m_thrown, .int m_trouble, .int m_where, .null, m_read, m_tape, .int m_taped, .int m_size, .int m_spot, .int m_sort, .int m_place, .int m_number, .int m_fault, .int m_wrongAt, .long m_word, .int m_askedOf, m_v, m_x, m_past, m_kept, .int m_acts, .int m_images, m_heir, m_then, .int m_catGets, .long m_whole, .long m_bestSum, m_come, m_comeThen, .int m_tourHoursNow, m_hour, m_partIn, m_heirIn, .int m_fitsNow, .int m_foundHour, .int m_lookLeft, .int m_firstCatNow]))] sz) := by
  refine Met.ofW (cc := cX7_firstCat) (maxL := 4) (ret := (some .int)) (by decide) rfl ?_
  intro p e s m args below meth c s₁ B hml hv
  obtain ⟨rfl, hsz, hP, hK, hD0⟩ := hv
  have hx := B.exec
  have hb := B.bytes
  have hr := B.returns
  have hts := atoms_spec (ws := (ws_ yX7_firstCat cX7_firstCat 4 (some .int))) B.pre
  have hts : ∀ w ∈ lw_all, w.before _ s = true := fun w h => hts w (List.mem_cons_of_mem _ h)
  have hown : s.vm.findClass RX7 = some m.cls := findClass_of_methodNamed B.named
  have hlocks := B.notSynchronized
  subst hsz
  have hD := hD0.self (sz := s.heap.size)
  generalize hAe : va_A [(h_m, .inr (11, [.int m_thrown, .int m_trouble, .int m_where, .null, m_read, m_tape, .int m_taped, .int m_size, .int m_spot, .int m_sort, .int m_place, .int m_number, .int m_fault, .int m_wrongAt, .long m_word, .int m_askedOf, m_v, m_x, m_past, m_kept, .int m_acts, .int m_images, m_heir, m_then, .int m_catGets, .long m_whole, .long m_bestSum, m_come, m_comeThen, .int m_tourHoursNow, m_hour, m_partIn, m_heirIn, .int m_fitsNow, .int m_foundHour, .int m_lookLeft, .int m_firstCatNow]))] s.heap.size = A at hD ⊢
  have hA : ∀ q : Nat, s.heap.size ≤ q → A q := fun q h => by rw [← hAe]; exact Or.inr h
  have hS : va_S A s.heap s.heap [] := va_S.rf
  have hP : va_P D clG [(h_m, .inr (11, [.int m_thrown, .int m_trouble, .int m_where, .null, m_read, m_tape, .int m_taped, .int m_size, .int m_spot, .int m_sort, .int m_place, .int m_number, .int m_fault, .int m_wrongAt, .long m_word, .int m_askedOf, m_v, m_x, m_past, m_kept, .int m_acts, .int m_images, m_heir, m_then, .int m_catGets, .long m_whole, .long m_bestSum, m_come, m_comeThen, .int m_tourHoursNow, m_hour, m_partIn, m_heirIn, .int m_fitsNow, .int m_foundHour, .int m_lookLeft, .int m_firstCatNow]))] s.heap := hP
  have hl := lv_entry ([.ref h_m, .int p0, .int p1]) (n := 4) (Nat.le_of_ble_eq_true rfl)
  rw [lg_entry_eq]
  generalize (lg_sl ([.ref h_m, .int p0, .int p1]) ++ List.replicate (4 - (lg_sl ([.ref h_m, .int p0, .int p1])).length) Slot.unset).toArray = ls at hl ⊢
  have hl : lv_has ls 4 [(0, .ref h_m), (1, .int p0), (2, .int p1)] := hl
  unfold MX7_firstCatN at hM
  refine lv_aload_n hx hb dX7_firstCat_0 rfl (lv_at hl 0 rfl) ?_
  refine lv_iconst (v := (0 : Int32)) hx hb dX7_firstCat_1 (by decide) ?_
  refine va_put (D := D) (ci := 11) (v := .int (0 : Int32)) (ty := .int) (C := RX7) (T := TX7) (N := 37) hx hb hts in_X7 tyX7 tyX7_ok nmX7 hown hK.1 hP hD hS 0 rfl rfl 0 (by decide) (hts _ q1372) (fun _ h9 => h9) rfl (by decide +kernel) rfl rfl (Nat.le_of_ble_eq_true rfl) dX7_firstCat_2 (fun H locs hP hD hS => ?_)
  have hP : va_P D clG [(h_m, .inr (11, [.int (0 : Int32), .int m_trouble, .int m_where, .null, m_read, m_tape, .int m_taped, .int m_size, .int m_spot, .int m_sort, .int m_place, .int m_number, .int m_fault, .int m_wrongAt, .long m_word, .int m_askedOf, m_v, m_x, m_past, m_kept, .int m_acts, .int m_images, m_heir, m_then, .int m_catGets, .long m_whole, .long m_bestSum, m_come, m_comeThen, .int m_tourHoursNow, m_hour, m_partIn, m_heirIn, .int m_fitsNow, .int m_foundHour, .int m_lookLeft, .int m_firstCatNow]))] H := hP
  have hD : va_D A [(h_m, .inr (11, [.int (0 : Int32), .int m_trouble, .int m_where, .null, m_read, m_tape, .int m_taped, .int m_size, .int m_spot, .int m_sort, .int m_place, .int m_number, .int m_fault, .int m_wrongAt, .long m_word, .int m_askedOf, m_v, m_x, m_past, m_kept, .int m_acts, .int m_images, m_heir, m_then, .int m_catGets, .long m_whole, .long m_bestSum, m_come, m_comeThen, .int m_tourHoursNow, m_hour, m_partIn, m_heirIn, .int m_fitsNow, .int m_foundHour, .int m_lookLeft, .int m_firstCatNow]))] := hD
  refine lv_aload_n hx hb dX7_firstCat_5 rfl (lv_at hl 0 rfl) ?_
  refine lv_aload_n hx hb dX7_firstCat_6 rfl (lv_at hl 0 rfl) ?_
  refine va_get (D := D) (ci := 11) (v := .null) (C := RX7) (T := TX7) (N := 37) hx hb hts in_X7 hown hK.1 hP 0 rfl rfl 3 (by decide) (hts _ q1375) (fun _ h9 => h9) rfl dX7_firstCat_7 ?_
  refine lv_ifnullN (tgt := 17) hx hb dX7_firstCat_10 (by decide) ?_
  refine lv_iconst (v := (0 : Int32)) hx hb dX7_firstCat_17 (by decide) ?_
  refine lv_iload_n hx hb dX7_firstCat_18 rfl (lv_at hl 1 rfl) ?_
  refine lv_iload_n hx hb dX7_firstCat_19 rfl (lv_at hl 2 rfl) ?_
  obtain ⟨r1, er1, hM⟩ := b_inv hM
  refine k_i0 [0] (va_runV (As := [.int (0 : Int32), .int p0, .int p1]) (rest := []) ⟨hx, hb, hml, hown, hts⟩ (ctX7_refusesSeedF l D dA _ h_m p0 p1 (0 : Int32) m_trouble m_where m_taped m_size m_spot m_sort m_place m_number m_fault m_wrongAt m_word m_askedOf m_acts m_images m_catGets m_whole m_bestSum m_tourHoursNow m_fitsNow m_foundHour m_lookLeft m_firstCatNow (.null) (m_read) (m_tape) (m_v) (m_x) (m_past) (m_kept) (m_heir) (m_then) (m_come) (m_comeThen) (m_hour) (m_partIn) (m_heirIn) r1 er1) (cwV 3 hts (lw_V q2014 q2016 qs104 q122 q2017) rfl rfl rfl (by decide +kernel) ⟨Nat.le_of_ble_eq_true rfl, Nat.le_of_ble_eq_true rfl⟩) (pre_V (hP.sub [0] rfl) hK (hD.sub [0] (by decide) rfl) (ci := 11) (q0 := 0) rfl rfl) rfl rfl hl.1 rfl (lv_room (Nat.le_of_ble_eq_true rfl)) dX7_firstCat_20 ⟨Nat.le_of_ble_eq_true rfl, Nat.le_of_ble_eq_true rfl⟩) hP hD hS hA rfl (fun _ => rfl) (fun u2 H locs hP hD hS => ?_)
  have hP : va_P D clG [(h_m, .inr (11, [.int (0 : Int32), .int m_trouble, .int m_where, .null, m_read, m_tape, .int m_taped, .int m_size, .int m_spot, .int m_sort, .int m_place, .int m_number, .int m_fault, .int m_wrongAt, .long m_word, .int m_askedOf, m_v, m_x, m_past, m_kept, .int m_acts, .int m_images, m_heir, m_then, .int m_catGets, .long m_whole, .long m_bestSum, m_come, m_comeThen, .int m_tourHoursNow, m_hour, m_partIn, m_heirIn, .int m_fitsNow, .int m_foundHour, .int m_lookLeft, .int m_firstCatNow]))] H := hP
  have hD : va_D A [(h_m, .inr (11, [.int (0 : Int32), .int m_trouble, .int m_where, .null, m_read, m_tape, .int m_taped, .int m_size, .int m_spot, .int m_sort, .int m_place, .int m_number, .int m_fault, .int m_wrongAt, .long m_word, .int m_askedOf, m_v, m_x, m_past, m_kept, .int m_acts, .int m_images, m_heir, m_then, .int m_catGets, .long m_whole, .long m_bestSum, m_come, m_comeThen, .int m_tourHoursNow, m_hour, m_partIn, m_heirIn, .int m_fitsNow, .int m_foundHour, .int m_lookLeft, .int m_firstCatNow]))] := hD
  have kr1 := krX7_refusesSeedF _ er1
  refine lv_toi (v := (1 : Int32)) (by rw [kr1]) ?_
  refine lv_istore_n (lv' := [(3, .int (1 : Int32)), (0, .ref h_m), (1, .int p0), (2, .int p1)]) hx hb dX7_firstCat_23 rfl hl (by decide) rfl (fun ls hl => ?_)
  refine lv_iload_n hx hb dX7_firstCat_24 rfl (lv_at hl 0 rfl) ?_
  refine lv_if_le (tgt := 34) hx hb dX7_firstCat_25 (by decide) (fun c3 => absurd c3 (by decide)) (fun _ => ?_)
  refine lv_aload_n hx hb dX7_firstCat_28 rfl (lv_at hl 1 rfl) ?_
  refine lv_iload_n hx hb dX7_firstCat_29 rfl (lv_at hl 0 rfl) ?_
  obtain ⟨r4, er4, hM⟩ := b_inv hM
  refine k_i0 [0] (va_runV (As := [.int (1 : Int32)]) (rest := []) ⟨hx, hb, hml, hown, hts⟩ (ctX7_refused l D dA _ h_m (1 : Int32) (0 : Int32) m_trouble m_where m_taped m_size m_spot m_sort m_place m_number m_fault m_wrongAt m_word m_askedOf m_acts m_images m_catGets m_whole m_bestSum m_tourHoursNow m_fitsNow m_foundHour m_lookLeft m_firstCatNow (.null) (m_read) (m_tape) (m_v) (m_x) (m_past) (m_kept) (m_heir) (m_then) (m_come) (m_comeThen) (m_hour) (m_partIn) (m_heirIn) r4 er4) (cwV 1 hts (lw_V q1496 q1498 qs50 q122 q1499) rfl rfl rfl (by decide +kernel) ⟨Nat.le_of_ble_eq_true rfl, Nat.le_of_ble_eq_true rfl⟩) (pre_V (hP.sub [0] rfl) hK (hD.sub [0] (by decide) rfl) (ci := 11) (q0 := 0) rfl rfl) rfl rfl hl.1 rfl (lv_room (Nat.le_of_ble_eq_true rfl)) dX7_firstCat_30 ⟨Nat.le_of_ble_eq_true rfl, Nat.le_of_ble_eq_true rfl⟩) hP hD hS hA rfl (fun _ => rfl) (fun u5 H locs hP hD hS => ?_)
  have hP : va_P D clG [(h_m, .inr (11, [.int (0 : Int32), .int r4.2.1, .int r4.2.2, .null, m_read, m_tape, .int m_taped, .int m_size, .int m_spot, .int m_sort, .int m_place, .int m_number, .int m_fault, .int m_wrongAt, .long m_word, .int m_askedOf, m_v, m_x, m_past, m_kept, .int m_acts, .int m_images, m_heir, m_then, .int m_catGets, .long m_whole, .long m_bestSum, m_come, m_comeThen, .int m_tourHoursNow, m_hour, m_partIn, m_heirIn, .int m_fitsNow, .int m_foundHour, .int m_lookLeft, .int m_firstCatNow]))] H := hP
  have hD : va_D A [(h_m, .inr (11, [.int (0 : Int32), .int r4.2.1, .int r4.2.2, .null, m_read, m_tape, .int m_taped, .int m_size, .int m_spot, .int m_sort, .int m_place, .int m_number, .int m_fault, .int m_wrongAt, .long m_word, .int m_askedOf, m_v, m_x, m_past, m_kept, .int m_acts, .int m_images, m_heir, m_then, .int m_catGets, .long m_whole, .long m_bestSum, m_come, m_comeThen, .int m_tourHoursNow, m_hour, m_partIn, m_heirIn, .int m_fitsNow, .int m_foundHour, .int m_lookLeft, .int m_firstCatNow]))] := hD
  have hM := Option.some.inj hM
  subst hM
  exact W.iret (v := r4.1) hx hb hr (fun t ht hW => ⟨⟨r4.1, (), rfl, rfl, by rw [ht]; exact hP, hD⟩, hS.F ht⟩) hS.2.2 dX7_firstCat_33

set_option maxHeartbeats 40000000 in
set_option maxRecDepth 100000 in
theorem ctX1_askN (l : Launch) (D : va_G) (dA : Nat → ClassId) (sz : Nat) (h_o : Nat) (p0 : Int32) (p1 : Int32) (o_taped : Int32) (o_trouble : Int32) (o_fault : Int32) (o_where : Int32) (o_imageMany : Int32) (o_undoMany : Int32) (o_firstRest : Int32) (o_catAt : Int32) (o_tape : Value) (o_scanner : Value) (o_town : Value) (o_was : Value) (o_trial : Value) (o_night : Value) (o_plans : Value) (o_undone : Value) (o_images : Value) (o_often : Value) (o_next : Value) (res : (Int32 × Int32 × Int32)) (hM : MX1_askN  = some res) : Met l yX1_ask (ws_ yX1_ask cX1_ask 4 (some .int)) ({ frames := 2, cells := 0, slots := 0, locals := 43 }) (pre_ D dA [.ref h_o, .int p0, .int p1] [(h_o, .inr (0, [o_tape, .int o_taped, o_scanner, .null, .int o_trouble, .int o_fault, .int o_where, .int o_imageMany, .int o_undoMany, o_town, o_was, o_trial, o_night, o_plans, o_undone, o_images, o_often, .int o_firstRest, o_next, .int o_catAt]))] sz) (qi_ D res.1 (fun (u : Unit) => [(h_o, .inr (0, [o_tape, .int o_taped, o_scanner, .null, .int res.2.1, .int o_fault, .int res.2.2, .int o_imageMany, .int o_undoMany, o_town, o_was, o_trial, o_night, o_plans, o_undone, o_images, o_often, .int o_firstRest, o_next, .int o_catAt]))]) (va_A [(h_o, .inr (0, [o_tape, .int o_taped, o_scanner, .null, .int o_trouble, .int o_fault, .int o_where, .int o_imageMany, .int o_undoMany, o_town, o_was, o_trial, o_night, o_plans, o_undone, o_images, o_often, .int o_firstRest, o_next, .int o_catAt]))] sz)) 0 0 (va_A [(h_o, .inr (0, [o_tape, .int o_taped, o_scanner, .null, .int o_trouble, .int o_fault, .int o_where, .int o_imageMany, .int o_undoMany, o_town, o_was, o_trial, o_night, o_plans, o_undone, o_images, o_often, .int o_firstRest, o_next, .int o_catAt]))] sz) := by
  refine Met.ofW (cc := cX1_ask) (maxL := 4) (ret := (some .int)) (by decide) rfl ?_
  intro p e s m args below meth c s₁ B hml hv
  obtain ⟨rfl, hsz, hP, hK, hD0⟩ := hv
  have hx := B.exec
  have hb := B.bytes
  have hr := B.returns
  have hts := atoms_spec (ws := (ws_ yX1_ask cX1_ask 4 (some .int))) B.pre
  have hts : ∀ w ∈ lw_all, w.before _ s = true := fun w h => hts w (List.mem_cons_of_mem _ h)
  have hown : s.vm.findClass RX1 = some m.cls := findClass_of_methodNamed B.named
  have hlocks := B.notSynchronized
  subst hsz
  have hD := hD0.self (sz := s.heap.size)
  generalize hAe : va_A [(h_o, .inr (0, [o_tape, .int o_taped, o_scanner, .null, .int o_trouble, .int o_fault, .int o_where, .int o_imageMany, .int o_undoMany, o_town, o_was, o_trial, o_night, o_plans, o_undone, o_images, o_often, .int o_firstRest, o_next, .int o_catAt]))] s.heap.size = A at hD ⊢
  have hA : ∀ q : Nat, s.heap.size ≤ q → A q := fun q h => by rw [← hAe]; exact Or.inr h
  have hS : va_S A s.heap s.heap [] := va_S.rf
  have hP : va_P D clG [(h_o, .inr (0, [o_tape, .int o_taped, o_scanner, .null, .int o_trouble, .int o_fault, .int o_where, .int o_imageMany, .int o_undoMany, o_town, o_was, o_trial, o_night, o_plans, o_undone, o_images, o_often, .int o_firstRest, o_next, .int o_catAt]))] s.heap := hP
  have hl := lv_entry ([.ref h_o, .int p0, .int p1]) (n := 4) (Nat.le_of_ble_eq_true rfl)
  rw [lg_entry_eq]
  generalize (lg_sl ([.ref h_o, .int p0, .int p1]) ++ List.replicate (4 - (lg_sl ([.ref h_o, .int p0, .int p1])).length) Slot.unset).toArray = ls at hl ⊢
  have hl : lv_has ls 4 [(0, .ref h_o), (1, .int p0), (2, .int p1)] := hl
  unfold MX1_askN at hM
  refine lv_aload_n hx hb dX1_ask_0 rfl (lv_at hl 0 rfl) ?_
  obtain ⟨r1, er1, hM⟩ := b_inv hM
  refine k_v0 [0] (va_runV (As := []) (rest := []) ⟨hx, hb, hml, hown, hts⟩ (ctX1_anew l D dA _ h_o o_taped o_trouble o_fault o_where o_imageMany o_undoMany o_firstRest o_catAt (o_tape) (o_scanner) (.null) (o_town) (o_was) (o_trial) (o_night) (o_plans) (o_undone) (o_images) (o_often) (o_next) r1 er1) (cwV 0 hts (lw_V q432 q434 qs2 q113 q435) rfl rfl rfl (by decide +kernel) ⟨Nat.le_of_ble_eq_true rfl, Nat.le_of_ble_eq_true rfl⟩) (pre_V (hP.sub [0] rfl) hK (hD.sub [0] (by decide) rfl) (ci := 0) (q0 := 0) rfl rfl) rfl rfl hl.1 rfl (lv_room (Nat.le_of_ble_eq_true rfl)) dX1_ask_1 ⟨Nat.le_of_ble_eq_true rfl, Nat.le_of_ble_eq_true rfl⟩) hP hD hS hA rfl (fun _ => rfl) (fun u2 H locs hP hD hS => ?_)
  have hP : va_P D clG [(h_o, .inr (0, [o_tape, .int o_taped, o_scanner, .null, .int r1.1, .int o_fault, .int r1.2, .int o_imageMany, .int o_undoMany, o_town, o_was, o_trial, o_night, o_plans, o_undone, o_images, o_often, .int o_firstRest, o_next, .int o_catAt]))] H := hP
  have hD : va_D A [(h_o, .inr (0, [o_tape, .int o_taped, o_scanner, .null, .int r1.1, .int o_fault, .int r1.2, .int o_imageMany, .int o_undoMany, o_town, o_was, o_trial, o_night, o_plans, o_undone, o_images, o_often, .int o_firstRest, o_next, .int o_catAt]))] := hD
  refine lv_aload_n hx hb dX1_ask_4 rfl (lv_at hl 0 rfl) ?_
  refine lv_iload_n hx hb dX1_ask_5 rfl (lv_at hl 1 rfl) ?_
  refine lv_iload_n hx hb dX1_ask_6 rfl (lv_at hl 2 rfl) ?_
  obtain ⟨r3, er3, hM⟩ := b_inv hM
  refine k_i0 [0] (va_runV (As := [.int p0, .int p1]) (rest := []) ⟨hx, hb, hml, hown, hts⟩ (ctX1_areTwoN l D dA _ h_o p0 p1 o_taped r1.1 o_fault r1.2 o_imageMany o_undoMany o_firstRest o_catAt (o_tape) (o_scanner) (o_town) (o_was) (o_trial) (o_night) (o_plans) (o_undone) (o_images) (o_often) (o_next) r3 er3) (cwV 2 hts (lw_V q958 q960 qs27 q113 q961) rfl rfl rfl (by decide +kernel) ⟨Nat.le_of_ble_eq_true rfl, Nat.le_of_ble_eq_true rfl⟩) (pre_V (hP.sub [0] rfl) hK (hD.sub [0] (by decide) rfl) (ci := 0) (q0 := 0) rfl rfl) rfl rfl hl.1 rfl (lv_room (Nat.le_of_ble_eq_true rfl)) dX1_ask_7 ⟨Nat.le_of_ble_eq_true rfl, Nat.le_of_ble_eq_true rfl⟩) hP hD hS hA rfl (fun _ => rfl) (fun u4 H locs hP hD hS => ?_)
  have hP : va_P D clG [(h_o, .inr (0, [o_tape, .int o_taped, o_scanner, .null, .int r1.1, .int o_fault, .int r1.2, .int o_imageMany, .int o_undoMany, o_town, o_was, o_trial, o_night, o_plans, o_undone, o_images, o_often, .int o_firstRest, o_next, .int o_catAt]))] H := hP
  have hD : va_D A [(h_o, .inr (0, [o_tape, .int o_taped, o_scanner, .null, .int r1.1, .int o_fault, .int r1.2, .int o_imageMany, .int o_undoMany, o_town, o_was, o_trial, o_night, o_plans, o_undone, o_images, o_often, .int o_firstRest, o_next, .int o_catAt]))] := hD
  have kr3 := krX1_areTwoN _ er3
  refine lv_toi (v := (0 : Int32)) (by rw [kr3]; rfl) ?_
  refine lv_if_ne (tgt := 19) hx hb dX1_ask_10 (by decide) (fun c5 => absurd c5 (by decide)) (fun _ => ?_)
  refine lv_aload_n hx hb dX1_ask_13 rfl (lv_at hl 0 rfl) ?_
  refine lv_iconst (v := (1 : Int32)) hx hb dX1_ask_14 (by decide) ?_
  obtain ⟨r6, er6, hM⟩ := b_inv hM
  refine k_i0 [0] (va_runV (As := [.int (1 : Int32)]) (rest := []) ⟨hx, hb, hml, hown, hts⟩ (ctX1_no l D dA _ h_o (1 : Int32) o_taped r1.1 o_fault r1.2 o_imageMany o_undoMany o_firstRest o_catAt (o_tape) (o_scanner) (.null) (o_town) (o_was) (o_trial) (o_night) (o_plans) (o_undone) (o_images) (o_often) (o_next) r6 er6) (cwV 1 hts (lw_V q439 q441 qs3 q113 q442) rfl rfl rfl (by decide +kernel) ⟨Nat.le_of_ble_eq_true rfl, Nat.le_of_ble_eq_true rfl⟩) (pre_V (hP.sub [0] rfl) hK (hD.sub [0] (by decide) rfl) (ci := 0) (q0 := 0) rfl rfl) rfl rfl hl.1 rfl (lv_room (Nat.le_of_ble_eq_true rfl)) dX1_ask_15 ⟨Nat.le_of_ble_eq_true rfl, Nat.le_of_ble_eq_true rfl⟩) hP hD hS hA rfl (fun _ => rfl) (fun u7 H locs hP hD hS => ?_)
  have hP : va_P D clG [(h_o, .inr (0, [o_tape, .int o_taped, o_scanner, .null, .int r6.2, .int o_fault, .int r1.2, .int o_imageMany, .int o_undoMany, o_town, o_was, o_trial, o_night, o_plans, o_undone, o_images, o_often, .int o_firstRest, o_next, .int o_catAt]))] H := hP
  have hD : va_D A [(h_o, .inr (0, [o_tape, .int o_taped, o_scanner, .null, .int r6.2, .int o_fault, .int r1.2, .int o_imageMany, .int o_undoMany, o_town, o_was, o_trial, o_night, o_plans, o_undone, o_images, o_often, .int o_firstRest, o_next, .int o_catAt]))] := hD
  have hM := Option.some.inj hM
  subst hM
  exact W.iret (v := r6.1) hx hb hr (fun t ht hW => ⟨⟨r6.1, (), rfl, rfl, by rw [ht]; exact hP, hD⟩, hS.F ht⟩) hS.2.2 dX1_ask_18
