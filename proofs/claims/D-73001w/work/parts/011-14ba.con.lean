set_option maxRecDepth 100000
set_option maxHeartbeats 40000000 in
set_option maxRecDepth 100000 in
theorem ctX4_init (l : Launch) (D : va_G) (dA : Nat → ClassId) (sz : Nat) (h_t : Nat) (t_living : Int32) (t_hour : Int32) (t_cat : Int32) (t_nights : Int32) (t_seed : Int32) (t_has : Value) (t_hours : Value) (t_city : Value) (res : Unit) (hM : MX4_init  = some res) : Met l yX4_init (ws_ yX4_init cX4_init 1 none) ({ frames := 1, cells := 2, slots := 42, locals := 20 }) (pre_ D dA [.ref h_t] [(h_t, .inr (3, [t_has, t_hours, t_city, .int t_living, .int t_hour, .int t_cat, .int t_nights, .int t_seed]))] sz) (qv_ D (fun (u : (Nat × Nat)) => [(h_t, .inr (3, [.ref u.1, .ref u.2, t_city, .int t_living, .int t_hour, .int t_cat, .int t_nights, .int t_seed]))] ++ [(u.1, .inl (dA 0, 6, .inl ((fun _ => 0)))), (u.2, .inl (dA 0, 36, .inl ((fun _ => 0))))]) (va_A [(h_t, .inr (3, [t_has, t_hours, t_city, .int t_living, .int t_hour, .int t_cat, .int t_nights, .int t_seed]))] sz)) 2 42 (va_A [(h_t, .inr (3, [t_has, t_hours, t_city, .int t_living, .int t_hour, .int t_cat, .int t_nights, .int t_seed]))] sz) := by
  refine Met.ofW (cc := cX4_init) (maxL := 1) (ret := none) (by decide) rfl ?_
  intro p e s m args below meth c s₁ B hml hv
  obtain ⟨rfl, hsz, hP, hK, hD0⟩ := hv
  have hx := B.exec
  have hb := B.bytes
  have hr := B.returns
  have hts := atoms_spec (ws := (ws_ yX4_init cX4_init 1 none)) B.pre
  have hts : ∀ w ∈ lw_all, w.before _ s = true := fun w h => hts w (List.mem_cons_of_mem _ h)
  have hown : s.vm.findClass RX4 = some m.cls := findClass_of_methodNamed B.named
  have hlocks := B.notSynchronized
  have hin : meth.name = "<init>" := (name_of_methodNamed B.named B.method).1
  subst hsz
  have hD := hD0.self (sz := s.heap.size)
  generalize hAe : va_A [(h_t, .inr (3, [t_has, t_hours, t_city, .int t_living, .int t_hour, .int t_cat, .int t_nights, .int t_seed]))] s.heap.size = A at hD ⊢
  have hA : ∀ q : Nat, s.heap.size ≤ q → A q := fun q h => by rw [← hAe]; exact Or.inr h
  have hS : va_S A s.heap s.heap [] := va_S.rf
  have hP : va_P D clG [(h_t, .inr (3, [t_has, t_hours, t_city, .int t_living, .int t_hour, .int t_cat, .int t_nights, .int t_seed]))] s.heap := hP
  have hl := lv_entry ([.ref h_t]) (n := 1) (Nat.le_of_ble_eq_true rfl)
  rw [lg_entry_eq]
  generalize (lg_sl ([.ref h_t]) ++ List.replicate (1 - (lg_sl ([.ref h_t])).length) Slot.unset).toArray = ls at hl ⊢
  have hl : lv_has ls 1 [(0, .ref h_t)] := hl
  unfold MX4_init at hM
  refine lv_aload_n hx hb dX4_init_0 rfl (lv_at hl 0 rfl) ?_
  refine W.objInit hx hb hown (hts _ q266) (hts _ q144) (hts _ q145) rfl (by rw [hml]; exact hl.1) rfl dX4_init_1 (Nat.le_of_ble_eq_true rfl) (Nat.le_of_ble_eq_true rfl) ?_
  refine W.eq (g2 := F0 m 4 ls []) rfl ?_
  refine lv_aload_n hx hb dX4_init_4 rfl (lv_at hl 0 rfl) ?_
  refine lv_bipush (v := (6 : Int32)) hx hb dX4_init_5 (by decide) ?_
  refine va_newa (atype := .int) (ty := .int) (a0 := (6, .inl (fun _ => 0))) (N' := 6) hx hb (hts _ q304) rfl hK.1 hP hD hS hA (fun _ => rfl) (by decide) (by decide) (Nat.le_of_ble_eq_true rfl) (Nat.le_of_ble_eq_true rfl) (Nat.le_of_ble_eq_true rfl) dX4_init_7 (fun h_q1 cA H hK9 hP hD hS => ?_)
  obtain rfl := k_cls 0 hK9 rfl
  have hP : va_P D clG [(h_t, .inr (3, [t_has, t_hours, t_city, .int t_living, .int t_hour, .int t_cat, .int t_nights, .int t_seed])), (h_q1, .inl (dA 0, 6, .inl ((fun _ => 0))))] H := hP
  have hD : va_D A [(h_t, .inr (3, [t_has, t_hours, t_city, .int t_living, .int t_hour, .int t_cat, .int t_nights, .int t_seed])), (h_q1, .inl (dA 0, 6, .inl ((fun _ => 0))))] := hD
  refine W.widen (k := 1) (n := 6) (Nat.le_of_ble_eq_true rfl) (Nat.le_of_ble_eq_true rfl) ?_
  refine va_putF (D := D) (ci := 3) (v := .ref h_q1) (ty := (.array .int)) (C := RX4) (T := TX4) (N := 8) hx hb hts in_X4 tyX4 tyX4_ok nmX4 hown hK.1 hP hD hS 0 rfl rfl 0 (by decide) (hts _ q267) (fun _ h9 => h9) rfl hin rfl (by decide +kernel) rfl rfl (Nat.le_of_ble_eq_true rfl) dX4_init_9 (fun H locs hP hD hS => ?_)
  have hP : va_P D clG [(h_t, .inr (3, [.ref h_q1, t_hours, t_city, .int t_living, .int t_hour, .int t_cat, .int t_nights, .int t_seed])), (h_q1, .inl (dA 0, 6, .inl ((fun _ => 0))))] H := hP
  have hD : va_D A [(h_t, .inr (3, [.ref h_q1, t_hours, t_city, .int t_living, .int t_hour, .int t_cat, .int t_nights, .int t_seed])), (h_q1, .inl (dA 0, 6, .inl ((fun _ => 0))))] := hD
  refine lv_aload_n hx hb dX4_init_12 rfl (lv_at hl 0 rfl) ?_
  refine lv_bipush (v := (36 : Int32)) hx hb dX4_init_13 (by decide) ?_
  refine va_newa (atype := .int) (ty := .int) (a0 := (36, .inl (fun _ => 0))) (N' := 36) hx hb (hts _ q304) rfl hK.1 hP hD hS hA (fun _ => rfl) (by decide) (by decide) (Nat.le_of_ble_eq_true rfl) (Nat.le_of_ble_eq_true rfl) (Nat.le_of_ble_eq_true rfl) dX4_init_15 (fun h_q2 cA H hK9 hP hD hS => ?_)
  obtain rfl := k_cls 0 hK9 rfl
  have hP : va_P D clG [(h_t, .inr (3, [.ref h_q1, t_hours, t_city, .int t_living, .int t_hour, .int t_cat, .int t_nights, .int t_seed])), (h_q1, .inl (dA 0, 6, .inl ((fun _ => 0)))), (h_q2, .inl (dA 0, 36, .inl ((fun _ => 0))))] H := hP
  have hD : va_D A [(h_t, .inr (3, [.ref h_q1, t_hours, t_city, .int t_living, .int t_hour, .int t_cat, .int t_nights, .int t_seed])), (h_q1, .inl (dA 0, 6, .inl ((fun _ => 0)))), (h_q2, .inl (dA 0, 36, .inl ((fun _ => 0))))] := hD
  refine W.widen (k := 2) (n := 42) (Nat.le_of_ble_eq_true rfl) (Nat.le_of_ble_eq_true rfl) ?_
  refine va_putF (D := D) (ci := 3) (v := .ref h_q2) (ty := (.array .int)) (C := RX4) (T := TX4) (N := 8) hx hb hts in_X4 tyX4 tyX4_ok nmX4 hown hK.1 hP hD hS 0 rfl rfl 1 (by decide) (hts _ q270) (fun _ h9 => h9) rfl hin rfl (by decide +kernel) rfl rfl (Nat.le_of_ble_eq_true rfl) dX4_init_17 (fun H locs hP hD hS => ?_)
  have hP : va_P D clG [(h_t, .inr (3, [.ref h_q1, .ref h_q2, t_city, .int t_living, .int t_hour, .int t_cat, .int t_nights, .int t_seed])), (h_q1, .inl (dA 0, 6, .inl ((fun _ => 0)))), (h_q2, .inl (dA 0, 36, .inl ((fun _ => 0))))] H := hP
  have hD : va_D A [(h_t, .inr (3, [.ref h_q1, .ref h_q2, t_city, .int t_living, .int t_hour, .int t_cat, .int t_nights, .int t_seed])), (h_q1, .inl (dA 0, 6, .inl ((fun _ => 0)))), (h_q2, .inl (dA 0, 36, .inl ((fun _ => 0))))] := hD
  have hM := Option.some.inj hM
  subst hM
  exact W.vret hx hb hr (fun t ht hW => ⟨⟨(h_q1, h_q2), rfl, trivial, by rw [ht]; exact hP, hD⟩, hS.F ht⟩) hS.2.2 dX4_init_20

set_option maxHeartbeats 40000000 in
set_option maxRecDepth 100000 in
theorem ctX5_init (l : Launch) (D : va_G) (dA : Nat → ClassId) (sz : Nat) (h_g : Nat) (g_all : Int64) (g_then : Value) (res : Unit) (hM : MX5_init  = some res) : Met l yX5_init (ws_ yX5_init cX5_init 1 none) ({ frames := 2, cells := 3, slots := 50, locals := 40 }) (pre_ D dA [.ref h_g] [(h_g, .inr (4, [g_then, .long g_all]))] sz) (qv_ D (fun (u : (Nat × Nat × Nat)) => [(h_g, .inr (4, [.ref u.1, .long g_all]))] ++ [(u.1, .inr (3, [.ref u.2.1, .ref u.2.2, .null, .int (0 : Int32), .int (0 : Int32), .int (0 : Int32), .int (0 : Int32), .int (0 : Int32)])), (u.2.1, .inl (dA 0, 6, .inl ((fun _ => 0)))), (u.2.2, .inl (dA 0, 36, .inl ((fun _ => 0))))]) (va_A [(h_g, .inr (4, [g_then, .long g_all]))] sz)) 3 50 (va_A [(h_g, .inr (4, [g_then, .long g_all]))] sz) := by
  refine Met.ofW (cc := cX5_init) (maxL := 1) (ret := none) (by decide) rfl ?_
  intro p e s m args below meth c s₁ B hml hv
  obtain ⟨rfl, hsz, hP, hK, hD0⟩ := hv
  have hx := B.exec
  have hb := B.bytes
  have hr := B.returns
  have hts := atoms_spec (ws := (ws_ yX5_init cX5_init 1 none)) B.pre
  have hts : ∀ w ∈ lw_all, w.before _ s = true := fun w h => hts w (List.mem_cons_of_mem _ h)
  have hown : s.vm.findClass RX5 = some m.cls := findClass_of_methodNamed B.named
  have hlocks := B.notSynchronized
  have hin : meth.name = "<init>" := (name_of_methodNamed B.named B.method).1
  subst hsz
  have hD := hD0.self (sz := s.heap.size)
  generalize hAe : va_A [(h_g, .inr (4, [g_then, .long g_all]))] s.heap.size = A at hD ⊢
  have hA : ∀ q : Nat, s.heap.size ≤ q → A q := fun q h => by rw [← hAe]; exact Or.inr h
  have hS : va_S A s.heap s.heap [] := va_S.rf
  have hP : va_P D clG [(h_g, .inr (4, [g_then, .long g_all]))] s.heap := hP
  have hl := lv_entry ([.ref h_g]) (n := 1) (Nat.le_of_ble_eq_true rfl)
  rw [lg_entry_eq]
  generalize (lg_sl ([.ref h_g]) ++ List.replicate (1 - (lg_sl ([.ref h_g])).length) Slot.unset).toArray = ls at hl ⊢
  have hl : lv_has ls 1 [(0, .ref h_g)] := hl
  unfold MX5_init at hM
  refine lv_aload_n hx hb dX5_init_0 rfl (lv_at hl 0 rfl) ?_
  refine W.objInit hx hb hown (hts _ q310) (hts _ q144) (hts _ q145) rfl (by rw [hml]; exact hl.1) rfl dX5_init_1 (Nat.le_of_ble_eq_true rfl) (Nat.le_of_ble_eq_true rfl) ?_
  refine W.eq (g2 := F0 m 4 ls []) rfl ?_
  refine lv_aload_n hx hb dX5_init_4 rfl (lv_at hl 0 rfl) ?_
  refine va_new (ci := 3) (fs := [.null, .null, .null, .int (0 : Int32), .int (0 : Int32), .int (0 : Int32), .int (0 : Int32), .int (0 : Int32)]) (C := RX4) (T := TX4) (N := 8) hx hb hts in_X4 tyX4 tyX4_ok hown (hts _ q311) (hts _ q262) (hts _ q119) hK.1 hP hD hS hA rfl (fs_of rfl) (Nat.le_of_ble_eq_true rfl) (Nat.le_of_ble_eq_true rfl) dX5_init_5 (fun h_q1 H hP hD hS => ?_)
  have hP : va_P D clG [(h_g, .inr (4, [g_then, .long g_all])), (h_q1, .inr (3, [.null, .null, .null, .int (0 : Int32), .int (0 : Int32), .int (0 : Int32), .int (0 : Int32), .int (0 : Int32)]))] H := hP
  have hD : va_D A [(h_g, .inr (4, [g_then, .long g_all])), (h_q1, .inr (3, [.null, .null, .null, .int (0 : Int32), .int (0 : Int32), .int (0 : Int32), .int (0 : Int32), .int (0 : Int32)]))] := hD
  refine W.widen (k := 1) (n := 8) (Nat.le_of_ble_eq_true rfl) (Nat.le_of_ble_eq_true rfl) ?_
  refine lv_dup hx hb dX5_init_8 rfl ?_
  obtain ⟨r2, er2, hM⟩ := b_inv hM
  refine k_v [1] (va_runIN (As := []) (rest := [.ref h_q1, .ref h_g]) ⟨hx, hb, hml, hown, hts⟩ (ctX4_init l D dA _ h_q1 (0 : Int32) (0 : Int32) (0 : Int32) (0 : Int32) (0 : Int32) (.null) (.null) (.null) r2 er2) ⟨va_cnB 0 hts (lw_meth q265) rfl rfl rfl (hK.nw 8 rfl) (hts _ q119) (by decide +kernel) ⟨Nat.le_of_ble_eq_true rfl, Nat.le_of_ble_eq_true rfl⟩, rfl, hts _ q264⟩ (pre_S (hP.sub [1] rfl) hK (hD.sub [1] (by decide) rfl)) rfl rfl hl.1 rfl (lv_room (Nat.le_of_ble_eq_true rfl)) dX5_init_9 ⟨Nat.le_of_ble_eq_true rfl, Nat.le_of_ble_eq_true rfl⟩) hP hD hS hA rfl (fun _ => rfl) (fun u3 H locs hP hD hS => ?_)
  have hP : va_P D clG [(h_g, .inr (4, [g_then, .long g_all])), (h_q1, .inr (3, [.ref u3.1, .ref u3.2, .null, .int (0 : Int32), .int (0 : Int32), .int (0 : Int32), .int (0 : Int32), .int (0 : Int32)])), (u3.1, .inl (dA 0, 6, .inl ((fun _ => 0)))), (u3.2, .inl (dA 0, 36, .inl ((fun _ => 0))))] H := hP
  have hD : va_D A [(h_g, .inr (4, [g_then, .long g_all])), (h_q1, .inr (3, [.ref u3.1, .ref u3.2, .null, .int (0 : Int32), .int (0 : Int32), .int (0 : Int32), .int (0 : Int32), .int (0 : Int32)])), (u3.1, .inl (dA 0, 6, .inl ((fun _ => 0)))), (u3.2, .inl (dA 0, 36, .inl ((fun _ => 0))))] := hD
  refine W.widen (k := 3) (n := 50) (Nat.le_of_ble_eq_true rfl) (Nat.le_of_ble_eq_true rfl) ?_
  refine va_putF (D := D) (ci := 4) (v := .ref h_q1) (ty := (.object "LastAsked$Town")) (C := RX5) (T := TX5) (N := 2) hx hb hts in_X5 tyX5 tyX5_ok nmX5 hown hK.1 hP hD hS 0 rfl rfl 0 (by decide) (hts _ q313) (fun _ h9 => h9) rfl hin rfl (by decide +kernel) rfl rfl (Nat.le_of_ble_eq_true rfl) dX5_init_12 (fun H locs hP hD hS => ?_)
  have hP : va_P D clG [(h_g, .inr (4, [.ref h_q1, .long g_all])), (h_q1, .inr (3, [.ref u3.1, .ref u3.2, .null, .int (0 : Int32), .int (0 : Int32), .int (0 : Int32), .int (0 : Int32), .int (0 : Int32)])), (u3.1, .inl (dA 0, 6, .inl ((fun _ => 0)))), (u3.2, .inl (dA 0, 36, .inl ((fun _ => 0))))] H := hP
  have hD : va_D A [(h_g, .inr (4, [.ref h_q1, .long g_all])), (h_q1, .inr (3, [.ref u3.1, .ref u3.2, .null, .int (0 : Int32), .int (0 : Int32), .int (0 : Int32), .int (0 : Int32), .int (0 : Int32)])), (u3.1, .inl (dA 0, 6, .inl ((fun _ => 0)))), (u3.2, .inl (dA 0, 36, .inl ((fun _ => 0))))] := hD
  have hM := Option.some.inj hM
  subst hM
  exact W.vret hx hb hr (fun t ht hW => ⟨⟨(h_q1, u3.1, u3.2), rfl, trivial, by rw [ht]; exact hP, hD⟩, hS.F ht⟩) hS.2.2 dX5_init_15

set_option maxHeartbeats 40000000 in
set_option maxRecDepth 100000 in
theorem ctX6_init (l : Launch) (D : va_G) (dA : Nat → ClassId) (sz : Nat) (h_k : Nat) (h_p1 : Nat) (k_person : Int32) (k_many : Int32) (k_row : Int32) (k_set : Int32) (k_most : Int64) (p1_all : Int64) (k_towns : Value) (k_night : Value) (k_reach : Value) (p1_then : Value) (res : Unit) (hM : MX6_init  = some res) : Met l yX6_init (ws_ yX6_init cX6_init 3 none) ({ frames := 2, cells := 14, slots := 588, locals := 40 }) (pre_ D dA [.ref h_k, .ref h_p1] [(h_k, .inr (5, [k_towns, k_night, k_reach, .int k_person, .int k_many, .int k_row, .int k_set, .long k_most])), (h_p1, .inr (4, [p1_then, .long p1_all]))] sz) (qv_ D (fun (u : (Nat × Nat × Nat × Nat × Nat × Nat × Nat × Nat × Nat × Nat × Nat × Nat × Nat × Nat)) => [(h_k, .inr (5, [.ref u.1, .ref h_p1, .ref u.2.1, .int k_person, .int k_many, .int k_row, .int k_set, .long k_most])), (h_p1, .inr (4, [p1_then, .long p1_all]))] ++ [(u.1, .inl (dA 5, 4, .inr (.inr (.inr (.inr (rl [some u.2.2.1, some u.2.2.2.2.2.1, some u.2.2.2.2.2.2.2.2.1, some u.2.2.2.2.2.2.2.2.2.2.2.1])))))), (u.2.1, .inl (dA 0, 384, .inl ((fun _ => 0)))), (u.2.2.1, .inr (3, [.ref u.2.2.2.1, .ref u.2.2.2.2.1, .null, .int (0 : Int32), .int (0 : Int32), .int (0 : Int32), .int (0 : Int32), .int (0 : Int32)])), (u.2.2.2.1, .inl (dA 0, 6, .inl ((fun _ => 0)))), (u.2.2.2.2.1, .inl (dA 0, 36, .inl ((fun _ => 0)))), (u.2.2.2.2.2.1, .inr (3, [.ref u.2.2.2.2.2.2.1, .ref u.2.2.2.2.2.2.2.1, .null, .int (0 : Int32), .int (0 : Int32), .int (0 : Int32), .int (0 : Int32), .int (0 : Int32)])), (u.2.2.2.2.2.2.1, .inl (dA 0, 6, .inl ((fun _ => 0)))), (u.2.2.2.2.2.2.2.1, .inl (dA 0, 36, .inl ((fun _ => 0)))), (u.2.2.2.2.2.2.2.2.1, .inr (3, [.ref u.2.2.2.2.2.2.2.2.2.1, .ref u.2.2.2.2.2.2.2.2.2.2.1, .null, .int (0 : Int32), .int (0 : Int32), .int (0 : Int32), .int (0 : Int32), .int (0 : Int32)])), (u.2.2.2.2.2.2.2.2.2.1, .inl (dA 0, 6, .inl ((fun _ => 0)))), (u.2.2.2.2.2.2.2.2.2.2.1, .inl (dA 0, 36, .inl ((fun _ => 0)))), (u.2.2.2.2.2.2.2.2.2.2.2.1, .inr (3, [.ref u.2.2.2.2.2.2.2.2.2.2.2.2.1, .ref u.2.2.2.2.2.2.2.2.2.2.2.2.2, .null, .int (0 : Int32), .int (0 : Int32), .int (0 : Int32), .int (0 : Int32), .int (0 : Int32)])), (u.2.2.2.2.2.2.2.2.2.2.2.2.1, .inl (dA 0, 6, .inl ((fun _ => 0)))), (u.2.2.2.2.2.2.2.2.2.2.2.2.2, .inl (dA 0, 36, .inl ((fun _ => 0))))]) (va_A [(h_k, .inr (5, [k_towns, k_night, k_reach, .int k_person, .int k_many, .int k_row, .int k_set, .long k_most])), (h_p1, .inr (4, [p1_then, .long p1_all]))] sz)) 14 588 (va_A [(h_k, .inr (5, [k_towns, k_night, k_reach, .int k_person, .int k_many, .int k_row, .int k_set, .long k_most])), (h_p1, .inr (4, [p1_then, .long p1_all]))] sz) := by
  refine Met.ofW (cc := cX6_init) (maxL := 3) (ret := none) (by decide) rfl ?_
  intro p e s m args below meth c s₁ B hml hv
  obtain ⟨rfl, hsz, hP, hK, hD0⟩ := hv
  have hx := B.exec
  have hb := B.bytes
  have hr := B.returns
  have hts := atoms_spec (ws := (ws_ yX6_init cX6_init 3 none)) B.pre
  have hts : ∀ w ∈ lw_all, w.before _ s = true := fun w h => hts w (List.mem_cons_of_mem _ h)
  have hown : s.vm.findClass RX6 = some m.cls := findClass_of_methodNamed B.named
  have hlocks := B.notSynchronized
  have hin : meth.name = "<init>" := (name_of_methodNamed B.named B.method).1
  subst hsz
  have hD := hD0.self (sz := s.heap.size)
  generalize hAe : va_A [(h_k, .inr (5, [k_towns, k_night, k_reach, .int k_person, .int k_many, .int k_row, .int k_set, .long k_most])), (h_p1, .inr (4, [p1_then, .long p1_all]))] s.heap.size = A at hD ⊢
  have hA : ∀ q : Nat, s.heap.size ≤ q → A q := fun q h => by rw [← hAe]; exact Or.inr h
  have hS : va_S A s.heap s.heap [] := va_S.rf
  have hP : va_P D clG [(h_k, .inr (5, [k_towns, k_night, k_reach, .int k_person, .int k_many, .int k_row, .int k_set, .long k_most])), (h_p1, .inr (4, [p1_then, .long p1_all]))] s.heap := hP
  have hl := lv_entry ([.ref h_k, .ref h_p1]) (n := 3) (Nat.le_of_ble_eq_true rfl)
  rw [lg_entry_eq]
  generalize (lg_sl ([.ref h_k, .ref h_p1]) ++ List.replicate (3 - (lg_sl ([.ref h_k, .ref h_p1])).length) Slot.unset).toArray = ls at hl ⊢
  have hl : lv_has ls 3 [(0, .ref h_k), (1, .ref h_p1)] := hl
  unfold MX6_init at hM
  refine lv_aload_n hx hb dX6_init_0 rfl (lv_at hl 0 rfl) ?_
  refine W.objInit hx hb hown (hts _ q326) (hts _ q144) (hts _ q145) rfl (by rw [hml]; exact hl.1) rfl dX6_init_1 (Nat.le_of_ble_eq_true rfl) (Nat.le_of_ble_eq_true rfl) ?_
  refine W.eq (g2 := F0 m 4 ls []) rfl ?_
  refine lv_aload_n hx hb dX6_init_4 rfl (lv_at hl 0 rfl) ?_
  refine lv_iconst (v := (4 : Int32)) hx hb dX6_init_5 (by decide) ?_
  refine va_newq hx hb hown (hts _ q327) (hK.nw 9 rfl) hK.1 hP hD hS hA (by decide) (N' := 4) (by decide) (Nat.le_of_ble_eq_true rfl) (Nat.le_of_ble_eq_true rfl) (Nat.le_of_ble_eq_true rfl) dX6_init_6 (fun h_q1 cA H hK9 hP hD hS => ?_)
  obtain rfl := k_cls 5 hK9 rfl
  rw [rl_0 4] at hP hD
  have hP : va_P D clG [(h_k, .inr (5, [k_towns, k_night, k_reach, .int k_person, .int k_many, .int k_row, .int k_set, .long k_most])), (h_p1, .inr (4, [p1_then, .long p1_all])), (h_q1, .inl (dA 5, 4, .inr (.inr (.inr (.inr (rl [none, none, none, none]))))))] H := hP
  have hD : va_D A [(h_k, .inr (5, [k_towns, k_night, k_reach, .int k_person, .int k_many, .int k_row, .int k_set, .long k_most])), (h_p1, .inr (4, [p1_then, .long p1_all])), (h_q1, .inl (dA 5, 4, .inr (.inr (.inr (.inr (rl [none, none, none, none]))))))] := hD
  refine W.widen (k := 1) (n := 4) (Nat.le_of_ble_eq_true rfl) (Nat.le_of_ble_eq_true rfl) ?_
  refine va_putF (D := D) (ci := 5) (v := .ref h_q1) (ty := (.array (.object "LastAsked$Town"))) (C := RX6) (T := TX6) (N := 8) hx hb hts in_X6 tyX6 tyX6_ok nmX6 hown hK.1 hP hD hS 0 rfl rfl 0 (by decide) (hts _ q330) (fun _ h9 => h9) rfl hin rfl (by decide +kernel) rfl rfl (Nat.le_of_ble_eq_true rfl) dX6_init_9 (fun H locs hP hD hS => ?_)
  have hP : va_P D clG [(h_k, .inr (5, [.ref h_q1, k_night, k_reach, .int k_person, .int k_many, .int k_row, .int k_set, .long k_most])), (h_p1, .inr (4, [p1_then, .long p1_all])), (h_q1, .inl (dA 5, 4, .inr (.inr (.inr (.inr (rl [none, none, none, none]))))))] H := hP
  have hD : va_D A [(h_k, .inr (5, [.ref h_q1, k_night, k_reach, .int k_person, .int k_many, .int k_row, .int k_set, .long k_most])), (h_p1, .inr (4, [p1_then, .long p1_all])), (h_q1, .inl (dA 5, 4, .inr (.inr (.inr (.inr (rl [none, none, none, none]))))))] := hD
  refine lv_aload_n hx hb dX6_init_12 rfl (lv_at hl 0 rfl) ?_
  refine lv_sipush (v := (384 : Int32)) hx hb dX6_init_13 (by decide) ?_
  refine va_newa (atype := .int) (ty := .int) (a0 := (384, .inl (fun _ => 0))) (N' := 384) hx hb (hts _ q304) rfl hK.1 hP hD hS hA (fun _ => rfl) (by decide) (by decide) (Nat.le_of_ble_eq_true rfl) (Nat.le_of_ble_eq_true rfl) (Nat.le_of_ble_eq_true rfl) dX6_init_16 (fun h_q2 cA H hK9 hP hD hS => ?_)
  obtain rfl := k_cls 0 hK9 rfl
  have hP : va_P D clG [(h_k, .inr (5, [.ref h_q1, k_night, k_reach, .int k_person, .int k_many, .int k_row, .int k_set, .long k_most])), (h_p1, .inr (4, [p1_then, .long p1_all])), (h_q1, .inl (dA 5, 4, .inr (.inr (.inr (.inr (rl [none, none, none, none])))))), (h_q2, .inl (dA 0, 384, .inl ((fun _ => 0))))] H := hP
  have hD : va_D A [(h_k, .inr (5, [.ref h_q1, k_night, k_reach, .int k_person, .int k_many, .int k_row, .int k_set, .long k_most])), (h_p1, .inr (4, [p1_then, .long p1_all])), (h_q1, .inl (dA 5, 4, .inr (.inr (.inr (.inr (rl [none, none, none, none])))))), (h_q2, .inl (dA 0, 384, .inl ((fun _ => 0))))] := hD
  refine W.widen (k := 2) (n := 388) (Nat.le_of_ble_eq_true rfl) (Nat.le_of_ble_eq_true rfl) ?_
  refine va_putF (D := D) (ci := 5) (v := .ref h_q2) (ty := (.array .int)) (C := RX6) (T := TX6) (N := 8) hx hb hts in_X6 tyX6 tyX6_ok nmX6 hown hK.1 hP hD hS 0 rfl rfl 2 (by decide) (hts _ q332) (fun _ h9 => h9) rfl hin rfl (by decide +kernel) rfl rfl (Nat.le_of_ble_eq_true rfl) dX6_init_18 (fun H locs hP hD hS => ?_)
  have hP : va_P D clG [(h_k, .inr (5, [.ref h_q1, k_night, .ref h_q2, .int k_person, .int k_many, .int k_row, .int k_set, .long k_most])), (h_p1, .inr (4, [p1_then, .long p1_all])), (h_q1, .inl (dA 5, 4, .inr (.inr (.inr (.inr (rl [none, none, none, none])))))), (h_q2, .inl (dA 0, 384, .inl ((fun _ => 0))))] H := hP
  have hD : va_D A [(h_k, .inr (5, [.ref h_q1, k_night, .ref h_q2, .int k_person, .int k_many, .int k_row, .int k_set, .long k_most])), (h_p1, .inr (4, [p1_then, .long p1_all])), (h_q1, .inl (dA 5, 4, .inr (.inr (.inr (.inr (rl [none, none, none, none])))))), (h_q2, .inl (dA 0, 384, .inl ((fun _ => 0))))] := hD
  refine lv_aload_n hx hb dX6_init_21 rfl (lv_at hl 0 rfl) ?_
  refine lv_aload_n hx hb dX6_init_22 rfl (lv_at hl 1 rfl) ?_
  refine va_putF (D := D) (ci := 5) (v := .ref h_p1) (ty := (.object "LastAsked$Night")) (C := RX6) (T := TX6) (N := 8) hx hb hts in_X6 tyX6 tyX6_ok nmX6 hown hK.1 hP hD hS 0 rfl rfl 1 (by decide) (hts _ q331) (fun _ h9 => h9) rfl hin rfl (by decide +kernel) rfl rfl (Nat.le_of_ble_eq_true rfl) dX6_init_23 (fun H locs hP hD hS => ?_)
  have hP : va_P D clG [(h_k, .inr (5, [.ref h_q1, .ref h_p1, .ref h_q2, .int k_person, .int k_many, .int k_row, .int k_set, .long k_most])), (h_p1, .inr (4, [p1_then, .long p1_all])), (h_q1, .inl (dA 5, 4, .inr (.inr (.inr (.inr (rl [none, none, none, none])))))), (h_q2, .inl (dA 0, 384, .inl ((fun _ => 0))))] H := hP
  have hD : va_D A [(h_k, .inr (5, [.ref h_q1, .ref h_p1, .ref h_q2, .int k_person, .int k_many, .int k_row, .int k_set, .long k_most])), (h_p1, .inr (4, [p1_then, .long p1_all])), (h_q1, .inl (dA 5, 4, .inr (.inr (.inr (.inr (rl [none, none, none, none])))))), (h_q2, .inl (dA 0, 384, .inl ((fun _ => 0))))] := hD
  refine lv_iconst (v := (0 : Int32)) hx hb dX6_init_26 (by decide) ?_
  refine lv_istore_n (lv' := [(2, .int (0 : Int32)), (0, .ref h_k), (1, .ref h_p1)]) hx hb dX6_init_27 rfl hl (by decide) rfl (fun ls hl => ?_)
  have hl := lv_sub (l' := [(2, .int (0 : Int32)), (0, .ref h_k)]) hl [0, 1] rfl
  refine lv_iload_n hx hb dX6_init_28 rfl (lv_at hl 0 rfl) ?_
  refine lv_iconst (v := (3 : Int32)) hx hb dX6_init_29 (by decide) ?_
  refine lv_icmp_gt (tgt := 52) hx hb dX6_init_30 (by decide) (fun c3 => absurd c3 (by decide)) (fun _ => ?_)
  refine lv_aload_n hx hb dX6_init_33 rfl (lv_at hl 1 rfl) ?_
  refine va_get (D := D) (ci := 5) (v := .ref h_q1) (C := RX6) (T := TX6) (N := 8) hx hb hts in_X6 hown hK.1 hP 0 rfl rfl 0 (by decide) (hts _ q330) (fun _ h9 => h9) rfl dX6_init_34 ?_
  refine lv_iload_n hx hb dX6_init_37 rfl (lv_at hl 0 rfl) ?_
  refine va_new (ci := 3) (fs := [.null, .null, .null, .int (0 : Int32), .int (0 : Int32), .int (0 : Int32), .int (0 : Int32), .int (0 : Int32)]) (C := RX4) (T := TX4) (N := 8) hx hb hts in_X4 tyX4 tyX4_ok hown (hts _ q327) (hts _ q262) (hts _ q119) hK.1 hP hD hS hA rfl (fs_of rfl) (Nat.le_of_ble_eq_true rfl) (Nat.le_of_ble_eq_true rfl) dX6_init_38 (fun h_q4 H hP hD hS => ?_)
  have hP : va_P D clG [(h_k, .inr (5, [.ref h_q1, .ref h_p1, .ref h_q2, .int k_person, .int k_many, .int k_row, .int k_set, .long k_most])), (h_p1, .inr (4, [p1_then, .long p1_all])), (h_q1, .inl (dA 5, 4, .inr (.inr (.inr (.inr (rl [none, none, none, none])))))), (h_q2, .inl (dA 0, 384, .inl ((fun _ => 0)))), (h_q4, .inr (3, [.null, .null, .null, .int (0 : Int32), .int (0 : Int32), .int (0 : Int32), .int (0 : Int32), .int (0 : Int32)]))] H := hP
  have hD : va_D A [(h_k, .inr (5, [.ref h_q1, .ref h_p1, .ref h_q2, .int k_person, .int k_many, .int k_row, .int k_set, .long k_most])), (h_p1, .inr (4, [p1_then, .long p1_all])), (h_q1, .inl (dA 5, 4, .inr (.inr (.inr (.inr (rl [none, none, none, none])))))), (h_q2, .inl (dA 0, 384, .inl ((fun _ => 0)))), (h_q4, .inr (3, [.null, .null, .null, .int (0 : Int32), .int (0 : Int32), .int (0 : Int32), .int (0 : Int32), .int (0 : Int32)]))] := hD
  refine W.widen (k := 3) (n := 396) (Nat.le_of_ble_eq_true rfl) (Nat.le_of_ble_eq_true rfl) ?_
  refine lv_dup hx hb dX6_init_41 rfl ?_
  obtain ⟨r5, er5, hM⟩ := b_inv hM
  refine k_v [4] (va_runIN (As := []) (rest := [.ref h_q4, .int (0 : Int32), .ref h_q1]) ⟨hx, hb, hml, hown, hts⟩ (ctX4_init l D dA _ h_q4 (0 : Int32) (0 : Int32) (0 : Int32) (0 : Int32) (0 : Int32) (.null) (.null) (.null) r5 er5) ⟨va_cnB 0 hts (lw_meth q265) rfl rfl rfl (hK.nw 10 rfl) (hts _ q119) (by decide +kernel) ⟨Nat.le_of_ble_eq_true rfl, Nat.le_of_ble_eq_true rfl⟩, rfl, hts _ q264⟩ (pre_S (hP.sub [4] rfl) hK (hD.sub [4] (by decide) rfl)) rfl rfl hl.1 rfl (lv_room (Nat.le_of_ble_eq_true rfl)) dX6_init_42 ⟨Nat.le_of_ble_eq_true rfl, Nat.le_of_ble_eq_true rfl⟩) hP hD hS hA rfl (fun _ => rfl) (fun u6 H locs hP hD hS => ?_)
  have hP : va_P D clG [(h_k, .inr (5, [.ref h_q1, .ref h_p1, .ref h_q2, .int k_person, .int k_many, .int k_row, .int k_set, .long k_most])), (h_p1, .inr (4, [p1_then, .long p1_all])), (h_q1, .inl (dA 5, 4, .inr (.inr (.inr (.inr (rl [none, none, none, none])))))), (h_q2, .inl (dA 0, 384, .inl ((fun _ => 0)))), (h_q4, .inr (3, [.ref u6.1, .ref u6.2, .null, .int (0 : Int32), .int (0 : Int32), .int (0 : Int32), .int (0 : Int32), .int (0 : Int32)])), (u6.1, .inl (dA 0, 6, .inl ((fun _ => 0)))), (u6.2, .inl (dA 0, 36, .inl ((fun _ => 0))))] H := hP
  have hD : va_D A [(h_k, .inr (5, [.ref h_q1, .ref h_p1, .ref h_q2, .int k_person, .int k_many, .int k_row, .int k_set, .long k_most])), (h_p1, .inr (4, [p1_then, .long p1_all])), (h_q1, .inl (dA 5, 4, .inr (.inr (.inr (.inr (rl [none, none, none, none])))))), (h_q2, .inl (dA 0, 384, .inl ((fun _ => 0)))), (h_q4, .inr (3, [.ref u6.1, .ref u6.2, .null, .int (0 : Int32), .int (0 : Int32), .int (0 : Int32), .int (0 : Int32), .int (0 : Int32)])), (u6.1, .inl (dA 0, 6, .inl ((fun _ => 0)))), (u6.2, .inl (dA 0, 36, .inl ((fun _ => 0))))] := hD
  refine W.widen (k := 5) (n := 438) (Nat.le_of_ble_eq_true rfl) (Nat.le_of_ble_eq_true rfl) ?_
  refine va_astq hx hb hK.1 hP hD hS 2 5 4 3 rfl rfl rfl rfl (vin (by decide)) dX6_init_45 (fun H locs hP hD hS => ?_)
  have e9 : va_up (rl [none, none, none, none]) (Int32.toNatClampNeg (0 : Int32)) (some h_q4) = rl [some h_q4, none, none, none] := rl_set rfl (Nat.le_of_ble_eq_true rfl)
  rw [e9] at hP hD
  have hP : va_P D clG [(h_k, .inr (5, [.ref h_q1, .ref h_p1, .ref h_q2, .int k_person, .int k_many, .int k_row, .int k_set, .long k_most])), (h_p1, .inr (4, [p1_then, .long p1_all])), (h_q1, .inl (dA 5, 4, .inr (.inr (.inr (.inr (rl [some h_q4, none, none, none])))))), (h_q2, .inl (dA 0, 384, .inl ((fun _ => 0)))), (h_q4, .inr (3, [.ref u6.1, .ref u6.2, .null, .int (0 : Int32), .int (0 : Int32), .int (0 : Int32), .int (0 : Int32), .int (0 : Int32)])), (u6.1, .inl (dA 0, 6, .inl ((fun _ => 0)))), (u6.2, .inl (dA 0, 36, .inl ((fun _ => 0))))] H := hP
  have hD : va_D A [(h_k, .inr (5, [.ref h_q1, .ref h_p1, .ref h_q2, .int k_person, .int k_many, .int k_row, .int k_set, .long k_most])), (h_p1, .inr (4, [p1_then, .long p1_all])), (h_q1, .inl (dA 5, 4, .inr (.inr (.inr (.inr (rl [some h_q4, none, none, none])))))), (h_q2, .inl (dA 0, 384, .inl ((fun _ => 0)))), (h_q4, .inr (3, [.ref u6.1, .ref u6.2, .null, .int (0 : Int32), .int (0 : Int32), .int (0 : Int32), .int (0 : Int32), .int (0 : Int32)])), (u6.1, .inl (dA 0, 6, .inl ((fun _ => 0)))), (u6.2, .inl (dA 0, 36, .inl ((fun _ => 0))))] := hD
  refine lv_iinc (v := (1 : Int32)) (lv' := [(2, .int (1 : Int32)), (0, .ref h_k)]) hx hb dX6_init_46 hl (k := 0) rfl (by decide) (by decide) rfl (fun ls hl => ?_)
  refine lv_goto (tgt := 28) hx hb dX6_init_49 (by decide) ?_
  refine lv_iload_n hx hb dX6_init_28 rfl (lv_at hl 0 rfl) ?_
  refine lv_iconst (v := (3 : Int32)) hx hb dX6_init_29 (by decide) ?_
  refine lv_icmp_gt (tgt := 52) hx hb dX6_init_30 (by decide) (fun c9 => absurd c9 (by decide)) (fun _ => ?_)
  refine lv_aload_n hx hb dX6_init_33 rfl (lv_at hl 1 rfl) ?_
  refine va_get (D := D) (ci := 5) (v := .ref h_q1) (C := RX6) (T := TX6) (N := 8) hx hb hts in_X6 hown hK.1 hP 0 rfl rfl 0 (by decide) (hts _ q330) (fun _ h9 => h9) rfl dX6_init_34 ?_
  refine lv_iload_n hx hb dX6_init_37 rfl (lv_at hl 0 rfl) ?_
  refine va_new (ci := 3) (fs := [.null, .null, .null, .int (0 : Int32), .int (0 : Int32), .int (0 : Int32), .int (0 : Int32), .int (0 : Int32)]) (C := RX4) (T := TX4) (N := 8) hx hb hts in_X4 tyX4 tyX4_ok hown (hts _ q327) (hts _ q262) (hts _ q119) hK.1 hP hD hS hA rfl (fs_of rfl) (Nat.le_of_ble_eq_true rfl) (Nat.le_of_ble_eq_true rfl) dX6_init_38 (fun h_q10 H hP hD hS => ?_)
  have hP : va_P D clG [(h_k, .inr (5, [.ref h_q1, .ref h_p1, .ref h_q2, .int k_person, .int k_many, .int k_row, .int k_set, .long k_most])), (h_p1, .inr (4, [p1_then, .long p1_all])), (h_q1, .inl (dA 5, 4, .inr (.inr (.inr (.inr (rl [some h_q4, none, none, none])))))), (h_q2, .inl (dA 0, 384, .inl ((fun _ => 0)))), (h_q4, .inr (3, [.ref u6.1, .ref u6.2, .null, .int (0 : Int32), .int (0 : Int32), .int (0 : Int32), .int (0 : Int32), .int (0 : Int32)])), (u6.1, .inl (dA 0, 6, .inl ((fun _ => 0)))), (u6.2, .inl (dA 0, 36, .inl ((fun _ => 0)))), (h_q10, .inr (3, [.null, .null, .null, .int (0 : Int32), .int (0 : Int32), .int (0 : Int32), .int (0 : Int32), .int (0 : Int32)]))] H := hP
  have hD : va_D A [(h_k, .inr (5, [.ref h_q1, .ref h_p1, .ref h_q2, .int k_person, .int k_many, .int k_row, .int k_set, .long k_most])), (h_p1, .inr (4, [p1_then, .long p1_all])), (h_q1, .inl (dA 5, 4, .inr (.inr (.inr (.inr (rl [some h_q4, none, none, none])))))), (h_q2, .inl (dA 0, 384, .inl ((fun _ => 0)))), (h_q4, .inr (3, [.ref u6.1, .ref u6.2, .null, .int (0 : Int32), .int (0 : Int32), .int (0 : Int32), .int (0 : Int32), .int (0 : Int32)])), (u6.1, .inl (dA 0, 6, .inl ((fun _ => 0)))), (u6.2, .inl (dA 0, 36, .inl ((fun _ => 0)))), (h_q10, .inr (3, [.null, .null, .null, .int (0 : Int32), .int (0 : Int32), .int (0 : Int32), .int (0 : Int32), .int (0 : Int32)]))] := hD
  refine W.widen (k := 6) (n := 446) (Nat.le_of_ble_eq_true rfl) (Nat.le_of_ble_eq_true rfl) ?_
  refine lv_dup hx hb dX6_init_41 rfl ?_
  obtain ⟨r11, er11, hM⟩ := b_inv hM
  refine k_v [7] (va_runIN (As := []) (rest := [.ref h_q10, .int (1 : Int32), .ref h_q1]) ⟨hx, hb, hml, hown, hts⟩ (ctX4_init l D dA _ h_q10 (0 : Int32) (0 : Int32) (0 : Int32) (0 : Int32) (0 : Int32) (.null) (.null) (.null) r11 er11) ⟨va_cnB 0 hts (lw_meth q265) rfl rfl rfl (hK.nw 10 rfl) (hts _ q119) (by decide +kernel) ⟨Nat.le_of_ble_eq_true rfl, Nat.le_of_ble_eq_true rfl⟩, rfl, hts _ q264⟩ (pre_S (hP.sub [7] rfl) hK (hD.sub [7] (by decide) rfl)) rfl rfl hl.1 rfl (lv_room (Nat.le_of_ble_eq_true rfl)) dX6_init_42 ⟨Nat.le_of_ble_eq_true rfl, Nat.le_of_ble_eq_true rfl⟩) hP hD hS hA rfl (fun _ => rfl) (fun u12 H locs hP hD hS => ?_)
  have hP : va_P D clG [(h_k, .inr (5, [.ref h_q1, .ref h_p1, .ref h_q2, .int k_person, .int k_many, .int k_row, .int k_set, .long k_most])), (h_p1, .inr (4, [p1_then, .long p1_all])), (h_q1, .inl (dA 5, 4, .inr (.inr (.inr (.inr (rl [some h_q4, none, none, none])))))), (h_q2, .inl (dA 0, 384, .inl ((fun _ => 0)))), (h_q4, .inr (3, [.ref u6.1, .ref u6.2, .null, .int (0 : Int32), .int (0 : Int32), .int (0 : Int32), .int (0 : Int32), .int (0 : Int32)])), (u6.1, .inl (dA 0, 6, .inl ((fun _ => 0)))), (u6.2, .inl (dA 0, 36, .inl ((fun _ => 0)))), (h_q10, .inr (3, [.ref u12.1, .ref u12.2, .null, .int (0 : Int32), .int (0 : Int32), .int (0 : Int32), .int (0 : Int32), .int (0 : Int32)])), (u12.1, .inl (dA 0, 6, .inl ((fun _ => 0)))), (u12.2, .inl (dA 0, 36, .inl ((fun _ => 0))))] H := hP
  have hD : va_D A [(h_k, .inr (5, [.ref h_q1, .ref h_p1, .ref h_q2, .int k_person, .int k_many, .int k_row, .int k_set, .long k_most])), (h_p1, .inr (4, [p1_then, .long p1_all])), (h_q1, .inl (dA 5, 4, .inr (.inr (.inr (.inr (rl [some h_q4, none, none, none])))))), (h_q2, .inl (dA 0, 384, .inl ((fun _ => 0)))), (h_q4, .inr (3, [.ref u6.1, .ref u6.2, .null, .int (0 : Int32), .int (0 : Int32), .int (0 : Int32), .int (0 : Int32), .int (0 : Int32)])), (u6.1, .inl (dA 0, 6, .inl ((fun _ => 0)))), (u6.2, .inl (dA 0, 36, .inl ((fun _ => 0)))), (h_q10, .inr (3, [.ref u12.1, .ref u12.2, .null, .int (0 : Int32), .int (0 : Int32), .int (0 : Int32), .int (0 : Int32), .int (0 : Int32)])), (u12.1, .inl (dA 0, 6, .inl ((fun _ => 0)))), (u12.2, .inl (dA 0, 36, .inl ((fun _ => 0))))] := hD
  refine W.widen (k := 8) (n := 488) (Nat.le_of_ble_eq_true rfl) (Nat.le_of_ble_eq_true rfl) ?_
  refine va_astq hx hb hK.1 hP hD hS 2 5 7 3 rfl rfl rfl rfl (vin (by decide)) dX6_init_45 (fun H locs hP hD hS => ?_)
  have e9 : va_up (rl [some h_q4, none, none, none]) (Int32.toNatClampNeg (1 : Int32)) (some h_q10) = rl [some h_q4, some h_q10, none, none] := rl_set rfl (Nat.le_of_ble_eq_true rfl)
  rw [e9] at hP hD
  have hP : va_P D clG [(h_k, .inr (5, [.ref h_q1, .ref h_p1, .ref h_q2, .int k_person, .int k_many, .int k_row, .int k_set, .long k_most])), (h_p1, .inr (4, [p1_then, .long p1_all])), (h_q1, .inl (dA 5, 4, .inr (.inr (.inr (.inr (rl [some h_q4, some h_q10, none, none])))))), (h_q2, .inl (dA 0, 384, .inl ((fun _ => 0)))), (h_q4, .inr (3, [.ref u6.1, .ref u6.2, .null, .int (0 : Int32), .int (0 : Int32), .int (0 : Int32), .int (0 : Int32), .int (0 : Int32)])), (u6.1, .inl (dA 0, 6, .inl ((fun _ => 0)))), (u6.2, .inl (dA 0, 36, .inl ((fun _ => 0)))), (h_q10, .inr (3, [.ref u12.1, .ref u12.2, .null, .int (0 : Int32), .int (0 : Int32), .int (0 : Int32), .int (0 : Int32), .int (0 : Int32)])), (u12.1, .inl (dA 0, 6, .inl ((fun _ => 0)))), (u12.2, .inl (dA 0, 36, .inl ((fun _ => 0))))] H := hP
  have hD : va_D A [(h_k, .inr (5, [.ref h_q1, .ref h_p1, .ref h_q2, .int k_person, .int k_many, .int k_row, .int k_set, .long k_most])), (h_p1, .inr (4, [p1_then, .long p1_all])), (h_q1, .inl (dA 5, 4, .inr (.inr (.inr (.inr (rl [some h_q4, some h_q10, none, none])))))), (h_q2, .inl (dA 0, 384, .inl ((fun _ => 0)))), (h_q4, .inr (3, [.ref u6.1, .ref u6.2, .null, .int (0 : Int32), .int (0 : Int32), .int (0 : Int32), .int (0 : Int32), .int (0 : Int32)])), (u6.1, .inl (dA 0, 6, .inl ((fun _ => 0)))), (u6.2, .inl (dA 0, 36, .inl ((fun _ => 0)))), (h_q10, .inr (3, [.ref u12.1, .ref u12.2, .null, .int (0 : Int32), .int (0 : Int32), .int (0 : Int32), .int (0 : Int32), .int (0 : Int32)])), (u12.1, .inl (dA 0, 6, .inl ((fun _ => 0)))), (u12.2, .inl (dA 0, 36, .inl ((fun _ => 0))))] := hD
  refine lv_iinc (v := (2 : Int32)) (lv' := [(2, .int (2 : Int32)), (0, .ref h_k)]) hx hb dX6_init_46 hl (k := 0) rfl (by decide) (by decide) rfl (fun ls hl => ?_)
  refine lv_goto (tgt := 28) hx hb dX6_init_49 (by decide) ?_
  refine lv_iload_n hx hb dX6_init_28 rfl (lv_at hl 0 rfl) ?_
  refine lv_iconst (v := (3 : Int32)) hx hb dX6_init_29 (by decide) ?_
  refine lv_icmp_gt (tgt := 52) hx hb dX6_init_30 (by decide) (fun c15 => absurd c15 (by decide)) (fun _ => ?_)
  refine lv_aload_n hx hb dX6_init_33 rfl (lv_at hl 1 rfl) ?_
  refine va_get (D := D) (ci := 5) (v := .ref h_q1) (C := RX6) (T := TX6) (N := 8) hx hb hts in_X6 hown hK.1 hP 0 rfl rfl 0 (by decide) (hts _ q330) (fun _ h9 => h9) rfl dX6_init_34 ?_
  refine lv_iload_n hx hb dX6_init_37 rfl (lv_at hl 0 rfl) ?_
  refine va_new (ci := 3) (fs := [.null, .null, .null, .int (0 : Int32), .int (0 : Int32), .int (0 : Int32), .int (0 : Int32), .int (0 : Int32)]) (C := RX4) (T := TX4) (N := 8) hx hb hts in_X4 tyX4 tyX4_ok hown (hts _ q327) (hts _ q262) (hts _ q119) hK.1 hP hD hS hA rfl (fs_of rfl) (Nat.le_of_ble_eq_true rfl) (Nat.le_of_ble_eq_true rfl) dX6_init_38 (fun h_q16 H hP hD hS => ?_)
  have hP : va_P D clG [(h_k, .inr (5, [.ref h_q1, .ref h_p1, .ref h_q2, .int k_person, .int k_many, .int k_row, .int k_set, .long k_most])), (h_p1, .inr (4, [p1_then, .long p1_all])), (h_q1, .inl (dA 5, 4, .inr (.inr (.inr (.inr (rl [some h_q4, some h_q10, none, none])))))), (h_q2, .inl (dA 0, 384, .inl ((fun _ => 0)))), (h_q4, .inr (3, [.ref u6.1, .ref u6.2, .null, .int (0 : Int32), .int (0 : Int32), .int (0 : Int32), .int (0 : Int32), .int (0 : Int32)])), (u6.1, .inl (dA 0, 6, .inl ((fun _ => 0)))), (u6.2, .inl (dA 0, 36, .inl ((fun _ => 0)))), (h_q10, .inr (3, [.ref u12.1, .ref u12.2, .null, .int (0 : Int32), .int (0 : Int32), .int (0 : Int32), .int (0 : Int32), .int (0 : Int32)])), (u12.1, .inl (dA 0, 6, .inl ((fun _ => 0)))), (u12.2, .inl (dA 0, 36, .inl ((fun _ => 0)))), (h_q16, .inr (3, [.null, .null, .null, .int (0 : Int32), .int (0 : Int32), .int (0 : Int32), .int (0 : Int32), .int (0 : Int32)]))] H := hP
  have hD : va_D A [(h_k, .inr (5, [.ref h_q1, .ref h_p1, .ref h_q2, .int k_person, .int k_many, .int k_row, .int k_set, .long k_most])), (h_p1, .inr (4, [p1_then, .long p1_all])), (h_q1, .inl (dA 5, 4, .inr (.inr (.inr (.inr (rl [some h_q4, some h_q10, none, none])))))), (h_q2, .inl (dA 0, 384, .inl ((fun _ => 0)))), (h_q4, .inr (3, [.ref u6.1, .ref u6.2, .null, .int (0 : Int32), .int (0 : Int32), .int (0 : Int32), .int (0 : Int32), .int (0 : Int32)])), (u6.1, .inl (dA 0, 6, .inl ((fun _ => 0)))), (u6.2, .inl (dA 0, 36, .inl ((fun _ => 0)))), (h_q10, .inr (3, [.ref u12.1, .ref u12.2, .null, .int (0 : Int32), .int (0 : Int32), .int (0 : Int32), .int (0 : Int32), .int (0 : Int32)])), (u12.1, .inl (dA 0, 6, .inl ((fun _ => 0)))), (u12.2, .inl (dA 0, 36, .inl ((fun _ => 0)))), (h_q16, .inr (3, [.null, .null, .null, .int (0 : Int32), .int (0 : Int32), .int (0 : Int32), .int (0 : Int32), .int (0 : Int32)]))] := hD
  refine W.widen (k := 9) (n := 496) (Nat.le_of_ble_eq_true rfl) (Nat.le_of_ble_eq_true rfl) ?_
  refine lv_dup hx hb dX6_init_41 rfl ?_
  obtain ⟨r17, er17, hM⟩ := b_inv hM
  refine k_v [10] (va_runIN (As := []) (rest := [.ref h_q16, .int (2 : Int32), .ref h_q1]) ⟨hx, hb, hml, hown, hts⟩ (ctX4_init l D dA _ h_q16 (0 : Int32) (0 : Int32) (0 : Int32) (0 : Int32) (0 : Int32) (.null) (.null) (.null) r17 er17) ⟨va_cnB 0 hts (lw_meth q265) rfl rfl rfl (hK.nw 10 rfl) (hts _ q119) (by decide +kernel) ⟨Nat.le_of_ble_eq_true rfl, Nat.le_of_ble_eq_true rfl⟩, rfl, hts _ q264⟩ (pre_S (hP.sub [10] rfl) hK (hD.sub [10] (by decide) rfl)) rfl rfl hl.1 rfl (lv_room (Nat.le_of_ble_eq_true rfl)) dX6_init_42 ⟨Nat.le_of_ble_eq_true rfl, Nat.le_of_ble_eq_true rfl⟩) hP hD hS hA rfl (fun _ => rfl) (fun u18 H locs hP hD hS => ?_)
  have hP : va_P D clG [(h_k, .inr (5, [.ref h_q1, .ref h_p1, .ref h_q2, .int k_person, .int k_many, .int k_row, .int k_set, .long k_most])), (h_p1, .inr (4, [p1_then, .long p1_all])), (h_q1, .inl (dA 5, 4, .inr (.inr (.inr (.inr (rl [some h_q4, some h_q10, none, none])))))), (h_q2, .inl (dA 0, 384, .inl ((fun _ => 0)))), (h_q4, .inr (3, [.ref u6.1, .ref u6.2, .null, .int (0 : Int32), .int (0 : Int32), .int (0 : Int32), .int (0 : Int32), .int (0 : Int32)])), (u6.1, .inl (dA 0, 6, .inl ((fun _ => 0)))), (u6.2, .inl (dA 0, 36, .inl ((fun _ => 0)))), (h_q10, .inr (3, [.ref u12.1, .ref u12.2, .null, .int (0 : Int32), .int (0 : Int32), .int (0 : Int32), .int (0 : Int32), .int (0 : Int32)])), (u12.1, .inl (dA 0, 6, .inl ((fun _ => 0)))), (u12.2, .inl (dA 0, 36, .inl ((fun _ => 0)))), (h_q16, .inr (3, [.ref u18.1, .ref u18.2, .null, .int (0 : Int32), .int (0 : Int32), .int (0 : Int32), .int (0 : Int32), .int (0 : Int32)])), (u18.1, .inl (dA 0, 6, .inl ((fun _ => 0)))), (u18.2, .inl (dA 0, 36, .inl ((fun _ => 0))))] H := hP
  have hD : va_D A [(h_k, .inr (5, [.ref h_q1, .ref h_p1, .ref h_q2, .int k_person, .int k_many, .int k_row, .int k_set, .long k_most])), (h_p1, .inr (4, [p1_then, .long p1_all])), (h_q1, .inl (dA 5, 4, .inr (.inr (.inr (.inr (rl [some h_q4, some h_q10, none, none])))))), (h_q2, .inl (dA 0, 384, .inl ((fun _ => 0)))), (h_q4, .inr (3, [.ref u6.1, .ref u6.2, .null, .int (0 : Int32), .int (0 : Int32), .int (0 : Int32), .int (0 : Int32), .int (0 : Int32)])), (u6.1, .inl (dA 0, 6, .inl ((fun _ => 0)))), (u6.2, .inl (dA 0, 36, .inl ((fun _ => 0)))), (h_q10, .inr (3, [.ref u12.1, .ref u12.2, .null, .int (0 : Int32), .int (0 : Int32), .int (0 : Int32), .int (0 : Int32), .int (0 : Int32)])), (u12.1, .inl (dA 0, 6, .inl ((fun _ => 0)))), (u12.2, .inl (dA 0, 36, .inl ((fun _ => 0)))), (h_q16, .inr (3, [.ref u18.1, .ref u18.2, .null, .int (0 : Int32), .int (0 : Int32), .int (0 : Int32), .int (0 : Int32), .int (0 : Int32)])), (u18.1, .inl (dA 0, 6, .inl ((fun _ => 0)))), (u18.2, .inl (dA 0, 36, .inl ((fun _ => 0))))] := hD
  refine W.widen (k := 11) (n := 538) (Nat.le_of_ble_eq_true rfl) (Nat.le_of_ble_eq_true rfl) ?_
  refine va_astq hx hb hK.1 hP hD hS 2 5 10 3 rfl rfl rfl rfl (vin (by decide)) dX6_init_45 (fun H locs hP hD hS => ?_)
  have e9 : va_up (rl [some h_q4, some h_q10, none, none]) (Int32.toNatClampNeg (2 : Int32)) (some h_q16) = rl [some h_q4, some h_q10, some h_q16, none] := rl_set rfl (Nat.le_of_ble_eq_true rfl)
  rw [e9] at hP hD
  have hP : va_P D clG [(h_k, .inr (5, [.ref h_q1, .ref h_p1, .ref h_q2, .int k_person, .int k_many, .int k_row, .int k_set, .long k_most])), (h_p1, .inr (4, [p1_then, .long p1_all])), (h_q1, .inl (dA 5, 4, .inr (.inr (.inr (.inr (rl [some h_q4, some h_q10, some h_q16, none])))))), (h_q2, .inl (dA 0, 384, .inl ((fun _ => 0)))), (h_q4, .inr (3, [.ref u6.1, .ref u6.2, .null, .int (0 : Int32), .int (0 : Int32), .int (0 : Int32), .int (0 : Int32), .int (0 : Int32)])), (u6.1, .inl (dA 0, 6, .inl ((fun _ => 0)))), (u6.2, .inl (dA 0, 36, .inl ((fun _ => 0)))), (h_q10, .inr (3, [.ref u12.1, .ref u12.2, .null, .int (0 : Int32), .int (0 : Int32), .int (0 : Int32), .int (0 : Int32), .int (0 : Int32)])), (u12.1, .inl (dA 0, 6, .inl ((fun _ => 0)))), (u12.2, .inl (dA 0, 36, .inl ((fun _ => 0)))), (h_q16, .inr (3, [.ref u18.1, .ref u18.2, .null, .int (0 : Int32), .int (0 : Int32), .int (0 : Int32), .int (0 : Int32), .int (0 : Int32)])), (u18.1, .inl (dA 0, 6, .inl ((fun _ => 0)))), (u18.2, .inl (dA 0, 36, .inl ((fun _ => 0))))] H := hP
  have hD : va_D A [(h_k, .inr (5, [.ref h_q1, .ref h_p1, .ref h_q2, .int k_person, .int k_many, .int k_row, .int k_set, .long k_most])), (h_p1, .inr (4, [p1_then, .long p1_all])), (h_q1, .inl (dA 5, 4, .inr (.inr (.inr (.inr (rl [some h_q4, some h_q10, some h_q16, none])))))), (h_q2, .inl (dA 0, 384, .inl ((fun _ => 0)))), (h_q4, .inr (3, [.ref u6.1, .ref u6.2, .null, .int (0 : Int32), .int (0 : Int32), .int (0 : Int32), .int (0 : Int32), .int (0 : Int32)])), (u6.1, .inl (dA 0, 6, .inl ((fun _ => 0)))), (u6.2, .inl (dA 0, 36, .inl ((fun _ => 0)))), (h_q10, .inr (3, [.ref u12.1, .ref u12.2, .null, .int (0 : Int32), .int (0 : Int32), .int (0 : Int32), .int (0 : Int32), .int (0 : Int32)])), (u12.1, .inl (dA 0, 6, .inl ((fun _ => 0)))), (u12.2, .inl (dA 0, 36, .inl ((fun _ => 0)))), (h_q16, .inr (3, [.ref u18.1, .ref u18.2, .null, .int (0 : Int32), .int (0 : Int32), .int (0 : Int32), .int (0 : Int32), .int (0 : Int32)])), (u18.1, .inl (dA 0, 6, .inl ((fun _ => 0)))), (u18.2, .inl (dA 0, 36, .inl ((fun _ => 0))))] := hD
  refine lv_iinc (v := (3 : Int32)) (lv' := [(2, .int (3 : Int32)), (0, .ref h_k)]) hx hb dX6_init_46 hl (k := 0) rfl (by decide) (by decide) rfl (fun ls hl => ?_)
  refine lv_goto (tgt := 28) hx hb dX6_init_49 (by decide) ?_
  refine lv_iload_n hx hb dX6_init_28 rfl (lv_at hl 0 rfl) ?_
  refine lv_iconst (v := (3 : Int32)) hx hb dX6_init_29 (by decide) ?_
  refine lv_icmp_gt (tgt := 52) hx hb dX6_init_30 (by decide) (fun c21 => absurd c21 (by decide)) (fun _ => ?_)
  refine lv_aload_n hx hb dX6_init_33 rfl (lv_at hl 1 rfl) ?_
  refine va_get (D := D) (ci := 5) (v := .ref h_q1) (C := RX6) (T := TX6) (N := 8) hx hb hts in_X6 hown hK.1 hP 0 rfl rfl 0 (by decide) (hts _ q330) (fun _ h9 => h9) rfl dX6_init_34 ?_
  refine lv_iload_n hx hb dX6_init_37 rfl (lv_at hl 0 rfl) ?_
  refine va_new (ci := 3) (fs := [.null, .null, .null, .int (0 : Int32), .int (0 : Int32), .int (0 : Int32), .int (0 : Int32), .int (0 : Int32)]) (C := RX4) (T := TX4) (N := 8) hx hb hts in_X4 tyX4 tyX4_ok hown (hts _ q327) (hts _ q262) (hts _ q119) hK.1 hP hD hS hA rfl (fs_of rfl) (Nat.le_of_ble_eq_true rfl) (Nat.le_of_ble_eq_true rfl) dX6_init_38 (fun h_q22 H hP hD hS => ?_)
  have hP : va_P D clG [(h_k, .inr (5, [.ref h_q1, .ref h_p1, .ref h_q2, .int k_person, .int k_many, .int k_row, .int k_set, .long k_most])), (h_p1, .inr (4, [p1_then, .long p1_all])), (h_q1, .inl (dA 5, 4, .inr (.inr (.inr (.inr (rl [some h_q4, some h_q10, some h_q16, none])))))), (h_q2, .inl (dA 0, 384, .inl ((fun _ => 0)))), (h_q4, .inr (3, [.ref u6.1, .ref u6.2, .null, .int (0 : Int32), .int (0 : Int32), .int (0 : Int32), .int (0 : Int32), .int (0 : Int32)])), (u6.1, .inl (dA 0, 6, .inl ((fun _ => 0)))), (u6.2, .inl (dA 0, 36, .inl ((fun _ => 0)))), (h_q10, .inr (3, [.ref u12.1, .ref u12.2, .null, .int (0 : Int32), .int (0 : Int32), .int (0 : Int32), .int (0 : Int32), .int (0 : Int32)])), (u12.1, .inl (dA 0, 6, .inl ((fun _ => 0)))), (u12.2, .inl (dA 0, 36, .inl ((fun _ => 0)))), (h_q16, .inr (3, [.ref u18.1, .ref u18.2, .null, .int (0 : Int32), .int (0 : Int32), .int (0 : Int32), .int (0 : Int32), .int (0 : Int32)])), (u18.1, .inl (dA 0, 6, .inl ((fun _ => 0)))), (u18.2, .inl (dA 0, 36, .inl ((fun _ => 0)))), (h_q22, .inr (3, [.null, .null, .null, .int (0 : Int32), .int (0 : Int32), .int (0 : Int32), .int (0 : Int32), .int (0 : Int32)]))] H := hP
  have hD : va_D A [(h_k, .inr (5, [.ref h_q1, .ref h_p1, .ref h_q2, .int k_person, .int k_many, .int k_row, .int k_set, .long k_most])), (h_p1, .inr (4, [p1_then, .long p1_all])), (h_q1, .inl (dA 5, 4, .inr (.inr (.inr (.inr (rl [some h_q4, some h_q10, some h_q16, none])))))), (h_q2, .inl (dA 0, 384, .inl ((fun _ => 0)))), (h_q4, .inr (3, [.ref u6.1, .ref u6.2, .null, .int (0 : Int32), .int (0 : Int32), .int (0 : Int32), .int (0 : Int32), .int (0 : Int32)])), (u6.1, .inl (dA 0, 6, .inl ((fun _ => 0)))), (u6.2, .inl (dA 0, 36, .inl ((fun _ => 0)))), (h_q10, .inr (3, [.ref u12.1, .ref u12.2, .null, .int (0 : Int32), .int (0 : Int32), .int (0 : Int32), .int (0 : Int32), .int (0 : Int32)])), (u12.1, .inl (dA 0, 6, .inl ((fun _ => 0)))), (u12.2, .inl (dA 0, 36, .inl ((fun _ => 0)))), (h_q16, .inr (3, [.ref u18.1, .ref u18.2, .null, .int (0 : Int32), .int (0 : Int32), .int (0 : Int32), .int (0 : Int32), .int (0 : Int32)])), (u18.1, .inl (dA 0, 6, .inl ((fun _ => 0)))), (u18.2, .inl (dA 0, 36, .inl ((fun _ => 0)))), (h_q22, .inr (3, [.null, .null, .null, .int (0 : Int32), .int (0 : Int32), .int (0 : Int32), .int (0 : Int32), .int (0 : Int32)]))] := hD
  refine W.widen (k := 12) (n := 546) (Nat.le_of_ble_eq_true rfl) (Nat.le_of_ble_eq_true rfl) ?_
  refine lv_dup hx hb dX6_init_41 rfl ?_
  obtain ⟨r23, er23, hM⟩ := b_inv hM
  refine k_v [13] (va_runIN (As := []) (rest := [.ref h_q22, .int (3 : Int32), .ref h_q1]) ⟨hx, hb, hml, hown, hts⟩ (ctX4_init l D dA _ h_q22 (0 : Int32) (0 : Int32) (0 : Int32) (0 : Int32) (0 : Int32) (.null) (.null) (.null) r23 er23) ⟨va_cnB 0 hts (lw_meth q265) rfl rfl rfl (hK.nw 10 rfl) (hts _ q119) (by decide +kernel) ⟨Nat.le_of_ble_eq_true rfl, Nat.le_of_ble_eq_true rfl⟩, rfl, hts _ q264⟩ (pre_S (hP.sub [13] rfl) hK (hD.sub [13] (by decide) rfl)) rfl rfl hl.1 rfl (lv_room (Nat.le_of_ble_eq_true rfl)) dX6_init_42 ⟨Nat.le_of_ble_eq_true rfl, Nat.le_of_ble_eq_true rfl⟩) hP hD hS hA rfl (fun _ => rfl) (fun u24 H locs hP hD hS => ?_)
  have hP : va_P D clG [(h_k, .inr (5, [.ref h_q1, .ref h_p1, .ref h_q2, .int k_person, .int k_many, .int k_row, .int k_set, .long k_most])), (h_p1, .inr (4, [p1_then, .long p1_all])), (h_q1, .inl (dA 5, 4, .inr (.inr (.inr (.inr (rl [some h_q4, some h_q10, some h_q16, none])))))), (h_q2, .inl (dA 0, 384, .inl ((fun _ => 0)))), (h_q4, .inr (3, [.ref u6.1, .ref u6.2, .null, .int (0 : Int32), .int (0 : Int32), .int (0 : Int32), .int (0 : Int32), .int (0 : Int32)])), (u6.1, .inl (dA 0, 6, .inl ((fun _ => 0)))), (u6.2, .inl (dA 0, 36, .inl ((fun _ => 0)))), (h_q10, .inr (3, [.ref u12.1, .ref u12.2, .null, .int (0 : Int32), .int (0 : Int32), .int (0 : Int32), .int (0 : Int32), .int (0 : Int32)])), (u12.1, .inl (dA 0, 6, .inl ((fun _ => 0)))), (u12.2, .inl (dA 0, 36, .inl ((fun _ => 0)))), (h_q16, .inr (3, [.ref u18.1, .ref u18.2, .null, .int (0 : Int32), .int (0 : Int32), .int (0 : Int32), .int (0 : Int32), .int (0 : Int32)])), (u18.1, .inl (dA 0, 6, .inl ((fun _ => 0)))), (u18.2, .inl (dA 0, 36, .inl ((fun _ => 0)))), (h_q22, .inr (3, [.ref u24.1, .ref u24.2, .null, .int (0 : Int32), .int (0 : Int32), .int (0 : Int32), .int (0 : Int32), .int (0 : Int32)])), (u24.1, .inl (dA 0, 6, .inl ((fun _ => 0)))), (u24.2, .inl (dA 0, 36, .inl ((fun _ => 0))))] H := hP
  have hD : va_D A [(h_k, .inr (5, [.ref h_q1, .ref h_p1, .ref h_q2, .int k_person, .int k_many, .int k_row, .int k_set, .long k_most])), (h_p1, .inr (4, [p1_then, .long p1_all])), (h_q1, .inl (dA 5, 4, .inr (.inr (.inr (.inr (rl [some h_q4, some h_q10, some h_q16, none])))))), (h_q2, .inl (dA 0, 384, .inl ((fun _ => 0)))), (h_q4, .inr (3, [.ref u6.1, .ref u6.2, .null, .int (0 : Int32), .int (0 : Int32), .int (0 : Int32), .int (0 : Int32), .int (0 : Int32)])), (u6.1, .inl (dA 0, 6, .inl ((fun _ => 0)))), (u6.2, .inl (dA 0, 36, .inl ((fun _ => 0)))), (h_q10, .inr (3, [.ref u12.1, .ref u12.2, .null, .int (0 : Int32), .int (0 : Int32), .int (0 : Int32), .int (0 : Int32), .int (0 : Int32)])), (u12.1, .inl (dA 0, 6, .inl ((fun _ => 0)))), (u12.2, .inl (dA 0, 36, .inl ((fun _ => 0)))), (h_q16, .inr (3, [.ref u18.1, .ref u18.2, .null, .int (0 : Int32), .int (0 : Int32), .int (0 : Int32), .int (0 : Int32), .int (0 : Int32)])), (u18.1, .inl (dA 0, 6, .inl ((fun _ => 0)))), (u18.2, .inl (dA 0, 36, .inl ((fun _ => 0)))), (h_q22, .inr (3, [.ref u24.1, .ref u24.2, .null, .int (0 : Int32), .int (0 : Int32), .int (0 : Int32), .int (0 : Int32), .int (0 : Int32)])), (u24.1, .inl (dA 0, 6, .inl ((fun _ => 0)))), (u24.2, .inl (dA 0, 36, .inl ((fun _ => 0))))] := hD
  refine W.widen (k := 14) (n := 588) (Nat.le_of_ble_eq_true rfl) (Nat.le_of_ble_eq_true rfl) ?_
  refine va_astq hx hb hK.1 hP hD hS 2 5 13 3 rfl rfl rfl rfl (vin (by decide)) dX6_init_45 (fun H locs hP hD hS => ?_)
  have e9 : va_up (rl [some h_q4, some h_q10, some h_q16, none]) (Int32.toNatClampNeg (3 : Int32)) (some h_q22) = rl [some h_q4, some h_q10, some h_q16, some h_q22] := rl_set rfl (Nat.le_of_ble_eq_true rfl)
  rw [e9] at hP hD
  have hP : va_P D clG [(h_k, .inr (5, [.ref h_q1, .ref h_p1, .ref h_q2, .int k_person, .int k_many, .int k_row, .int k_set, .long k_most])), (h_p1, .inr (4, [p1_then, .long p1_all])), (h_q1, .inl (dA 5, 4, .inr (.inr (.inr (.inr (rl [some h_q4, some h_q10, some h_q16, some h_q22])))))), (h_q2, .inl (dA 0, 384, .inl ((fun _ => 0)))), (h_q4, .inr (3, [.ref u6.1, .ref u6.2, .null, .int (0 : Int32), .int (0 : Int32), .int (0 : Int32), .int (0 : Int32), .int (0 : Int32)])), (u6.1, .inl (dA 0, 6, .inl ((fun _ => 0)))), (u6.2, .inl (dA 0, 36, .inl ((fun _ => 0)))), (h_q10, .inr (3, [.ref u12.1, .ref u12.2, .null, .int (0 : Int32), .int (0 : Int32), .int (0 : Int32), .int (0 : Int32), .int (0 : Int32)])), (u12.1, .inl (dA 0, 6, .inl ((fun _ => 0)))), (u12.2, .inl (dA 0, 36, .inl ((fun _ => 0)))), (h_q16, .inr (3, [.ref u18.1, .ref u18.2, .null, .int (0 : Int32), .int (0 : Int32), .int (0 : Int32), .int (0 : Int32), .int (0 : Int32)])), (u18.1, .inl (dA 0, 6, .inl ((fun _ => 0)))), (u18.2, .inl (dA 0, 36, .inl ((fun _ => 0)))), (h_q22, .inr (3, [.ref u24.1, .ref u24.2, .null, .int (0 : Int32), .int (0 : Int32), .int (0 : Int32), .int (0 : Int32), .int (0 : Int32)])), (u24.1, .inl (dA 0, 6, .inl ((fun _ => 0)))), (u24.2, .inl (dA 0, 36, .inl ((fun _ => 0))))] H := hP
  have hD : va_D A [(h_k, .inr (5, [.ref h_q1, .ref h_p1, .ref h_q2, .int k_person, .int k_many, .int k_row, .int k_set, .long k_most])), (h_p1, .inr (4, [p1_then, .long p1_all])), (h_q1, .inl (dA 5, 4, .inr (.inr (.inr (.inr (rl [some h_q4, some h_q10, some h_q16, some h_q22])))))), (h_q2, .inl (dA 0, 384, .inl ((fun _ => 0)))), (h_q4, .inr (3, [.ref u6.1, .ref u6.2, .null, .int (0 : Int32), .int (0 : Int32), .int (0 : Int32), .int (0 : Int32), .int (0 : Int32)])), (u6.1, .inl (dA 0, 6, .inl ((fun _ => 0)))), (u6.2, .inl (dA 0, 36, .inl ((fun _ => 0)))), (h_q10, .inr (3, [.ref u12.1, .ref u12.2, .null, .int (0 : Int32), .int (0 : Int32), .int (0 : Int32), .int (0 : Int32), .int (0 : Int32)])), (u12.1, .inl (dA 0, 6, .inl ((fun _ => 0)))), (u12.2, .inl (dA 0, 36, .inl ((fun _ => 0)))), (h_q16, .inr (3, [.ref u18.1, .ref u18.2, .null, .int (0 : Int32), .int (0 : Int32), .int (0 : Int32), .int (0 : Int32), .int (0 : Int32)])), (u18.1, .inl (dA 0, 6, .inl ((fun _ => 0)))), (u18.2, .inl (dA 0, 36, .inl ((fun _ => 0)))), (h_q22, .inr (3, [.ref u24.1, .ref u24.2, .null, .int (0 : Int32), .int (0 : Int32), .int (0 : Int32), .int (0 : Int32), .int (0 : Int32)])), (u24.1, .inl (dA 0, 6, .inl ((fun _ => 0)))), (u24.2, .inl (dA 0, 36, .inl ((fun _ => 0))))] := hD
  refine lv_iinc (v := (4 : Int32)) (lv' := [(2, .int (4 : Int32)), (0, .ref h_k)]) hx hb dX6_init_46 hl (k := 0) rfl (by decide) (by decide) rfl (fun ls hl => ?_)
  refine lv_goto (tgt := 28) hx hb dX6_init_49 (by decide) ?_
  refine lv_iload_n hx hb dX6_init_28 rfl (lv_at hl 0 rfl) ?_
  refine lv_iconst (v := (3 : Int32)) hx hb dX6_init_29 (by decide) ?_
  refine lv_icmp_gt (tgt := 52) hx hb dX6_init_30 (by decide) (fun _ => ?_) (fun c27 => absurd c27 (by decide))
  have hM := Option.some.inj hM
  subst hM
  exact W.vret hx hb hr (fun t ht hW => ⟨⟨(h_q1, h_q2, h_q4, u6.1, u6.2, h_q10, u12.1, u12.2, h_q16, u18.1, u18.2, h_q22, u24.1, u24.2), rfl, trivial, by rw [ht]; exact hP, hD⟩, hS.F ht⟩) hS.2.2 dX6_init_52

set_option maxHeartbeats 40000000 in
set_option maxRecDepth 100000 in
theorem wX1_bytes_3 {p : Program} {l : Launch} {e : Env} {s : State} {m : MethodId} {args : Array Value} {below : List Frame} {meth : Method} {c : Code} {D : va_G} {dA : Nat → ClassId} {A : Nat → Prop} {Q : State → Prop} (hx : p.tables.exec = Jvm.exec) (hb : c.code = cX1_bytes) (hml : c.maxLocals = 3) (hown : s.vm.findClass RX1 = some m.cls) (hts : ∀ w ∈ lw_all, w.before args s = true) (hK : KK D dA s) (hA : ∀ q : Nat, s.heap.size ≤ q → A q) (h_o : Nat) (h_o_tape : Nat) (p0 : Int32) (o_taped : Int32) (o_trouble : Int32) (o_fault : Int32) (o_where : Int32) (o_imageMany : Int32) (o_undoMany : Int32) (o_firstRest : Int32) (o_catAt : Int32) (o_tape_ : AI) (o_scanner : Value) (o_city : Value) (o_town : Value) (o_was : Value) (o_trial : Value) (o_night : Value) (o_plans : Value) (o_undone : Value) (o_images : Value) (o_often : Value) (o_next : Value) :
    ∀ (k_ : Nat) (x2_3 : Int32) (o_taped_3 : Int32) (o_tape_3 : AI) (rx : (AI × Int32)) (H : Heap) (locs : List Loc) (ls : Array Slot), loopN k_ (fun s_ => BX1_bytes_3 p0 s_.1 s_.2.1 s_.2.2) (x2_3, o_taped_3, o_tape_3) = some rx → va_P D clG [(h_o, .inr (0, [.ref h_o_tape, .int o_taped_3, o_scanner, o_city, .int o_trouble, .int o_fault, .int o_where, .int o_imageMany, .int o_undoMany, o_town, o_was, o_trial, o_night, o_plans, o_undone, o_images, o_often, .int o_firstRest, o_next, .int o_catAt])), (h_o_tape, .inl (dA 2, 900, .inl (o_tape_3)))] H → va_D A [(h_o, .inr (0, [.ref h_o_tape, .int o_taped_3, o_scanner, o_city, .int o_trouble, .int o_fault, .int o_where, .int o_imageMany, .int o_undoMany, o_town, o_was, o_trial, o_night, o_plans, o_undone, o_images, o_often, .int o_firstRest, o_next, .int o_catAt])), (h_o_tape, .inl (dA 2, 900, .inl (o_tape_3)))] → va_S A s.heap H locs → lv_has ls 3 [(0, .ref h_o), (1, .int p0), (2, .int x2_3)] → (∀ (H1 : Heap) (locs1 : List Loc) (ls1 : Array Slot), va_P D clG [(h_o, .inr (0, [.ref h_o_tape, .int rx.2, o_scanner, o_city, .int o_trouble, .int o_fault, .int o_where, .int o_imageMany, .int o_undoMany, o_town, o_was, o_trial, o_night, o_plans, o_undone, o_images, o_often, .int o_firstRest, o_next, .int o_catAt])), (h_o_tape, .inl (dA 2, 900, .inl (rx.1)))] H1 → va_D A [(h_o, .inr (0, [.ref h_o_tape, .int rx.2, o_scanner, o_city, .int o_trouble, .int o_fault, .int o_where, .int o_imageMany, .int o_undoMany, o_town, o_was, o_trial, o_night, o_plans, o_undone, o_images, o_often, .int o_firstRest, o_next, .int o_catAt])), (h_o_tape, .inl (dA 2, 900, .inl (rx.1)))] → va_S A s.heap H1 locs1 → lv_has ls1 3 [] → W p l e (headSpec (ws_ yX1_bytes cX1_bytes 3 none) ({ frames := 0, cells := 0, slots := 0, locals := 0 })).room s m args below meth c H1 locs1 0 0 Q (F0 m 36 ls1 [])) → W p l e (headSpec (ws_ yX1_bytes cX1_bytes 3 none) ({ frames := 0, cells := 0, slots := 0, locals := 0 })).room s m args below meth c H locs 0 0 Q (F0 m 3 ls []) := by
  intro k_
  induction k_ with
  | zero =>
    intro x2_3 o_taped_3 o_tape_3 rx H locs ls hN
    cases hN
  | succ k_ ih =>
    intro x2_3 o_taped_3 o_tape_3 rx H locs ls hN hP hD hS hl kx0
    obtain ⟨r_, hM, hN⟩ := b_inv hN
    replace hM : BX1_bytes_3 p0 x2_3 o_taped_3 o_tape_3 = some r_ := hM
    unfold BX1_bytes_3 at hM
    refine lv_iload_n hx hb dX1_bytes_3 rfl (lv_at hl 2 rfl) ?_
    refine lv_if_lt (tgt := 36) hx hb dX1_bytes_4 (by decide) (fun c1 => ?_) (fun c1 => ?_)
    · rw [if_pos c1] at hM
      have hM := Option.some.inj hM
      subst hM
      have hN := Option.some.inj hN
      subst hN
      exact kx0 _ _ _ hP hD hS (lv_sub hl [] rfl)
    · rw [if_neg c1] at hM
      refine lv_aload_n hx hb dX1_bytes_7 rfl (lv_at hl 0 rfl) ?_
      refine va_get (D := D) (ci := 0) (v := .ref h_o_tape) (C := RX1) (T := TX1) (N := 20) hx hb hts in_X1 hown hK.1 hP 0 rfl rfl 0 (by decide) (hts _ q358) (fun _ h9 => h9) rfl dX1_bytes_8 ?_
      refine lv_aload_n hx hb dX1_bytes_11 rfl (lv_at hl 0 rfl) ?_
      refine va_get (D := D) (ci := 0) (v := .int o_taped_3) (C := RX1) (T := TX1) (N := 20) hx hb hts in_X1 hown hK.1 hP 0 rfl rfl 1 (by decide) (hts _ q359) (fun _ h9 => h9) rfl dX1_bytes_12 ?_
      refine lv_iload_n hx hb dX1_bytes_15 rfl (lv_at hl 1 rfl) ?_
      refine lv_iload_n hx hb dX1_bytes_16 rfl (lv_at hl 2 rfl) ?_
      refine lv_ishr hx hb dX1_bytes_17 ?_
      refine lv_i2b (v := (Int8.toInt32 (Int32.toInt8 (p0 >>> (x2_3 &&& 31))))) hx hb dX1_bytes_18 rfl ?_
      obtain ⟨h2, hM⟩ := gi_inv hM
      refine va_bast hx hb hK.1 hP hD hS 1 2 rfl rfl h2 dX1_bytes_19 (fun H locs hP hD hS => ?_)
      have hP : va_P D clG [(h_o, .inr (0, [.ref h_o_tape, .int o_taped_3, o_scanner, o_city, .int o_trouble, .int o_fault, .int o_where, .int o_imageMany, .int o_undoMany, o_town, o_was, o_trial, o_night, o_plans, o_undone, o_images, o_often, .int o_firstRest, o_next, .int o_catAt])), (h_o_tape, .inl (dA 2, 900, .inl ((upd o_tape_3 (Int32.toNatClampNeg o_taped_3) (vp_nar .byte (Int8.toInt32 (Int32.toInt8 (p0 >>> (x2_3 &&& 31)))))))))] H := hP
      have hD : va_D A [(h_o, .inr (0, [.ref h_o_tape, .int o_taped_3, o_scanner, o_city, .int o_trouble, .int o_fault, .int o_where, .int o_imageMany, .int o_undoMany, o_town, o_was, o_trial, o_night, o_plans, o_undone, o_images, o_often, .int o_firstRest, o_next, .int o_catAt])), (h_o_tape, .inl (dA 2, 900, .inl ((upd o_tape_3 (Int32.toNatClampNeg o_taped_3) (vp_nar .byte (Int8.toInt32 (Int32.toInt8 (p0 >>> (x2_3 &&& 31)))))))))] := hD
      refine lv_aload_n hx hb dX1_bytes_20 rfl (lv_at hl 0 rfl) ?_
      refine lv_dup hx hb dX1_bytes_21 rfl ?_
      refine va_get (D := D) (ci := 0) (v := .int o_taped_3) (C := RX1) (T := TX1) (N := 20) hx hb hts in_X1 hown hK.1 hP 0 rfl rfl 1 (by decide) (hts _ q359) (fun _ h9 => h9) rfl dX1_bytes_22 ?_
      refine lv_iconst (v := (1 : Int32)) hx hb dX1_bytes_25 (by decide) ?_
      refine lv_iadd hx hb dX1_bytes_26 ?_
      refine va_put (D := D) (ci := 0) (v := .int (o_taped_3 + (1 : Int32))) (ty := .int) (C := RX1) (T := TX1) (N := 20) hx hb hts in_X1 tyX1 tyX1_ok nmX1 hown hK.1 hP hD hS 0 rfl rfl 1 (by decide) (hts _ q359) (fun _ h9 => h9) rfl (by decide +kernel) rfl rfl (Nat.le_of_ble_eq_true rfl) dX1_bytes_27 (fun H locs hP hD hS => ?_)
      have hP : va_P D clG [(h_o, .inr (0, [.ref h_o_tape, .int (o_taped_3 + (1 : Int32)), o_scanner, o_city, .int o_trouble, .int o_fault, .int o_where, .int o_imageMany, .int o_undoMany, o_town, o_was, o_trial, o_night, o_plans, o_undone, o_images, o_often, .int o_firstRest, o_next, .int o_catAt])), (h_o_tape, .inl (dA 2, 900, .inl ((upd o_tape_3 (Int32.toNatClampNeg o_taped_3) (vp_nar .byte (Int8.toInt32 (Int32.toInt8 (p0 >>> (x2_3 &&& 31)))))))))] H := hP
      have hD : va_D A [(h_o, .inr (0, [.ref h_o_tape, .int (o_taped_3 + (1 : Int32)), o_scanner, o_city, .int o_trouble, .int o_fault, .int o_where, .int o_imageMany, .int o_undoMany, o_town, o_was, o_trial, o_night, o_plans, o_undone, o_images, o_often, .int o_firstRest, o_next, .int o_catAt])), (h_o_tape, .inl (dA 2, 900, .inl ((upd o_tape_3 (Int32.toNatClampNeg o_taped_3) (vp_nar .byte (Int8.toInt32 (Int32.toInt8 (p0 >>> (x2_3 &&& 31)))))))))] := hD
      refine lv_iinc (v := (x2_3 + (-8 : Int32))) (lv' := [(2, .int (x2_3 + (-8 : Int32))), (0, .ref h_o), (1, .int p0)]) hx hb dX1_bytes_30 hl (k := 2) rfl (rfl) (by decide) rfl (fun ls hl => ?_)
      refine lv_goto (tgt := 3) hx hb dX1_bytes_33 (by decide) ?_
      have hM := Option.some.inj hM
      subst hM
      exact ih (x2_3 + (-8 : Int32)) (o_taped_3 + (1 : Int32)) (upd o_tape_3 (Int32.toNatClampNeg o_taped_3) (vp_nar .byte (Int8.toInt32 (Int32.toInt8 (p0 >>> (x2_3 &&& 31)))))) _ _ _ _ hN hP hD hS (lv_sub hl [1, 2, 0] rfl) kx0
set_option maxHeartbeats 40000000 in
set_option maxRecDepth 100000 in
theorem ctX1_bytes (l : Launch) (D : va_G) (dA : Nat → ClassId) (sz : Nat) (h_o : Nat) (h_o_tape : Nat) (p0 : Int32) (o_taped : Int32) (o_trouble : Int32) (o_fault : Int32) (o_where : Int32) (o_imageMany : Int32) (o_undoMany : Int32) (o_firstRest : Int32) (o_catAt : Int32) (o_tape_ : AI) (o_scanner : Value) (o_city : Value) (o_town : Value) (o_was : Value) (o_trial : Value) (o_night : Value) (o_plans : Value) (o_undone : Value) (o_images : Value) (o_often : Value) (o_next : Value) (res : (Int32 × AI)) (hM : MX1_bytes p0 o_taped o_tape_ = some res) : Met l yX1_bytes (ws_ yX1_bytes cX1_bytes 3 none) ({ frames := 0, cells := 0, slots := 0, locals := 0 }) (pre_ D dA [.ref h_o, .int p0] [(h_o, .inr (0, [.ref h_o_tape, .int o_taped, o_scanner, o_city, .int o_trouble, .int o_fault, .int o_where, .int o_imageMany, .int o_undoMany, o_town, o_was, o_trial, o_night, o_plans, o_undone, o_images, o_often, .int o_firstRest, o_next, .int o_catAt])), (h_o_tape, .inl (dA 2, 900, .inl (o_tape_)))] sz) (qv_ D (fun (u : Unit) => [(h_o, .inr (0, [.ref h_o_tape, .int res.1, o_scanner, o_city, .int o_trouble, .int o_fault, .int o_where, .int o_imageMany, .int o_undoMany, o_town, o_was, o_trial, o_night, o_plans, o_undone, o_images, o_often, .int o_firstRest, o_next, .int o_catAt])), (h_o_tape, .inl (dA 2, 900, .inl (res.2)))]) (va_A [(h_o, .inr (0, [.ref h_o_tape, .int o_taped, o_scanner, o_city, .int o_trouble, .int o_fault, .int o_where, .int o_imageMany, .int o_undoMany, o_town, o_was, o_trial, o_night, o_plans, o_undone, o_images, o_often, .int o_firstRest, o_next, .int o_catAt])), (h_o_tape, .inl (dA 2, 900, .inl (o_tape_)))] sz)) 0 0 (va_A [(h_o, .inr (0, [.ref h_o_tape, .int o_taped, o_scanner, o_city, .int o_trouble, .int o_fault, .int o_where, .int o_imageMany, .int o_undoMany, o_town, o_was, o_trial, o_night, o_plans, o_undone, o_images, o_often, .int o_firstRest, o_next, .int o_catAt])), (h_o_tape, .inl (dA 2, 900, .inl (o_tape_)))] sz) := by
  refine Met.ofW (cc := cX1_bytes) (maxL := 3) (ret := none) (by decide) rfl ?_
  intro p e s m args below meth c s₁ B hml hv
  obtain ⟨rfl, hsz, hP, hK, hD0⟩ := hv
  have hx := B.exec
  have hb := B.bytes
  have hr := B.returns
  have hts := atoms_spec (ws := (ws_ yX1_bytes cX1_bytes 3 none)) B.pre
  have hts : ∀ w ∈ lw_all, w.before _ s = true := fun w h => hts w (List.mem_cons_of_mem _ h)
  have hown : s.vm.findClass RX1 = some m.cls := findClass_of_methodNamed B.named
  have hlocks := B.notSynchronized
  subst hsz
  have hD := hD0.self (sz := s.heap.size)
  generalize hAe : va_A [(h_o, .inr (0, [.ref h_o_tape, .int o_taped, o_scanner, o_city, .int o_trouble, .int o_fault, .int o_where, .int o_imageMany, .int o_undoMany, o_town, o_was, o_trial, o_night, o_plans, o_undone, o_images, o_often, .int o_firstRest, o_next, .int o_catAt])), (h_o_tape, .inl (dA 2, 900, .inl (o_tape_)))] s.heap.size = A at hD ⊢
  have hA : ∀ q : Nat, s.heap.size ≤ q → A q := fun q h => by rw [← hAe]; exact Or.inr h
  have hS : va_S A s.heap s.heap [] := va_S.rf
  have hP : va_P D clG [(h_o, .inr (0, [.ref h_o_tape, .int o_taped, o_scanner, o_city, .int o_trouble, .int o_fault, .int o_where, .int o_imageMany, .int o_undoMany, o_town, o_was, o_trial, o_night, o_plans, o_undone, o_images, o_often, .int o_firstRest, o_next, .int o_catAt])), (h_o_tape, .inl (dA 2, 900, .inl (o_tape_)))] s.heap := hP
  have hl := lv_entry ([.ref h_o, .int p0]) (n := 3) (Nat.le_of_ble_eq_true rfl)
  rw [lg_entry_eq]
  generalize (lg_sl ([.ref h_o, .int p0]) ++ List.replicate (3 - (lg_sl ([.ref h_o, .int p0])).length) Slot.unset).toArray = ls at hl ⊢
  have hl : lv_has ls 3 [(0, .ref h_o), (1, .int p0)] := hl
  unfold MX1_bytes at hM
  refine lv_bipush (v := (24 : Int32)) hx hb dX1_bytes_0 (by decide) ?_
  refine lv_istore_n (lv' := [(2, .int (24 : Int32)), (0, .ref h_o), (1, .int p0)]) hx hb dX1_bytes_2 rfl hl (by decide) rfl (fun ls hl => ?_)
  obtain ⟨r3, er3, hM⟩ := b_inv hM
  refine wX1_bytes_3 hx hb hml hown hts hK hA h_o h_o_tape p0 o_taped o_trouble o_fault o_where o_imageMany o_undoMany o_firstRest o_catAt o_tape_ o_scanner o_city o_town o_was o_trial o_night o_plans o_undone o_images o_often o_next _ (24 : Int32) o_taped o_tape_ _ _ _ _ er3 hP hD hS (lv_sub hl [1, 2, 0] rfl) (fun H locs ls hP hD hS hl => ?_)
  have hM := Option.some.inj hM
  subst hM
  exact W.vret hx hb hr (fun t ht hW => ⟨⟨(), rfl, trivial, by rw [ht]; exact hP, hD⟩, hS.F ht⟩) hS.2.2 dX1_bytes_36

set_option maxHeartbeats 40000000 in
set_option maxRecDepth 100000 in
theorem ctX1_feed (l : Launch) (D : va_G) (dA : Nat → ClassId) (sz : Nat) (h_o : Nat) (h_o_tape : Nat) (p0 : Int32) (p1 : Int32) (p2 : Int32) (p3 : Int32) (p4 : Int32) (o_taped : Int32) (o_trouble : Int32) (o_fault : Int32) (o_where : Int32) (o_imageMany : Int32) (o_undoMany : Int32) (o_firstRest : Int32) (o_catAt : Int32) (o_tape_ : AI) (o_scanner : Value) (o_city : Value) (o_town : Value) (o_was : Value) (o_trial : Value) (o_night : Value) (o_plans : Value) (o_undone : Value) (o_images : Value) (o_often : Value) (o_next : Value) (res : (Int32 × Int32 × AI)) (hM : MX1_feed p0 p1 p2 p3 p4 o_taped o_tape_ = some res) : Met l yX1_feed (ws_ yX1_feed cX1_feed 6 (some .int)) ({ frames := 1, cells := 0, slots := 0, locals := 22 }) (pre_ D dA [.ref h_o, .int p0, .int p1, .int p2, .int p3, .int p4] [(h_o, .inr (0, [.ref h_o_tape, .int o_taped, o_scanner, o_city, .int o_trouble, .int o_fault, .int o_where, .int o_imageMany, .int o_undoMany, o_town, o_was, o_trial, o_night, o_plans, o_undone, o_images, o_often, .int o_firstRest, o_next, .int o_catAt])), (h_o_tape, .inl (dA 2, 900, .inl (o_tape_)))] sz) (qi_ D res.1 (fun (u : Unit) => [(h_o, .inr (0, [.ref h_o_tape, .int res.2.1, o_scanner, o_city, .int o_trouble, .int o_fault, .int o_where, .int o_imageMany, .int o_undoMany, o_town, o_was, o_trial, o_night, o_plans, o_undone, o_images, o_often, .int o_firstRest, o_next, .int o_catAt])), (h_o_tape, .inl (dA 2, 900, .inl (res.2.2)))]) (va_A [(h_o, .inr (0, [.ref h_o_tape, .int o_taped, o_scanner, o_city, .int o_trouble, .int o_fault, .int o_where, .int o_imageMany, .int o_undoMany, o_town, o_was, o_trial, o_night, o_plans, o_undone, o_images, o_often, .int o_firstRest, o_next, .int o_catAt])), (h_o_tape, .inl (dA 2, 900, .inl (o_tape_)))] sz)) 0 0 (va_A [(h_o, .inr (0, [.ref h_o_tape, .int o_taped, o_scanner, o_city, .int o_trouble, .int o_fault, .int o_where, .int o_imageMany, .int o_undoMany, o_town, o_was, o_trial, o_night, o_plans, o_undone, o_images, o_often, .int o_firstRest, o_next, .int o_catAt])), (h_o_tape, .inl (dA 2, 900, .inl (o_tape_)))] sz) := by
  refine Met.ofW (cc := cX1_feed) (maxL := 6) (ret := (some .int)) (by decide) rfl ?_
  intro p e s m args below meth c s₁ B hml hv
  obtain ⟨rfl, hsz, hP, hK, hD0⟩ := hv
  have hx := B.exec
  have hb := B.bytes
  have hr := B.returns
  have hts := atoms_spec (ws := (ws_ yX1_feed cX1_feed 6 (some .int))) B.pre
  have hts : ∀ w ∈ lw_all, w.before _ s = true := fun w h => hts w (List.mem_cons_of_mem _ h)
  have hown : s.vm.findClass RX1 = some m.cls := findClass_of_methodNamed B.named
  have hlocks := B.notSynchronized
  subst hsz
  have hD := hD0.self (sz := s.heap.size)
  generalize hAe : va_A [(h_o, .inr (0, [.ref h_o_tape, .int o_taped, o_scanner, o_city, .int o_trouble, .int o_fault, .int o_where, .int o_imageMany, .int o_undoMany, o_town, o_was, o_trial, o_night, o_plans, o_undone, o_images, o_often, .int o_firstRest, o_next, .int o_catAt])), (h_o_tape, .inl (dA 2, 900, .inl (o_tape_)))] s.heap.size = A at hD ⊢
  have hA : ∀ q : Nat, s.heap.size ≤ q → A q := fun q h => by rw [← hAe]; exact Or.inr h
  have hS : va_S A s.heap s.heap [] := va_S.rf
  have hP : va_P D clG [(h_o, .inr (0, [.ref h_o_tape, .int o_taped, o_scanner, o_city, .int o_trouble, .int o_fault, .int o_where, .int o_imageMany, .int o_undoMany, o_town, o_was, o_trial, o_night, o_plans, o_undone, o_images, o_often, .int o_firstRest, o_next, .int o_catAt])), (h_o_tape, .inl (dA 2, 900, .inl (o_tape_)))] s.heap := hP
  have hl := lv_entry ([.ref h_o, .int p0, .int p1, .int p2, .int p3, .int p4]) (n := 6) (Nat.le_of_ble_eq_true rfl)
  rw [lg_entry_eq]
  generalize (lg_sl ([.ref h_o, .int p0, .int p1, .int p2, .int p3, .int p4]) ++ List.replicate (6 - (lg_sl ([.ref h_o, .int p0, .int p1, .int p2, .int p3, .int p4])).length) Slot.unset).toArray = ls at hl ⊢
  have hl : lv_has ls 6 [(0, .ref h_o), (1, .int p0), (2, .int p1), (3, .int p2), (4, .int p3), (5, .int p4)] := hl
  unfold MX1_feed at hM
  refine lv_aload_n hx hb dX1_feed_0 rfl (lv_at hl 0 rfl) ?_
  refine va_get (D := D) (ci := 0) (v := .int o_taped) (C := RX1) (T := TX1) (N := 20) hx hb hts in_X1 hown hK.1 hP 0 rfl rfl 1 (by decide) (hts _ q359) (fun _ h9 => h9) rfl dX1_feed_1 ?_
  refine lv_bipush (v := (20 : Int32)) hx hb dX1_feed_4 (by decide) ?_
  refine lv_iadd hx hb dX1_feed_6 ?_
  refine lv_sipush (v := (900 : Int32)) hx hb dX1_feed_7 (by decide) ?_
  refine lv_icmp_le (tgt := 15) hx hb dX1_feed_10 (by decide) (fun c1 => ?_) (fun c1 => ?_)
  · rw [if_pos c1] at hM
    refine lv_aload_n hx hb dX1_feed_15 rfl (lv_at hl 0 rfl) ?_
    refine lv_iload_n hx hb dX1_feed_16 rfl (lv_at hl 1 rfl) ?_
    obtain ⟨r2, er2, hM⟩ := b_inv hM
    refine k_v0 [0, 1] (va_runV (As := [.int p0]) (rest := []) ⟨hx, hb, hml, hown, hts⟩ (ctX1_bytes l D dA _ h_o h_o_tape p0 o_taped o_trouble o_fault o_where o_imageMany o_undoMany o_firstRest o_catAt o_tape_ (o_scanner) (o_city) (o_town) (o_was) (o_trial) (o_night) (o_plans) (o_undone) (o_images) (o_often) (o_next) r2 er2) (cwV 1 hts (lw_V q423 q425 qs1 q113 q426) rfl rfl rfl (by decide +kernel) ⟨Nat.le_of_ble_eq_true rfl, Nat.le_of_ble_eq_true rfl⟩) (pre_V (hP.sub [0, 1] rfl) hK (hD.sub [0, 1] (by decide) rfl) (ci := 0) (q0 := 0) rfl rfl) rfl rfl hl.1 rfl (lv_room (Nat.le_of_ble_eq_true rfl)) dX1_feed_17 ⟨Nat.le_of_ble_eq_true rfl, Nat.le_of_ble_eq_true rfl⟩) hP hD hS hA rfl (fun _ => rfl) (fun u3 H locs hP hD hS => ?_)
    have hP : va_P D clG [(h_o, .inr (0, [.ref h_o_tape, .int r2.1, o_scanner, o_city, .int o_trouble, .int o_fault, .int o_where, .int o_imageMany, .int o_undoMany, o_town, o_was, o_trial, o_night, o_plans, o_undone, o_images, o_often, .int o_firstRest, o_next, .int o_catAt])), (h_o_tape, .inl (dA 2, 900, .inl (r2.2)))] H := hP
    have hD : va_D A [(h_o, .inr (0, [.ref h_o_tape, .int r2.1, o_scanner, o_city, .int o_trouble, .int o_fault, .int o_where, .int o_imageMany, .int o_undoMany, o_town, o_was, o_trial, o_night, o_plans, o_undone, o_images, o_often, .int o_firstRest, o_next, .int o_catAt])), (h_o_tape, .inl (dA 2, 900, .inl (r2.2)))] := hD
    refine lv_aload_n hx hb dX1_feed_20 rfl (lv_at hl 0 rfl) ?_
    refine lv_iload_n hx hb dX1_feed_21 rfl (lv_at hl 2 rfl) ?_
    obtain ⟨r4, er4, hM⟩ := b_inv hM
    refine k_v0 [0, 1] (va_runV (As := [.int p1]) (rest := []) ⟨hx, hb, hml, hown, hts⟩ (ctX1_bytes l D dA _ h_o h_o_tape p1 r2.1 o_trouble o_fault o_where o_imageMany o_undoMany o_firstRest o_catAt r2.2 (o_scanner) (o_city) (o_town) (o_was) (o_trial) (o_night) (o_plans) (o_undone) (o_images) (o_often) (o_next) r4 er4) (cwV 1 hts (lw_V q423 q425 qs1 q113 q426) rfl rfl rfl (by decide +kernel) ⟨Nat.le_of_ble_eq_true rfl, Nat.le_of_ble_eq_true rfl⟩) (pre_V (hP.sub [0, 1] rfl) hK (hD.sub [0, 1] (by decide) rfl) (ci := 0) (q0 := 0) rfl rfl) rfl rfl hl.1 rfl (lv_room (Nat.le_of_ble_eq_true rfl)) dX1_feed_22 ⟨Nat.le_of_ble_eq_true rfl, Nat.le_of_ble_eq_true rfl⟩) hP hD hS hA rfl (fun _ => rfl) (fun u5 H locs hP hD hS => ?_)
    have hP : va_P D clG [(h_o, .inr (0, [.ref h_o_tape, .int r4.1, o_scanner, o_city, .int o_trouble, .int o_fault, .int o_where, .int o_imageMany, .int o_undoMany, o_town, o_was, o_trial, o_night, o_plans, o_undone, o_images, o_often, .int o_firstRest, o_next, .int o_catAt])), (h_o_tape, .inl (dA 2, 900, .inl (r4.2)))] H := hP
    have hD : va_D A [(h_o, .inr (0, [.ref h_o_tape, .int r4.1, o_scanner, o_city, .int o_trouble, .int o_fault, .int o_where, .int o_imageMany, .int o_undoMany, o_town, o_was, o_trial, o_night, o_plans, o_undone, o_images, o_often, .int o_firstRest, o_next, .int o_catAt])), (h_o_tape, .inl (dA 2, 900, .inl (r4.2)))] := hD
    refine lv_aload_n hx hb dX1_feed_25 rfl (lv_at hl 0 rfl) ?_
    refine lv_iload_n hx hb dX1_feed_26 rfl (lv_at hl 3 rfl) ?_
    obtain ⟨r6, er6, hM⟩ := b_inv hM
    refine k_v0 [0, 1] (va_runV (As := [.int p2]) (rest := []) ⟨hx, hb, hml, hown, hts⟩ (ctX1_bytes l D dA _ h_o h_o_tape p2 r4.1 o_trouble o_fault o_where o_imageMany o_undoMany o_firstRest o_catAt r4.2 (o_scanner) (o_city) (o_town) (o_was) (o_trial) (o_night) (o_plans) (o_undone) (o_images) (o_often) (o_next) r6 er6) (cwV 1 hts (lw_V q423 q425 qs1 q113 q426) rfl rfl rfl (by decide +kernel) ⟨Nat.le_of_ble_eq_true rfl, Nat.le_of_ble_eq_true rfl⟩) (pre_V (hP.sub [0, 1] rfl) hK (hD.sub [0, 1] (by decide) rfl) (ci := 0) (q0 := 0) rfl rfl) rfl rfl hl.1 rfl (lv_room (Nat.le_of_ble_eq_true rfl)) dX1_feed_27 ⟨Nat.le_of_ble_eq_true rfl, Nat.le_of_ble_eq_true rfl⟩) hP hD hS hA rfl (fun _ => rfl) (fun u7 H locs hP hD hS => ?_)
    have hP : va_P D clG [(h_o, .inr (0, [.ref h_o_tape, .int r6.1, o_scanner, o_city, .int o_trouble, .int o_fault, .int o_where, .int o_imageMany, .int o_undoMany, o_town, o_was, o_trial, o_night, o_plans, o_undone, o_images, o_often, .int o_firstRest, o_next, .int o_catAt])), (h_o_tape, .inl (dA 2, 900, .inl (r6.2)))] H := hP
    have hD : va_D A [(h_o, .inr (0, [.ref h_o_tape, .int r6.1, o_scanner, o_city, .int o_trouble, .int o_fault, .int o_where, .int o_imageMany, .int o_undoMany, o_town, o_was, o_trial, o_night, o_plans, o_undone, o_images, o_often, .int o_firstRest, o_next, .int o_catAt])), (h_o_tape, .inl (dA 2, 900, .inl (r6.2)))] := hD
    refine lv_aload_n hx hb dX1_feed_30 rfl (lv_at hl 0 rfl) ?_
    refine lv_iload hx hb dX1_feed_31 (lv_at hl 4 rfl) ?_
    obtain ⟨r8, er8, hM⟩ := b_inv hM
    refine k_v0 [0, 1] (va_runV (As := [.int p3]) (rest := []) ⟨hx, hb, hml, hown, hts⟩ (ctX1_bytes l D dA _ h_o h_o_tape p3 r6.1 o_trouble o_fault o_where o_imageMany o_undoMany o_firstRest o_catAt r6.2 (o_scanner) (o_city) (o_town) (o_was) (o_trial) (o_night) (o_plans) (o_undone) (o_images) (o_often) (o_next) r8 er8) (cwV 1 hts (lw_V q423 q425 qs1 q113 q426) rfl rfl rfl (by decide +kernel) ⟨Nat.le_of_ble_eq_true rfl, Nat.le_of_ble_eq_true rfl⟩) (pre_V (hP.sub [0, 1] rfl) hK (hD.sub [0, 1] (by decide) rfl) (ci := 0) (q0 := 0) rfl rfl) rfl rfl hl.1 rfl (lv_room (Nat.le_of_ble_eq_true rfl)) dX1_feed_33 ⟨Nat.le_of_ble_eq_true rfl, Nat.le_of_ble_eq_true rfl⟩) hP hD hS hA rfl (fun _ => rfl) (fun u9 H locs hP hD hS => ?_)
    have hP : va_P D clG [(h_o, .inr (0, [.ref h_o_tape, .int r8.1, o_scanner, o_city, .int o_trouble, .int o_fault, .int o_where, .int o_imageMany, .int o_undoMany, o_town, o_was, o_trial, o_night, o_plans, o_undone, o_images, o_often, .int o_firstRest, o_next, .int o_catAt])), (h_o_tape, .inl (dA 2, 900, .inl (r8.2)))] H := hP
    have hD : va_D A [(h_o, .inr (0, [.ref h_o_tape, .int r8.1, o_scanner, o_city, .int o_trouble, .int o_fault, .int o_where, .int o_imageMany, .int o_undoMany, o_town, o_was, o_trial, o_night, o_plans, o_undone, o_images, o_often, .int o_firstRest, o_next, .int o_catAt])), (h_o_tape, .inl (dA 2, 900, .inl (r8.2)))] := hD
    refine lv_aload_n hx hb dX1_feed_36 rfl (lv_at hl 0 rfl) ?_
    refine lv_iload hx hb dX1_feed_37 (lv_at hl 5 rfl) ?_
    obtain ⟨r10, er10, hM⟩ := b_inv hM
    refine k_v0 [0, 1] (va_runV (As := [.int p4]) (rest := []) ⟨hx, hb, hml, hown, hts⟩ (ctX1_bytes l D dA _ h_o h_o_tape p4 r8.1 o_trouble o_fault o_where o_imageMany o_undoMany o_firstRest o_catAt r8.2 (o_scanner) (o_city) (o_town) (o_was) (o_trial) (o_night) (o_plans) (o_undone) (o_images) (o_often) (o_next) r10 er10) (cwV 1 hts (lw_V q423 q425 qs1 q113 q426) rfl rfl rfl (by decide +kernel) ⟨Nat.le_of_ble_eq_true rfl, Nat.le_of_ble_eq_true rfl⟩) (pre_V (hP.sub [0, 1] rfl) hK (hD.sub [0, 1] (by decide) rfl) (ci := 0) (q0 := 0) rfl rfl) rfl rfl hl.1 rfl (lv_room (Nat.le_of_ble_eq_true rfl)) dX1_feed_39 ⟨Nat.le_of_ble_eq_true rfl, Nat.le_of_ble_eq_true rfl⟩) hP hD hS hA rfl (fun _ => rfl) (fun u11 H locs hP hD hS => ?_)
    have hP : va_P D clG [(h_o, .inr (0, [.ref h_o_tape, .int r10.1, o_scanner, o_city, .int o_trouble, .int o_fault, .int o_where, .int o_imageMany, .int o_undoMany, o_town, o_was, o_trial, o_night, o_plans, o_undone, o_images, o_often, .int o_firstRest, o_next, .int o_catAt])), (h_o_tape, .inl (dA 2, 900, .inl (r10.2)))] H := hP
    have hD : va_D A [(h_o, .inr (0, [.ref h_o_tape, .int r10.1, o_scanner, o_city, .int o_trouble, .int o_fault, .int o_where, .int o_imageMany, .int o_undoMany, o_town, o_was, o_trial, o_night, o_plans, o_undone, o_images, o_often, .int o_firstRest, o_next, .int o_catAt])), (h_o_tape, .inl (dA 2, 900, .inl (r10.2)))] := hD
    refine lv_aload_n hx hb dX1_feed_42 rfl (lv_at hl 0 rfl) ?_
    refine va_get (D := D) (ci := 0) (v := .int r10.1) (C := RX1) (T := TX1) (N := 20) hx hb hts in_X1 hown hK.1 hP 0 rfl rfl 1 (by decide) (hts _ q359) (fun _ h9 => h9) rfl dX1_feed_43 ?_
    have hM := Option.some.inj hM
    subst hM
    exact W.iret (v := r10.1) hx hb hr (fun t ht hW => ⟨⟨r10.1, (), rfl, rfl, by rw [ht]; exact hP, hD⟩, hS.F ht⟩) hS.2.2 dX1_feed_46
  · rw [if_neg c1] at hM
    refine lv_iconst (v := (-1 : Int32)) hx hb dX1_feed_13 (by decide) ?_
    have hM := Option.some.inj hM
    subst hM
    exact W.iret (v := (-1 : Int32)) hx hb hr (fun t ht hW => ⟨⟨(-1 : Int32), (), rfl, rfl, by rw [ht]; exact hP, hD⟩, hS.F ht⟩) hS.2.2 dX1_feed_14

set_option maxHeartbeats 40000000 in
set_option maxRecDepth 100000 in
theorem ctX1_anew (l : Launch) (D : va_G) (dA : Nat → ClassId) (sz : Nat) (h_o : Nat) (o_taped : Int32) (o_trouble : Int32) (o_fault : Int32) (o_where : Int32) (o_imageMany : Int32) (o_undoMany : Int32) (o_firstRest : Int32) (o_catAt : Int32) (o_tape : Value) (o_scanner : Value) (o_city : Value) (o_town : Value) (o_was : Value) (o_trial : Value) (o_night : Value) (o_plans : Value) (o_undone : Value) (o_images : Value) (o_often : Value) (o_next : Value) (res : (Int32 × Int32)) (hM : MX1_anew  = some res) : Met l yX1_anew (ws_ yX1_anew cX1_anew 1 none) ({ frames := 0, cells := 0, slots := 0, locals := 0 }) (pre_ D dA [.ref h_o] [(h_o, .inr (0, [o_tape, .int o_taped, o_scanner, o_city, .int o_trouble, .int o_fault, .int o_where, .int o_imageMany, .int o_undoMany, o_town, o_was, o_trial, o_night, o_plans, o_undone, o_images, o_often, .int o_firstRest, o_next, .int o_catAt]))] sz) (qv_ D (fun (u : Unit) => [(h_o, .inr (0, [o_tape, .int o_taped, o_scanner, o_city, .int res.1, .int o_fault, .int res.2, .int o_imageMany, .int o_undoMany, o_town, o_was, o_trial, o_night, o_plans, o_undone, o_images, o_often, .int o_firstRest, o_next, .int o_catAt]))]) (va_A [(h_o, .inr (0, [o_tape, .int o_taped, o_scanner, o_city, .int o_trouble, .int o_fault, .int o_where, .int o_imageMany, .int o_undoMany, o_town, o_was, o_trial, o_night, o_plans, o_undone, o_images, o_often, .int o_firstRest, o_next, .int o_catAt]))] sz)) 0 0 (va_A [(h_o, .inr (0, [o_tape, .int o_taped, o_scanner, o_city, .int o_trouble, .int o_fault, .int o_where, .int o_imageMany, .int o_undoMany, o_town, o_was, o_trial, o_night, o_plans, o_undone, o_images, o_often, .int o_firstRest, o_next, .int o_catAt]))] sz) := by
  refine Met.ofW (cc := cX1_anew) (maxL := 1) (ret := none) (by decide) rfl ?_
  intro p e s m args below meth c s₁ B hml hv
  obtain ⟨rfl, hsz, hP, hK, hD0⟩ := hv
  have hx := B.exec
  have hb := B.bytes
  have hr := B.returns
  have hts := atoms_spec (ws := (ws_ yX1_anew cX1_anew 1 none)) B.pre
  have hts : ∀ w ∈ lw_all, w.before _ s = true := fun w h => hts w (List.mem_cons_of_mem _ h)
  have hown : s.vm.findClass RX1 = some m.cls := findClass_of_methodNamed B.named
  have hlocks := B.notSynchronized
  subst hsz
  have hD := hD0.self (sz := s.heap.size)
  generalize hAe : va_A [(h_o, .inr (0, [o_tape, .int o_taped, o_scanner, o_city, .int o_trouble, .int o_fault, .int o_where, .int o_imageMany, .int o_undoMany, o_town, o_was, o_trial, o_night, o_plans, o_undone, o_images, o_often, .int o_firstRest, o_next, .int o_catAt]))] s.heap.size = A at hD ⊢
  have hA : ∀ q : Nat, s.heap.size ≤ q → A q := fun q h => by rw [← hAe]; exact Or.inr h
  have hS : va_S A s.heap s.heap [] := va_S.rf
  have hP : va_P D clG [(h_o, .inr (0, [o_tape, .int o_taped, o_scanner, o_city, .int o_trouble, .int o_fault, .int o_where, .int o_imageMany, .int o_undoMany, o_town, o_was, o_trial, o_night, o_plans, o_undone, o_images, o_often, .int o_firstRest, o_next, .int o_catAt]))] s.heap := hP
  have hl := lv_entry ([.ref h_o]) (n := 1) (Nat.le_of_ble_eq_true rfl)
  rw [lg_entry_eq]
  generalize (lg_sl ([.ref h_o]) ++ List.replicate (1 - (lg_sl ([.ref h_o])).length) Slot.unset).toArray = ls at hl ⊢
  have hl : lv_has ls 1 [(0, .ref h_o)] := hl
  unfold MX1_anew at hM
  refine lv_aload_n hx hb dX1_anew_0 rfl (lv_at hl 0 rfl) ?_
  refine lv_iconst (v := (0 : Int32)) hx hb dX1_anew_1 (by decide) ?_
  refine va_put (D := D) (ci := 0) (v := .int (0 : Int32)) (ty := .int) (C := RX1) (T := TX1) (N := 20) hx hb hts in_X1 tyX1 tyX1_ok nmX1 hown hK.1 hP hD hS 0 rfl rfl 4 (by decide) (hts _ q362) (fun _ h9 => h9) rfl (by decide +kernel) rfl rfl (Nat.le_of_ble_eq_true rfl) dX1_anew_2 (fun H locs hP hD hS => ?_)
  have hP : va_P D clG [(h_o, .inr (0, [o_tape, .int o_taped, o_scanner, o_city, .int (0 : Int32), .int o_fault, .int o_where, .int o_imageMany, .int o_undoMany, o_town, o_was, o_trial, o_night, o_plans, o_undone, o_images, o_often, .int o_firstRest, o_next, .int o_catAt]))] H := hP
  have hD : va_D A [(h_o, .inr (0, [o_tape, .int o_taped, o_scanner, o_city, .int (0 : Int32), .int o_fault, .int o_where, .int o_imageMany, .int o_undoMany, o_town, o_was, o_trial, o_night, o_plans, o_undone, o_images, o_often, .int o_firstRest, o_next, .int o_catAt]))] := hD
  refine lv_aload_n hx hb dX1_anew_5 rfl (lv_at hl 0 rfl) ?_
  refine lv_iconst (v := (-1 : Int32)) hx hb dX1_anew_6 (by decide) ?_
  refine va_put (D := D) (ci := 0) (v := .int (-1 : Int32)) (ty := .int) (C := RX1) (T := TX1) (N := 20) hx hb hts in_X1 tyX1 tyX1_ok nmX1 hown hK.1 hP hD hS 0 rfl rfl 6 (by decide) (hts _ q364) (fun _ h9 => h9) rfl (by decide +kernel) rfl rfl (Nat.le_of_ble_eq_true rfl) dX1_anew_7 (fun H locs hP hD hS => ?_)
  have hP : va_P D clG [(h_o, .inr (0, [o_tape, .int o_taped, o_scanner, o_city, .int (0 : Int32), .int o_fault, .int (-1 : Int32), .int o_imageMany, .int o_undoMany, o_town, o_was, o_trial, o_night, o_plans, o_undone, o_images, o_often, .int o_firstRest, o_next, .int o_catAt]))] H := hP
  have hD : va_D A [(h_o, .inr (0, [o_tape, .int o_taped, o_scanner, o_city, .int (0 : Int32), .int o_fault, .int (-1 : Int32), .int o_imageMany, .int o_undoMany, o_town, o_was, o_trial, o_night, o_plans, o_undone, o_images, o_often, .int o_firstRest, o_next, .int o_catAt]))] := hD
  have hM := Option.some.inj hM
  subst hM
  exact W.vret hx hb hr (fun t ht hW => ⟨⟨(), rfl, trivial, by rw [ht]; exact hP, hD⟩, hS.F ht⟩) hS.2.2 dX1_anew_10

set_option maxHeartbeats 40000000 in
set_option maxRecDepth 100000 in
theorem ctX1_no (l : Launch) (D : va_G) (dA : Nat → ClassId) (sz : Nat) (h_o : Nat) (p0 : Int32) (o_taped : Int32) (o_trouble : Int32) (o_fault : Int32) (o_where : Int32) (o_imageMany : Int32) (o_undoMany : Int32) (o_firstRest : Int32) (o_catAt : Int32) (o_tape : Value) (o_scanner : Value) (o_city : Value) (o_town : Value) (o_was : Value) (o_trial : Value) (o_night : Value) (o_plans : Value) (o_undone : Value) (o_images : Value) (o_often : Value) (o_next : Value) (res : (Int32 × Int32)) (hM : MX1_no p0 = some res) : Met l yX1_no (ws_ yX1_no cX1_no 2 (some .int)) ({ frames := 0, cells := 0, slots := 0, locals := 0 }) (pre_ D dA [.ref h_o, .int p0] [(h_o, .inr (0, [o_tape, .int o_taped, o_scanner, o_city, .int o_trouble, .int o_fault, .int o_where, .int o_imageMany, .int o_undoMany, o_town, o_was, o_trial, o_night, o_plans, o_undone, o_images, o_often, .int o_firstRest, o_next, .int o_catAt]))] sz) (qi_ D res.1 (fun (u : Unit) => [(h_o, .inr (0, [o_tape, .int o_taped, o_scanner, o_city, .int res.2, .int o_fault, .int o_where, .int o_imageMany, .int o_undoMany, o_town, o_was, o_trial, o_night, o_plans, o_undone, o_images, o_often, .int o_firstRest, o_next, .int o_catAt]))]) (va_A [(h_o, .inr (0, [o_tape, .int o_taped, o_scanner, o_city, .int o_trouble, .int o_fault, .int o_where, .int o_imageMany, .int o_undoMany, o_town, o_was, o_trial, o_night, o_plans, o_undone, o_images, o_often, .int o_firstRest, o_next, .int o_catAt]))] sz)) 0 0 (va_A [(h_o, .inr (0, [o_tape, .int o_taped, o_scanner, o_city, .int o_trouble, .int o_fault, .int o_where, .int o_imageMany, .int o_undoMany, o_town, o_was, o_trial, o_night, o_plans, o_undone, o_images, o_often, .int o_firstRest, o_next, .int o_catAt]))] sz) := by
  refine Met.ofW (cc := cX1_no) (maxL := 2) (ret := (some .int)) (by decide) rfl ?_
  intro p e s m args below meth c s₁ B hml hv
  obtain ⟨rfl, hsz, hP, hK, hD0⟩ := hv
  have hx := B.exec
  have hb := B.bytes
  have hr := B.returns
  have hts := atoms_spec (ws := (ws_ yX1_no cX1_no 2 (some .int))) B.pre
  have hts : ∀ w ∈ lw_all, w.before _ s = true := fun w h => hts w (List.mem_cons_of_mem _ h)
  have hown : s.vm.findClass RX1 = some m.cls := findClass_of_methodNamed B.named
  have hlocks := B.notSynchronized
  subst hsz
  have hD := hD0.self (sz := s.heap.size)
  generalize hAe : va_A [(h_o, .inr (0, [o_tape, .int o_taped, o_scanner, o_city, .int o_trouble, .int o_fault, .int o_where, .int o_imageMany, .int o_undoMany, o_town, o_was, o_trial, o_night, o_plans, o_undone, o_images, o_often, .int o_firstRest, o_next, .int o_catAt]))] s.heap.size = A at hD ⊢
  have hA : ∀ q : Nat, s.heap.size ≤ q → A q := fun q h => by rw [← hAe]; exact Or.inr h
  have hS : va_S A s.heap s.heap [] := va_S.rf
  have hP : va_P D clG [(h_o, .inr (0, [o_tape, .int o_taped, o_scanner, o_city, .int o_trouble, .int o_fault, .int o_where, .int o_imageMany, .int o_undoMany, o_town, o_was, o_trial, o_night, o_plans, o_undone, o_images, o_often, .int o_firstRest, o_next, .int o_catAt]))] s.heap := hP
  have hl := lv_entry ([.ref h_o, .int p0]) (n := 2) (Nat.le_of_ble_eq_true rfl)
  rw [lg_entry_eq]
  generalize (lg_sl ([.ref h_o, .int p0]) ++ List.replicate (2 - (lg_sl ([.ref h_o, .int p0])).length) Slot.unset).toArray = ls at hl ⊢
  have hl : lv_has ls 2 [(0, .ref h_o), (1, .int p0)] := hl
  unfold MX1_no at hM
  refine lv_aload_n hx hb dX1_no_0 rfl (lv_at hl 0 rfl) ?_
  refine lv_iload_n hx hb dX1_no_1 rfl (lv_at hl 1 rfl) ?_
  refine va_put (D := D) (ci := 0) (v := .int p0) (ty := .int) (C := RX1) (T := TX1) (N := 20) hx hb hts in_X1 tyX1 tyX1_ok nmX1 hown hK.1 hP hD hS 0 rfl rfl 4 (by decide) (hts _ q362) (fun _ h9 => h9) rfl (by decide +kernel) rfl rfl (Nat.le_of_ble_eq_true rfl) dX1_no_2 (fun H locs hP hD hS => ?_)
  have hP : va_P D clG [(h_o, .inr (0, [o_tape, .int o_taped, o_scanner, o_city, .int p0, .int o_fault, .int o_where, .int o_imageMany, .int o_undoMany, o_town, o_was, o_trial, o_night, o_plans, o_undone, o_images, o_often, .int o_firstRest, o_next, .int o_catAt]))] H := hP
  have hD : va_D A [(h_o, .inr (0, [o_tape, .int o_taped, o_scanner, o_city, .int p0, .int o_fault, .int o_where, .int o_imageMany, .int o_undoMany, o_town, o_was, o_trial, o_night, o_plans, o_undone, o_images, o_often, .int o_firstRest, o_next, .int o_catAt]))] := hD
  refine lv_iconst (v := (-1 : Int32)) hx hb dX1_no_5 (by decide) ?_
  have hM := Option.some.inj hM
  subst hM
  exact W.iret (v := (-1 : Int32)) hx hb hr (fun t ht hW => ⟨⟨(-1 : Int32), (), rfl, rfl, by rw [ht]; exact hP, hD⟩, hS.F ht⟩) hS.2.2 dX1_no_6

set_option maxHeartbeats 40000000 in
set_option maxRecDepth 100000 in
theorem ctX8_init (l : Launch) (D : va_G) (dA : Nat → ClassId) (sz : Nat) (h_c : Nat) (c_hour : Int32) (c_gives : Int32) (c_peopleMany : Int32) (c_nearMany : Int32) (c_askedMany : Int32) (c_heardMany : Int32) (c_wentMany : Int32) (c_people : Value) (c_hours : Value) (c_heardBy : Value) (c_heardOf : Value) (c_heardAt : Value) (c_heardGive : Value) (res : Int32) (hM : MX8_init  = some res) : Met l yX8_init (ws_ yX8_init cX8_init 1 none) ({ frames := 1, cells := 6, slots := 54, locals := 20 }) (pre_ D dA [.ref h_c] [(h_c, .inr (6, [c_people, c_hours, c_heardBy, c_heardOf, c_heardAt, c_heardGive, .int c_hour, .int c_gives, .int c_peopleMany, .int c_nearMany, .int c_askedMany, .int c_heardMany, .int c_wentMany]))] sz) (qv_ D (fun (u : (Nat × Nat × Nat × Nat × Nat × Nat)) => [(h_c, .inr (6, [.ref u.1, .ref u.2.1, .ref u.2.2.1, .ref u.2.2.2.1, .ref u.2.2.2.2.1, .ref u.2.2.2.2.2, .int res, .int c_gives, .int c_peopleMany, .int c_nearMany, .int c_askedMany, .int c_heardMany, .int c_wentMany]))] ++ [(u.1, .inl (dA 4, 6, .inr (.inr (.inr (.inr (fun _ => none)))))), (u.2.1, .inl (dA 0, 36, .inl ((fun _ => 0)))), (u.2.2.1, .inl (dA 0, 3, .inl ((fun _ => 0)))), (u.2.2.2.1, .inl (dA 0, 3, .inl ((fun _ => 0)))), (u.2.2.2.2.1, .inl (dA 0, 3, .inl ((fun _ => 0)))), (u.2.2.2.2.2, .inl (dA 0, 3, .inl ((fun _ => 0))))]) (va_A [(h_c, .inr (6, [c_people, c_hours, c_heardBy, c_heardOf, c_heardAt, c_heardGive, .int c_hour, .int c_gives, .int c_peopleMany, .int c_nearMany, .int c_askedMany, .int c_heardMany, .int c_wentMany]))] sz)) 6 54 (va_A [(h_c, .inr (6, [c_people, c_hours, c_heardBy, c_heardOf, c_heardAt, c_heardGive, .int c_hour, .int c_gives, .int c_peopleMany, .int c_nearMany, .int c_askedMany, .int c_heardMany, .int c_wentMany]))] sz) := by
  refine Met.ofW (cc := cX8_init) (maxL := 1) (ret := none) (by decide) rfl ?_
  intro p e s m args below meth c s₁ B hml hv
  obtain ⟨rfl, hsz, hP, hK, hD0⟩ := hv
  have hx := B.exec
  have hb := B.bytes
  have hr := B.returns
  have hts := atoms_spec (ws := (ws_ yX8_init cX8_init 1 none)) B.pre
  have hts : ∀ w ∈ lw_all, w.before _ s = true := fun w h => hts w (List.mem_cons_of_mem _ h)
  have hown : s.vm.findClass RX8 = some m.cls := findClass_of_methodNamed B.named
  have hlocks := B.notSynchronized
  have hin : meth.name = "<init>" := (name_of_methodNamed B.named B.method).1
  subst hsz
  have hD := hD0.self (sz := s.heap.size)
  generalize hAe : va_A [(h_c, .inr (6, [c_people, c_hours, c_heardBy, c_heardOf, c_heardAt, c_heardGive, .int c_hour, .int c_gives, .int c_peopleMany, .int c_nearMany, .int c_askedMany, .int c_heardMany, .int c_wentMany]))] s.heap.size = A at hD ⊢
  have hA : ∀ q : Nat, s.heap.size ≤ q → A q := fun q h => by rw [← hAe]; exact Or.inr h
  have hS : va_S A s.heap s.heap [] := va_S.rf
  have hP : va_P D clG [(h_c, .inr (6, [c_people, c_hours, c_heardBy, c_heardOf, c_heardAt, c_heardGive, .int c_hour, .int c_gives, .int c_peopleMany, .int c_nearMany, .int c_askedMany, .int c_heardMany, .int c_wentMany]))] s.heap := hP
  have hl := lv_entry ([.ref h_c]) (n := 1) (Nat.le_of_ble_eq_true rfl)
  rw [lg_entry_eq]
  generalize (lg_sl ([.ref h_c]) ++ List.replicate (1 - (lg_sl ([.ref h_c])).length) Slot.unset).toArray = ls at hl ⊢
  have hl : lv_has ls 1 [(0, .ref h_c)] := hl
  unfold MX8_init at hM
  refine lv_aload_n hx hb dX8_init_0 rfl (lv_at hl 0 rfl) ?_
  refine W.objInit hx hb hown (hts _ q452) (hts _ q144) (hts _ q145) rfl (by rw [hml]; exact hl.1) rfl dX8_init_1 (Nat.le_of_ble_eq_true rfl) (Nat.le_of_ble_eq_true rfl) ?_
  refine W.eq (g2 := F0 m 4 ls []) rfl ?_
  refine lv_aload_n hx hb dX8_init_4 rfl (lv_at hl 0 rfl) ?_
  refine lv_bipush (v := (6 : Int32)) hx hb dX8_init_5 (by decide) ?_
  refine va_newq hx hb hown (hts _ q453) (hK.nw 12 rfl) hK.1 hP hD hS hA (by decide) (N' := 6) (by decide) (Nat.le_of_ble_eq_true rfl) (Nat.le_of_ble_eq_true rfl) (Nat.le_of_ble_eq_true rfl) dX8_init_7 (fun h_q1 cA H hK9 hP hD hS => ?_)
  obtain rfl := k_cls 4 hK9 rfl
  have hP : va_P D clG [(h_c, .inr (6, [c_people, c_hours, c_heardBy, c_heardOf, c_heardAt, c_heardGive, .int c_hour, .int c_gives, .int c_peopleMany, .int c_nearMany, .int c_askedMany, .int c_heardMany, .int c_wentMany])), (h_q1, .inl (dA 4, 6, .inr (.inr (.inr (.inr (fun _ => none))))))] H := hP
  have hD : va_D A [(h_c, .inr (6, [c_people, c_hours, c_heardBy, c_heardOf, c_heardAt, c_heardGive, .int c_hour, .int c_gives, .int c_peopleMany, .int c_nearMany, .int c_askedMany, .int c_heardMany, .int c_wentMany])), (h_q1, .inl (dA 4, 6, .inr (.inr (.inr (.inr (fun _ => none))))))] := hD
  refine W.widen (k := 1) (n := 6) (Nat.le_of_ble_eq_true rfl) (Nat.le_of_ble_eq_true rfl) ?_
  refine va_putF (D := D) (ci := 6) (v := .ref h_q1) (ty := (.array (.object "LastAsked$Person"))) (C := RX8) (T := TX8) (N := 13) hx hb hts in_X8 tyX8 tyX8_ok nmX8 hown hK.1 hP hD hS 0 rfl rfl 0 (by decide) (hts _ q455) (fun _ h9 => h9) rfl hin rfl (by decide +kernel) rfl rfl (Nat.le_of_ble_eq_true rfl) dX8_init_10 (fun H locs hP hD hS => ?_)
  have hP : va_P D clG [(h_c, .inr (6, [.ref h_q1, c_hours, c_heardBy, c_heardOf, c_heardAt, c_heardGive, .int c_hour, .int c_gives, .int c_peopleMany, .int c_nearMany, .int c_askedMany, .int c_heardMany, .int c_wentMany])), (h_q1, .inl (dA 4, 6, .inr (.inr (.inr (.inr (fun _ => none))))))] H := hP
  have hD : va_D A [(h_c, .inr (6, [.ref h_q1, c_hours, c_heardBy, c_heardOf, c_heardAt, c_heardGive, .int c_hour, .int c_gives, .int c_peopleMany, .int c_nearMany, .int c_askedMany, .int c_heardMany, .int c_wentMany])), (h_q1, .inl (dA 4, 6, .inr (.inr (.inr (.inr (fun _ => none))))))] := hD
  refine lv_aload_n hx hb dX8_init_13 rfl (lv_at hl 0 rfl) ?_
  refine lv_bipush (v := (36 : Int32)) hx hb dX8_init_14 (by decide) ?_
  refine va_newa (atype := .int) (ty := .int) (a0 := (36, .inl (fun _ => 0))) (N' := 36) hx hb (hts _ q304) rfl hK.1 hP hD hS hA (fun _ => rfl) (by decide) (by decide) (Nat.le_of_ble_eq_true rfl) (Nat.le_of_ble_eq_true rfl) (Nat.le_of_ble_eq_true rfl) dX8_init_16 (fun h_q2 cA H hK9 hP hD hS => ?_)
  obtain rfl := k_cls 0 hK9 rfl
  have hP : va_P D clG [(h_c, .inr (6, [.ref h_q1, c_hours, c_heardBy, c_heardOf, c_heardAt, c_heardGive, .int c_hour, .int c_gives, .int c_peopleMany, .int c_nearMany, .int c_askedMany, .int c_heardMany, .int c_wentMany])), (h_q1, .inl (dA 4, 6, .inr (.inr (.inr (.inr (fun _ => none)))))), (h_q2, .inl (dA 0, 36, .inl ((fun _ => 0))))] H := hP
  have hD : va_D A [(h_c, .inr (6, [.ref h_q1, c_hours, c_heardBy, c_heardOf, c_heardAt, c_heardGive, .int c_hour, .int c_gives, .int c_peopleMany, .int c_nearMany, .int c_askedMany, .int c_heardMany, .int c_wentMany])), (h_q1, .inl (dA 4, 6, .inr (.inr (.inr (.inr (fun _ => none)))))), (h_q2, .inl (dA 0, 36, .inl ((fun _ => 0))))] := hD
  refine W.widen (k := 2) (n := 42) (Nat.le_of_ble_eq_true rfl) (Nat.le_of_ble_eq_true rfl) ?_
  refine va_putF (D := D) (ci := 6) (v := .ref h_q2) (ty := (.array .int)) (C := RX8) (T := TX8) (N := 13) hx hb hts in_X8 tyX8 tyX8_ok nmX8 hown hK.1 hP hD hS 0 rfl rfl 1 (by decide) (hts _ q461) (fun _ h9 => h9) rfl hin rfl (by decide +kernel) rfl rfl (Nat.le_of_ble_eq_true rfl) dX8_init_18 (fun H locs hP hD hS => ?_)
  have hP : va_P D clG [(h_c, .inr (6, [.ref h_q1, .ref h_q2, c_heardBy, c_heardOf, c_heardAt, c_heardGive, .int c_hour, .int c_gives, .int c_peopleMany, .int c_nearMany, .int c_askedMany, .int c_heardMany, .int c_wentMany])), (h_q1, .inl (dA 4, 6, .inr (.inr (.inr (.inr (fun _ => none)))))), (h_q2, .inl (dA 0, 36, .inl ((fun _ => 0))))] H := hP
  have hD : va_D A [(h_c, .inr (6, [.ref h_q1, .ref h_q2, c_heardBy, c_heardOf, c_heardAt, c_heardGive, .int c_hour, .int c_gives, .int c_peopleMany, .int c_nearMany, .int c_askedMany, .int c_heardMany, .int c_wentMany])), (h_q1, .inl (dA 4, 6, .inr (.inr (.inr (.inr (fun _ => none)))))), (h_q2, .inl (dA 0, 36, .inl ((fun _ => 0))))] := hD
  refine lv_aload_n hx hb dX8_init_21 rfl (lv_at hl 0 rfl) ?_
  refine lv_iconst (v := (3 : Int32)) hx hb dX8_init_22 (by decide) ?_
  refine va_newa (atype := .int) (ty := .int) (a0 := (3, .inl (fun _ => 0))) (N' := 3) hx hb (hts _ q304) rfl hK.1 hP hD hS hA (fun _ => rfl) (by decide) (by decide) (Nat.le_of_ble_eq_true rfl) (Nat.le_of_ble_eq_true rfl) (Nat.le_of_ble_eq_true rfl) dX8_init_23 (fun h_q3 cA H hK9 hP hD hS => ?_)
  obtain rfl := k_cls 0 hK9 rfl
  have hP : va_P D clG [(h_c, .inr (6, [.ref h_q1, .ref h_q2, c_heardBy, c_heardOf, c_heardAt, c_heardGive, .int c_hour, .int c_gives, .int c_peopleMany, .int c_nearMany, .int c_askedMany, .int c_heardMany, .int c_wentMany])), (h_q1, .inl (dA 4, 6, .inr (.inr (.inr (.inr (fun _ => none)))))), (h_q2, .inl (dA 0, 36, .inl ((fun _ => 0)))), (h_q3, .inl (dA 0, 3, .inl ((fun _ => 0))))] H := hP
  have hD : va_D A [(h_c, .inr (6, [.ref h_q1, .ref h_q2, c_heardBy, c_heardOf, c_heardAt, c_heardGive, .int c_hour, .int c_gives, .int c_peopleMany, .int c_nearMany, .int c_askedMany, .int c_heardMany, .int c_wentMany])), (h_q1, .inl (dA 4, 6, .inr (.inr (.inr (.inr (fun _ => none)))))), (h_q2, .inl (dA 0, 36, .inl ((fun _ => 0)))), (h_q3, .inl (dA 0, 3, .inl ((fun _ => 0))))] := hD
  refine W.widen (k := 3) (n := 45) (Nat.le_of_ble_eq_true rfl) (Nat.le_of_ble_eq_true rfl) ?_
  refine va_putF (D := D) (ci := 6) (v := .ref h_q3) (ty := (.array .int)) (C := RX8) (T := TX8) (N := 13) hx hb hts in_X8 tyX8 tyX8_ok nmX8 hown hK.1 hP hD hS 0 rfl rfl 2 (by decide) (hts _ q464) (fun _ h9 => h9) rfl hin rfl (by decide +kernel) rfl rfl (Nat.le_of_ble_eq_true rfl) dX8_init_25 (fun H locs hP hD hS => ?_)
  have hP : va_P D clG [(h_c, .inr (6, [.ref h_q1, .ref h_q2, .ref h_q3, c_heardOf, c_heardAt, c_heardGive, .int c_hour, .int c_gives, .int c_peopleMany, .int c_nearMany, .int c_askedMany, .int c_heardMany, .int c_wentMany])), (h_q1, .inl (dA 4, 6, .inr (.inr (.inr (.inr (fun _ => none)))))), (h_q2, .inl (dA 0, 36, .inl ((fun _ => 0)))), (h_q3, .inl (dA 0, 3, .inl ((fun _ => 0))))] H := hP
  have hD : va_D A [(h_c, .inr (6, [.ref h_q1, .ref h_q2, .ref h_q3, c_heardOf, c_heardAt, c_heardGive, .int c_hour, .int c_gives, .int c_peopleMany, .int c_nearMany, .int c_askedMany, .int c_heardMany, .int c_wentMany])), (h_q1, .inl (dA 4, 6, .inr (.inr (.inr (.inr (fun _ => none)))))), (h_q2, .inl (dA 0, 36, .inl ((fun _ => 0)))), (h_q3, .inl (dA 0, 3, .inl ((fun _ => 0))))] := hD
  refine lv_aload_n hx hb dX8_init_28 rfl (lv_at hl 0 rfl) ?_
  refine lv_iconst (v := (3 : Int32)) hx hb dX8_init_29 (by decide) ?_
  refine va_newa (atype := .int) (ty := .int) (a0 := (3, .inl (fun _ => 0))) (N' := 3) hx hb (hts _ q304) rfl hK.1 hP hD hS hA (fun _ => rfl) (by decide) (by decide) (Nat.le_of_ble_eq_true rfl) (Nat.le_of_ble_eq_true rfl) (Nat.le_of_ble_eq_true rfl) dX8_init_30 (fun h_q4 cA H hK9 hP hD hS => ?_)
  obtain rfl := k_cls 0 hK9 rfl
  have hP : va_P D clG [(h_c, .inr (6, [.ref h_q1, .ref h_q2, .ref h_q3, c_heardOf, c_heardAt, c_heardGive, .int c_hour, .int c_gives, .int c_peopleMany, .int c_nearMany, .int c_askedMany, .int c_heardMany, .int c_wentMany])), (h_q1, .inl (dA 4, 6, .inr (.inr (.inr (.inr (fun _ => none)))))), (h_q2, .inl (dA 0, 36, .inl ((fun _ => 0)))), (h_q3, .inl (dA 0, 3, .inl ((fun _ => 0)))), (h_q4, .inl (dA 0, 3, .inl ((fun _ => 0))))] H := hP
  have hD : va_D A [(h_c, .inr (6, [.ref h_q1, .ref h_q2, .ref h_q3, c_heardOf, c_heardAt, c_heardGive, .int c_hour, .int c_gives, .int c_peopleMany, .int c_nearMany, .int c_askedMany, .int c_heardMany, .int c_wentMany])), (h_q1, .inl (dA 4, 6, .inr (.inr (.inr (.inr (fun _ => none)))))), (h_q2, .inl (dA 0, 36, .inl ((fun _ => 0)))), (h_q3, .inl (dA 0, 3, .inl ((fun _ => 0)))), (h_q4, .inl (dA 0, 3, .inl ((fun _ => 0))))] := hD
  refine W.widen (k := 4) (n := 48) (Nat.le_of_ble_eq_true rfl) (Nat.le_of_ble_eq_true rfl) ?_
  refine va_putF (D := D) (ci := 6) (v := .ref h_q4) (ty := (.array .int)) (C := RX8) (T := TX8) (N := 13) hx hb hts in_X8 tyX8 tyX8_ok nmX8 hown hK.1 hP hD hS 0 rfl rfl 3 (by decide) (hts _ q467) (fun _ h9 => h9) rfl hin rfl (by decide +kernel) rfl rfl (Nat.le_of_ble_eq_true rfl) dX8_init_32 (fun H locs hP hD hS => ?_)
  have hP : va_P D clG [(h_c, .inr (6, [.ref h_q1, .ref h_q2, .ref h_q3, .ref h_q4, c_heardAt, c_heardGive, .int c_hour, .int c_gives, .int c_peopleMany, .int c_nearMany, .int c_askedMany, .int c_heardMany, .int c_wentMany])), (h_q1, .inl (dA 4, 6, .inr (.inr (.inr (.inr (fun _ => none)))))), (h_q2, .inl (dA 0, 36, .inl ((fun _ => 0)))), (h_q3, .inl (dA 0, 3, .inl ((fun _ => 0)))), (h_q4, .inl (dA 0, 3, .inl ((fun _ => 0))))] H := hP
  have hD : va_D A [(h_c, .inr (6, [.ref h_q1, .ref h_q2, .ref h_q3, .ref h_q4, c_heardAt, c_heardGive, .int c_hour, .int c_gives, .int c_peopleMany, .int c_nearMany, .int c_askedMany, .int c_heardMany, .int c_wentMany])), (h_q1, .inl (dA 4, 6, .inr (.inr (.inr (.inr (fun _ => none)))))), (h_q2, .inl (dA 0, 36, .inl ((fun _ => 0)))), (h_q3, .inl (dA 0, 3, .inl ((fun _ => 0)))), (h_q4, .inl (dA 0, 3, .inl ((fun _ => 0))))] := hD
  refine lv_aload_n hx hb dX8_init_35 rfl (lv_at hl 0 rfl) ?_
  refine lv_iconst (v := (3 : Int32)) hx hb dX8_init_36 (by decide) ?_
  refine va_newa (atype := .int) (ty := .int) (a0 := (3, .inl (fun _ => 0))) (N' := 3) hx hb (hts _ q304) rfl hK.1 hP hD hS hA (fun _ => rfl) (by decide) (by decide) (Nat.le_of_ble_eq_true rfl) (Nat.le_of_ble_eq_true rfl) (Nat.le_of_ble_eq_true rfl) dX8_init_37 (fun h_q5 cA H hK9 hP hD hS => ?_)
  obtain rfl := k_cls 0 hK9 rfl
  have hP : va_P D clG [(h_c, .inr (6, [.ref h_q1, .ref h_q2, .ref h_q3, .ref h_q4, c_heardAt, c_heardGive, .int c_hour, .int c_gives, .int c_peopleMany, .int c_nearMany, .int c_askedMany, .int c_heardMany, .int c_wentMany])), (h_q1, .inl (dA 4, 6, .inr (.inr (.inr (.inr (fun _ => none)))))), (h_q2, .inl (dA 0, 36, .inl ((fun _ => 0)))), (h_q3, .inl (dA 0, 3, .inl ((fun _ => 0)))), (h_q4, .inl (dA 0, 3, .inl ((fun _ => 0)))), (h_q5, .inl (dA 0, 3, .inl ((fun _ => 0))))] H := hP
  have hD : va_D A [(h_c, .inr (6, [.ref h_q1, .ref h_q2, .ref h_q3, .ref h_q4, c_heardAt, c_heardGive, .int c_hour, .int c_gives, .int c_peopleMany, .int c_nearMany, .int c_askedMany, .int c_heardMany, .int c_wentMany])), (h_q1, .inl (dA 4, 6, .inr (.inr (.inr (.inr (fun _ => none)))))), (h_q2, .inl (dA 0, 36, .inl ((fun _ => 0)))), (h_q3, .inl (dA 0, 3, .inl ((fun _ => 0)))), (h_q4, .inl (dA 0, 3, .inl ((fun _ => 0)))), (h_q5, .inl (dA 0, 3, .inl ((fun _ => 0))))] := hD
  refine W.widen (k := 5) (n := 51) (Nat.le_of_ble_eq_true rfl) (Nat.le_of_ble_eq_true rfl) ?_
  refine va_putF (D := D) (ci := 6) (v := .ref h_q5) (ty := (.array .int)) (C := RX8) (T := TX8) (N := 13) hx hb hts in_X8 tyX8 tyX8_ok nmX8 hown hK.1 hP hD hS 0 rfl rfl 4 (by decide) (hts _ q470) (fun _ h9 => h9) rfl hin rfl (by decide +kernel) rfl rfl (Nat.le_of_ble_eq_true rfl) dX8_init_39 (fun H locs hP hD hS => ?_)
  have hP : va_P D clG [(h_c, .inr (6, [.ref h_q1, .ref h_q2, .ref h_q3, .ref h_q4, .ref h_q5, c_heardGive, .int c_hour, .int c_gives, .int c_peopleMany, .int c_nearMany, .int c_askedMany, .int c_heardMany, .int c_wentMany])), (h_q1, .inl (dA 4, 6, .inr (.inr (.inr (.inr (fun _ => none)))))), (h_q2, .inl (dA 0, 36, .inl ((fun _ => 0)))), (h_q3, .inl (dA 0, 3, .inl ((fun _ => 0)))), (h_q4, .inl (dA 0, 3, .inl ((fun _ => 0)))), (h_q5, .inl (dA 0, 3, .inl ((fun _ => 0))))] H := hP
  have hD : va_D A [(h_c, .inr (6, [.ref h_q1, .ref h_q2, .ref h_q3, .ref h_q4, .ref h_q5, c_heardGive, .int c_hour, .int c_gives, .int c_peopleMany, .int c_nearMany, .int c_askedMany, .int c_heardMany, .int c_wentMany])), (h_q1, .inl (dA 4, 6, .inr (.inr (.inr (.inr (fun _ => none)))))), (h_q2, .inl (dA 0, 36, .inl ((fun _ => 0)))), (h_q3, .inl (dA 0, 3, .inl ((fun _ => 0)))), (h_q4, .inl (dA 0, 3, .inl ((fun _ => 0)))), (h_q5, .inl (dA 0, 3, .inl ((fun _ => 0))))] := hD
  refine lv_aload_n hx hb dX8_init_42 rfl (lv_at hl 0 rfl) ?_
  refine lv_iconst (v := (3 : Int32)) hx hb dX8_init_43 (by decide) ?_
  refine va_newa (atype := .int) (ty := .int) (a0 := (3, .inl (fun _ => 0))) (N' := 3) hx hb (hts _ q304) rfl hK.1 hP hD hS hA (fun _ => rfl) (by decide) (by decide) (Nat.le_of_ble_eq_true rfl) (Nat.le_of_ble_eq_true rfl) (Nat.le_of_ble_eq_true rfl) dX8_init_44 (fun h_q6 cA H hK9 hP hD hS => ?_)
  obtain rfl := k_cls 0 hK9 rfl
  have hP : va_P D clG [(h_c, .inr (6, [.ref h_q1, .ref h_q2, .ref h_q3, .ref h_q4, .ref h_q5, c_heardGive, .int c_hour, .int c_gives, .int c_peopleMany, .int c_nearMany, .int c_askedMany, .int c_heardMany, .int c_wentMany])), (h_q1, .inl (dA 4, 6, .inr (.inr (.inr (.inr (fun _ => none)))))), (h_q2, .inl (dA 0, 36, .inl ((fun _ => 0)))), (h_q3, .inl (dA 0, 3, .inl ((fun _ => 0)))), (h_q4, .inl (dA 0, 3, .inl ((fun _ => 0)))), (h_q5, .inl (dA 0, 3, .inl ((fun _ => 0)))), (h_q6, .inl (dA 0, 3, .inl ((fun _ => 0))))] H := hP
  have hD : va_D A [(h_c, .inr (6, [.ref h_q1, .ref h_q2, .ref h_q3, .ref h_q4, .ref h_q5, c_heardGive, .int c_hour, .int c_gives, .int c_peopleMany, .int c_nearMany, .int c_askedMany, .int c_heardMany, .int c_wentMany])), (h_q1, .inl (dA 4, 6, .inr (.inr (.inr (.inr (fun _ => none)))))), (h_q2, .inl (dA 0, 36, .inl ((fun _ => 0)))), (h_q3, .inl (dA 0, 3, .inl ((fun _ => 0)))), (h_q4, .inl (dA 0, 3, .inl ((fun _ => 0)))), (h_q5, .inl (dA 0, 3, .inl ((fun _ => 0)))), (h_q6, .inl (dA 0, 3, .inl ((fun _ => 0))))] := hD
  refine W.widen (k := 6) (n := 54) (Nat.le_of_ble_eq_true rfl) (Nat.le_of_ble_eq_true rfl) ?_
  refine va_putF (D := D) (ci := 6) (v := .ref h_q6) (ty := (.array .int)) (C := RX8) (T := TX8) (N := 13) hx hb hts in_X8 tyX8 tyX8_ok nmX8 hown hK.1 hP hD hS 0 rfl rfl 5 (by decide) (hts _ q472) (fun _ h9 => h9) rfl hin rfl (by decide +kernel) rfl rfl (Nat.le_of_ble_eq_true rfl) dX8_init_46 (fun H locs hP hD hS => ?_)
  have hP : va_P D clG [(h_c, .inr (6, [.ref h_q1, .ref h_q2, .ref h_q3, .ref h_q4, .ref h_q5, .ref h_q6, .int c_hour, .int c_gives, .int c_peopleMany, .int c_nearMany, .int c_askedMany, .int c_heardMany, .int c_wentMany])), (h_q1, .inl (dA 4, 6, .inr (.inr (.inr (.inr (fun _ => none)))))), (h_q2, .inl (dA 0, 36, .inl ((fun _ => 0)))), (h_q3, .inl (dA 0, 3, .inl ((fun _ => 0)))), (h_q4, .inl (dA 0, 3, .inl ((fun _ => 0)))), (h_q5, .inl (dA 0, 3, .inl ((fun _ => 0)))), (h_q6, .inl (dA 0, 3, .inl ((fun _ => 0))))] H := hP
  have hD : va_D A [(h_c, .inr (6, [.ref h_q1, .ref h_q2, .ref h_q3, .ref h_q4, .ref h_q5, .ref h_q6, .int c_hour, .int c_gives, .int c_peopleMany, .int c_nearMany, .int c_askedMany, .int c_heardMany, .int c_wentMany])), (h_q1, .inl (dA 4, 6, .inr (.inr (.inr (.inr (fun _ => none)))))), (h_q2, .inl (dA 0, 36, .inl ((fun _ => 0)))), (h_q3, .inl (dA 0, 3, .inl ((fun _ => 0)))), (h_q4, .inl (dA 0, 3, .inl ((fun _ => 0)))), (h_q5, .inl (dA 0, 3, .inl ((fun _ => 0)))), (h_q6, .inl (dA 0, 3, .inl ((fun _ => 0))))] := hD
  refine lv_aload_n hx hb dX8_init_49 rfl (lv_at hl 0 rfl) ?_
  refine lv_iconst (v := (-1 : Int32)) hx hb dX8_init_50 (by decide) ?_
  refine va_put (D := D) (ci := 6) (v := .int (-1 : Int32)) (ty := .int) (C := RX8) (T := TX8) (N := 13) hx hb hts in_X8 tyX8 tyX8_ok nmX8 hown hK.1 hP hD hS 0 rfl rfl 6 (by decide) (hts _ q474) (fun _ h9 => h9) rfl (by decide +kernel) rfl rfl (Nat.le_of_ble_eq_true rfl) dX8_init_51 (fun H locs hP hD hS => ?_)
  have hP : va_P D clG [(h_c, .inr (6, [.ref h_q1, .ref h_q2, .ref h_q3, .ref h_q4, .ref h_q5, .ref h_q6, .int (-1 : Int32), .int c_gives, .int c_peopleMany, .int c_nearMany, .int c_askedMany, .int c_heardMany, .int c_wentMany])), (h_q1, .inl (dA 4, 6, .inr (.inr (.inr (.inr (fun _ => none)))))), (h_q2, .inl (dA 0, 36, .inl ((fun _ => 0)))), (h_q3, .inl (dA 0, 3, .inl ((fun _ => 0)))), (h_q4, .inl (dA 0, 3, .inl ((fun _ => 0)))), (h_q5, .inl (dA 0, 3, .inl ((fun _ => 0)))), (h_q6, .inl (dA 0, 3, .inl ((fun _ => 0))))] H := hP
  have hD : va_D A [(h_c, .inr (6, [.ref h_q1, .ref h_q2, .ref h_q3, .ref h_q4, .ref h_q5, .ref h_q6, .int (-1 : Int32), .int c_gives, .int c_peopleMany, .int c_nearMany, .int c_askedMany, .int c_heardMany, .int c_wentMany])), (h_q1, .inl (dA 4, 6, .inr (.inr (.inr (.inr (fun _ => none)))))), (h_q2, .inl (dA 0, 36, .inl ((fun _ => 0)))), (h_q3, .inl (dA 0, 3, .inl ((fun _ => 0)))), (h_q4, .inl (dA 0, 3, .inl ((fun _ => 0)))), (h_q5, .inl (dA 0, 3, .inl ((fun _ => 0)))), (h_q6, .inl (dA 0, 3, .inl ((fun _ => 0))))] := hD
  have hM := Option.some.inj hM
  subst hM
  exact W.vret hx hb hr (fun t ht hW => ⟨⟨(h_q1, h_q2, h_q3, h_q4, h_q5, h_q6), rfl, trivial, by rw [ht]; exact hP, hD⟩, hS.F ht⟩) hS.2.2 dX8_init_54

set_option maxHeartbeats 40000000 in
set_option maxRecDepth 100000 in
theorem ctX2_see (l : Launch) (D : va_G) (dA : Nat → ClassId) (sz : Nat) (h_z : Nat) (h_z_text : Nat) (p0 : Int32) (z_size : Int32) (z_end : Int32) (z_token : Int32) (z_at : Int32) (z_whole : Int32) (z_text_ : AI) (z_wrong : Value) (z_letters : Value) (z_word : Value) (z_city : Value) (z_asker : Value) (res : Int32) (hM : MX2_see p0 z_size z_text_ = some res) : Met l yX2_see (ws_ yX2_see cX2_see 2 (some .int)) ({ frames := 0, cells := 0, slots := 0, locals := 0 }) (pre_ D dA [.ref h_z, .int p0] [(h_z, .inr (1, [z_wrong, .ref h_z_text, z_letters, .int z_size, .int z_end, .int z_token, .int z_at, .int z_whole, z_word, z_city, z_asker])), (h_z_text, .inl (dA 2, 900, .inl (z_text_)))] sz) (qi_ D res (fun (u : Unit) => [(h_z, .inr (1, [z_wrong, .ref h_z_text, z_letters, .int z_size, .int z_end, .int z_token, .int z_at, .int z_whole, z_word, z_city, z_asker])), (h_z_text, .inl (dA 2, 900, .inl (z_text_)))]) (va_A [(h_z, .inr (1, [z_wrong, .ref h_z_text, z_letters, .int z_size, .int z_end, .int z_token, .int z_at, .int z_whole, z_word, z_city, z_asker])), (h_z_text, .inl (dA 2, 900, .inl (z_text_)))] sz)) 0 0 (va_A [(h_z, .inr (1, [z_wrong, .ref h_z_text, z_letters, .int z_size, .int z_end, .int z_token, .int z_at, .int z_whole, z_word, z_city, z_asker])), (h_z_text, .inl (dA 2, 900, .inl (z_text_)))] sz) := by
  refine Met.ofW (cc := cX2_see) (maxL := 2) (ret := (some .int)) (by decide) rfl ?_
  intro p e s m args below meth c s₁ B hml hv
  obtain ⟨rfl, hsz, hP, hK, hD0⟩ := hv
  have hx := B.exec
  have hb := B.bytes
  have hr := B.returns
  have hts := atoms_spec (ws := (ws_ yX2_see cX2_see 2 (some .int))) B.pre
  have hts : ∀ w ∈ lw_all, w.before _ s = true := fun w h => hts w (List.mem_cons_of_mem _ h)
  have hown : s.vm.findClass RX2 = some m.cls := findClass_of_methodNamed B.named
  have hlocks := B.notSynchronized
  subst hsz
  have hD := hD0.self (sz := s.heap.size)
  generalize hAe : va_A [(h_z, .inr (1, [z_wrong, .ref h_z_text, z_letters, .int z_size, .int z_end, .int z_token, .int z_at, .int z_whole, z_word, z_city, z_asker])), (h_z_text, .inl (dA 2, 900, .inl (z_text_)))] s.heap.size = A at hD ⊢
  have hA : ∀ q : Nat, s.heap.size ≤ q → A q := fun q h => by rw [← hAe]; exact Or.inr h
  have hS : va_S A s.heap s.heap [] := va_S.rf
  have hP : va_P D clG [(h_z, .inr (1, [z_wrong, .ref h_z_text, z_letters, .int z_size, .int z_end, .int z_token, .int z_at, .int z_whole, z_word, z_city, z_asker])), (h_z_text, .inl (dA 2, 900, .inl (z_text_)))] s.heap := hP
  have hl := lv_entry ([.ref h_z, .int p0]) (n := 2) (Nat.le_of_ble_eq_true rfl)
  rw [lg_entry_eq]
  generalize (lg_sl ([.ref h_z, .int p0]) ++ List.replicate (2 - (lg_sl ([.ref h_z, .int p0])).length) Slot.unset).toArray = ls at hl ⊢
  have hl : lv_has ls 2 [(0, .ref h_z), (1, .int p0)] := hl
  unfold MX2_see at hM
  refine lv_iload_n hx hb dX2_see_0 rfl (lv_at hl 1 rfl) ?_
  refine lv_aload_n hx hb dX2_see_1 rfl (lv_at hl 0 rfl) ?_
  refine va_get (D := D) (ci := 1) (v := .int z_size) (C := RX2) (T := TX2) (N := 11) hx hb hts in_X2 hown hK.1 hP 0 rfl rfl 3 (by decide) (hts _ q229) (fun _ h9 => h9) rfl dX2_see_2 ?_
  refine lv_icmp_ge (tgt := 21) hx hb dX2_see_5 (by decide) (fun c1 => ?_) (fun c1 => ?_)
  · rw [if_pos c1] at hM
    refine lv_iconst (v := (-1 : Int32)) hx hb dX2_see_21 (by decide) ?_
    have hM := Option.some.inj hM
    subst hM
    exact W.iret (v := (-1 : Int32)) hx hb hr (fun t ht hW => ⟨⟨(-1 : Int32), (), rfl, rfl, by rw [ht]; exact hP, hD⟩, hS.F ht⟩) hS.2.2 dX2_see_22
  · rw [if_neg c1] at hM
    refine lv_aload_n hx hb dX2_see_8 rfl (lv_at hl 0 rfl) ?_
    refine va_get (D := D) (ci := 1) (v := .ref h_z_text) (C := RX2) (T := TX2) (N := 11) hx hb hts in_X2 hown hK.1 hP 0 rfl rfl 1 (by decide) (hts _ q227) (fun _ h9 => h9) rfl dX2_see_9 ?_
    refine lv_iload_n hx hb dX2_see_12 rfl (lv_at hl 1 rfl) ?_
    obtain ⟨h2, hM⟩ := gi_inv hM
    refine va_bald hx hb hK.1 hP 1 2 rfl rfl h2 dX2_see_13 ?_
    refine lv_sipush (v := (255 : Int32)) hx hb dX2_see_14 (by decide) ?_
    refine lv_iand hx hb dX2_see_17 ?_
    refine lv_goto (tgt := 22) hx hb dX2_see_18 (by decide) ?_
    have hM := Option.some.inj hM
    subst hM
    exact W.iret (v := ((z_text_ (Int32.toNatClampNeg p0)) &&& (255 : Int32))) hx hb hr (fun t ht hW => ⟨⟨((z_text_ (Int32.toNatClampNeg p0)) &&& (255 : Int32)), (), rfl, rfl, by rw [ht]; exact hP, hD⟩, hS.F ht⟩) hS.2.2 dX2_see_22

set_option maxHeartbeats 40000000 in
set_option maxRecDepth 100000 in
theorem ctX2_isSmall (l : Launch) (D : va_G) (dA : Nat → ClassId) (sz : Nat) (p0 : Int32) (res : Bool) (hM : MX2_isSmall p0 = some res) : Met l yX2_isSmall (ws_ yX2_isSmall cX2_isSmall 1 (some .boolean)) ({ frames := 1, cells := 0, slots := 0, locals := 22 }) (pre_ D dA [.int p0] [] sz) (qi_ D (b2i res) (fun (u : Unit) => []) (va_A [] sz)) 0 0 (va_A [] sz) := by
  refine Met.ofW (cc := cX2_isSmall) (maxL := 1) (ret := (some .boolean)) (by decide) rfl ?_
  intro p e s m args below meth c s₁ B hml hv
  obtain ⟨rfl, hsz, hP, hK, hD0⟩ := hv
  have hx := B.exec
  have hb := B.bytes
  have hr := B.returns
  have hts := atoms_spec (ws := (ws_ yX2_isSmall cX2_isSmall 1 (some .boolean))) B.pre
  have hts : ∀ w ∈ lw_all, w.before _ s = true := fun w h => hts w (List.mem_cons_of_mem _ h)
  have hown : s.vm.findClass RX2 = some m.cls := findClass_of_methodNamed B.named
  have hlocks := B.notSynchronized
  subst hsz
  have hD := hD0.self (sz := s.heap.size)
  generalize hAe : va_A [] s.heap.size = A at hD ⊢
  have hA : ∀ q : Nat, s.heap.size ≤ q → A q := fun q h => by rw [← hAe]; exact Or.inr h
  have hS : va_S A s.heap s.heap [] := va_S.rf
  have hP : va_P D clG [] s.heap := hP
  have hl := lv_entry ([.int p0]) (n := 1) (Nat.le_of_ble_eq_true rfl)
  rw [lg_entry_eq]
  generalize (lg_sl ([.int p0]) ++ List.replicate (1 - (lg_sl ([.int p0])).length) Slot.unset).toArray = ls at hl ⊢
  have hl : lv_has ls 1 [(0, .int p0)] := hl
  unfold MX2_isSmall at hM
  refine lv_iload_n hx hb dX2_isSmall_0 rfl (lv_at hl 0 rfl) ?_
  refine lv_bipush (v := (97 : Int32)) hx hb dX2_isSmall_1 (by decide) ?_
  refine lv_bipush (v := (122 : Int32)) hx hb dX2_isSmall_3 (by decide) ?_
  obtain ⟨r1, er1, hM⟩ := b_inv hM
  refine k_i0 [] (va_runSN (As := [.int p0, .int (97 : Int32), .int (122 : Int32)]) (rest := []) ⟨hx, hb, hml, hown, hts⟩ (ctX1_in l D dA _ p0 (97 : Int32) (122 : Int32) r1 er1) ⟨va_cnB 3 hts (lw_meth q438) rfl rfl rfl (hK.nw 13 rfl) (hts _ q113) (by decide +kernel) ⟨Nat.le_of_ble_eq_true rfl, Nat.le_of_ble_eq_true rfl⟩, hts _ q437, trivial⟩ (pre_S (hP.sub [] rfl) hK (hD.sub [] (by decide) rfl)) rfl rfl hl.1 rfl (lv_room (Nat.le_of_ble_eq_true rfl)) dX2_isSmall_5 ⟨Nat.le_of_ble_eq_true rfl, Nat.le_of_ble_eq_true rfl⟩) hP hD hS hA rfl (fun _ => rfl) (fun u2 H locs hP hD hS => ?_)
  have hP : va_P D clG [] H := hP
  have hD : va_D A [] := hD
  have hM := Option.some.inj hM
  subst hM
  exact W.zret (v := b2i r1) hx hb hr (nar_b _) (fun t ht hW => ⟨⟨b2i r1, (), rfl, rfl, by rw [ht]; exact hP, hD⟩, hS.F ht⟩) hS.2.2 dX2_isSmall_8

set_option maxHeartbeats 40000000 in
set_option maxRecDepth 100000 in
theorem ctX2_isDigit (l : Launch) (D : va_G) (dA : Nat → ClassId) (sz : Nat) (p0 : Int32) (res : Bool) (hM : MX2_isDigit p0 = some res) : Met l yX2_isDigit (ws_ yX2_isDigit cX2_isDigit 1 (some .boolean)) ({ frames := 1, cells := 0, slots := 0, locals := 22 }) (pre_ D dA [.int p0] [] sz) (qi_ D (b2i res) (fun (u : Unit) => []) (va_A [] sz)) 0 0 (va_A [] sz) := by
  refine Met.ofW (cc := cX2_isDigit) (maxL := 1) (ret := (some .boolean)) (by decide) rfl ?_
  intro p e s m args below meth c s₁ B hml hv
  obtain ⟨rfl, hsz, hP, hK, hD0⟩ := hv
  have hx := B.exec
  have hb := B.bytes
  have hr := B.returns
  have hts := atoms_spec (ws := (ws_ yX2_isDigit cX2_isDigit 1 (some .boolean))) B.pre
  have hts : ∀ w ∈ lw_all, w.before _ s = true := fun w h => hts w (List.mem_cons_of_mem _ h)
  have hown : s.vm.findClass RX2 = some m.cls := findClass_of_methodNamed B.named
  have hlocks := B.notSynchronized
  subst hsz
  have hD := hD0.self (sz := s.heap.size)
  generalize hAe : va_A [] s.heap.size = A at hD ⊢
  have hA : ∀ q : Nat, s.heap.size ≤ q → A q := fun q h => by rw [← hAe]; exact Or.inr h
  have hS : va_S A s.heap s.heap [] := va_S.rf
  have hP : va_P D clG [] s.heap := hP
  have hl := lv_entry ([.int p0]) (n := 1) (Nat.le_of_ble_eq_true rfl)
  rw [lg_entry_eq]
  generalize (lg_sl ([.int p0]) ++ List.replicate (1 - (lg_sl ([.int p0])).length) Slot.unset).toArray = ls at hl ⊢
  have hl : lv_has ls 1 [(0, .int p0)] := hl
  unfold MX2_isDigit at hM
  refine lv_iload_n hx hb dX2_isDigit_0 rfl (lv_at hl 0 rfl) ?_
  refine lv_bipush (v := (48 : Int32)) hx hb dX2_isDigit_1 (by decide) ?_
  refine lv_bipush (v := (57 : Int32)) hx hb dX2_isDigit_3 (by decide) ?_
  obtain ⟨r1, er1, hM⟩ := b_inv hM
  refine k_i0 [] (va_runSN (As := [.int p0, .int (48 : Int32), .int (57 : Int32)]) (rest := []) ⟨hx, hb, hml, hown, hts⟩ (ctX1_in l D dA _ p0 (48 : Int32) (57 : Int32) r1 er1) ⟨va_cnB 3 hts (lw_meth q438) rfl rfl rfl (hK.nw 13 rfl) (hts _ q113) (by decide +kernel) ⟨Nat.le_of_ble_eq_true rfl, Nat.le_of_ble_eq_true rfl⟩, hts _ q437, trivial⟩ (pre_S (hP.sub [] rfl) hK (hD.sub [] (by decide) rfl)) rfl rfl hl.1 rfl (lv_room (Nat.le_of_ble_eq_true rfl)) dX2_isDigit_5 ⟨Nat.le_of_ble_eq_true rfl, Nat.le_of_ble_eq_true rfl⟩) hP hD hS hA rfl (fun _ => rfl) (fun u2 H locs hP hD hS => ?_)
  have hP : va_P D clG [] H := hP
  have hD : va_D A [] := hD
  have hM := Option.some.inj hM
  subst hM
  exact W.zret (v := b2i r1) hx hb hr (nar_b _) (fun t ht hW => ⟨⟨b2i r1, (), rfl, rfl, by rw [ht]; exact hP, hD⟩, hS.F ht⟩) hS.2.2 dX2_isDigit_8

set_option maxHeartbeats 40000000 in
set_option maxRecDepth 100000 in
theorem ctX3_at (l : Launch) (D : va_G) (dA : Nat → ClassId) (sz : Nat) (h_w : Nat) (p0 : Int32) (p1 : Int32) (w_depth : Int32) (w_fault : Int32) (w_place : Int32) (w_cause : Value) (w_stackTrace : Value) (w_suppressedExceptions : Value) (w_detailMessage : Value) (w_backtrace : Value) (res : (Int32 × Int32)) (hM : MX3_at p0 p1 = some res) : Met l yX3_at (ws_ yX3_at cX3_at 3 (some (.object "LastAsked$Refused"))) ({ frames := 0, cells := 0, slots := 0, locals := 0 }) (pre_ D dA [.ref h_w, .int p0, .int p1] [(h_w, .inr (2, [w_cause, w_stackTrace, w_suppressedExceptions, w_detailMessage, w_backtrace, .int w_depth, .int w_fault, .int w_place]))] sz) (qr_ D (fun (u : Unit) => h_w) (fun (u : Unit) => [(h_w, .inr (2, [w_cause, w_stackTrace, w_suppressedExceptions, w_detailMessage, w_backtrace, .int w_depth, .int res.1, .int res.2]))]) (va_A [(h_w, .inr (2, [w_cause, w_stackTrace, w_suppressedExceptions, w_detailMessage, w_backtrace, .int w_depth, .int w_fault, .int w_place]))] sz)) 0 0 (va_A [(h_w, .inr (2, [w_cause, w_stackTrace, w_suppressedExceptions, w_detailMessage, w_backtrace, .int w_depth, .int w_fault, .int w_place]))] sz) := by
  refine Met.ofW (cc := cX3_at) (maxL := 3) (ret := (some (.object "LastAsked$Refused"))) (by decide) rfl ?_
  intro p e s m args below meth c s₁ B hml hv
  obtain ⟨rfl, hsz, hP, hK, hD0⟩ := hv
  have hx := B.exec
  have hb := B.bytes
  have hr := B.returns
  have hts := atoms_spec (ws := (ws_ yX3_at cX3_at 3 (some (.object "LastAsked$Refused")))) B.pre
  have hts : ∀ w ∈ lw_all, w.before _ s = true := fun w h => hts w (List.mem_cons_of_mem _ h)
  have hown : s.vm.findClass RX3 = some m.cls := findClass_of_methodNamed B.named
  have hlocks := B.notSynchronized
  subst hsz
  have hD := hD0.self (sz := s.heap.size)
  generalize hAe : va_A [(h_w, .inr (2, [w_cause, w_stackTrace, w_suppressedExceptions, w_detailMessage, w_backtrace, .int w_depth, .int w_fault, .int w_place]))] s.heap.size = A at hD ⊢
  have hA : ∀ q : Nat, s.heap.size ≤ q → A q := fun q h => by rw [← hAe]; exact Or.inr h
  have hS : va_S A s.heap s.heap [] := va_S.rf
  have hP : va_P D clG [(h_w, .inr (2, [w_cause, w_stackTrace, w_suppressedExceptions, w_detailMessage, w_backtrace, .int w_depth, .int w_fault, .int w_place]))] s.heap := hP
  have hl := lv_entry ([.ref h_w, .int p0, .int p1]) (n := 3) (Nat.le_of_ble_eq_true rfl)
  rw [lg_entry_eq]
  generalize (lg_sl ([.ref h_w, .int p0, .int p1]) ++ List.replicate (3 - (lg_sl ([.ref h_w, .int p0, .int p1])).length) Slot.unset).toArray = ls at hl ⊢
  have hl : lv_has ls 3 [(0, .ref h_w), (1, .int p0), (2, .int p1)] := hl
  unfold MX3_at at hM
  refine lv_aload_n hx hb dX3_at_0 rfl (lv_at hl 0 rfl) ?_
  refine lv_iload_n hx hb dX3_at_1 rfl (lv_at hl 1 rfl) ?_
  refine va_put (D := D) (ci := 2) (v := .int p0) (ty := .int) (C := RX3) (T := TX3) (N := 8) hx hb hts in_X3 tyX3 tyX3_ok nmX3 hown hK.1 hP hD hS 0 rfl rfl 6 (by decide) (hts _ q204) (fun _ h9 => h9) rfl (by decide +kernel) rfl rfl (Nat.le_of_ble_eq_true rfl) dX3_at_2 (fun H locs hP hD hS => ?_)
  have hP : va_P D clG [(h_w, .inr (2, [w_cause, w_stackTrace, w_suppressedExceptions, w_detailMessage, w_backtrace, .int w_depth, .int p0, .int w_place]))] H := hP
  have hD : va_D A [(h_w, .inr (2, [w_cause, w_stackTrace, w_suppressedExceptions, w_detailMessage, w_backtrace, .int w_depth, .int p0, .int w_place]))] := hD
  refine lv_aload_n hx hb dX3_at_5 rfl (lv_at hl 0 rfl) ?_
  refine lv_iload_n hx hb dX3_at_6 rfl (lv_at hl 2 rfl) ?_
  refine va_put (D := D) (ci := 2) (v := .int p1) (ty := .int) (C := RX3) (T := TX3) (N := 8) hx hb hts in_X3 tyX3 tyX3_ok nmX3 hown hK.1 hP hD hS 0 rfl rfl 7 (by decide) (hts _ q206) (fun _ h9 => h9) rfl (by decide +kernel) rfl rfl (Nat.le_of_ble_eq_true rfl) dX3_at_7 (fun H locs hP hD hS => ?_)
  have hP : va_P D clG [(h_w, .inr (2, [w_cause, w_stackTrace, w_suppressedExceptions, w_detailMessage, w_backtrace, .int w_depth, .int p0, .int p1]))] H := hP
  have hD : va_D A [(h_w, .inr (2, [w_cause, w_stackTrace, w_suppressedExceptions, w_detailMessage, w_backtrace, .int w_depth, .int p0, .int p1]))] := hD
  refine lv_aload_n hx hb dX3_at_10 rfl (lv_at hl 0 rfl) ?_
  have hM := Option.some.inj hM
  subst hM
  exact W.aret (v := .ref h_w) hx hb hr (Or.inl ⟨_, rfl⟩) (Or.inr ⟨_, rfl⟩) (fun t ht hW => ⟨⟨(), h_w, rfl, trivial, rfl, by rw [ht]; exact hP, hD⟩, hS.F ht⟩) hS.2.2 dX3_at_11

set_option maxHeartbeats 40000000 in
set_option maxRecDepth 100000 in
theorem ctX2_fail (l : Launch) (D : va_G) (dA : Nat → ClassId) (sz : Nat) (h_z : Nat) (h_z_wrong : Nat) (p0 : Int32) (z_size : Int32) (z_end : Int32) (z_token : Int32) (z_at : Int32) (z_whole : Int32) (z_wrong_depth : Int32) (z_wrong_fault : Int32) (z_wrong_place : Int32) (z_text : Value) (z_letters : Value) (z_word : Value) (z_city : Value) (z_asker : Value) (z_wrong_cause : Value) (z_wrong_stackTrace : Value) (z_wrong_suppressedExceptions : Value) (z_wrong_detailMessage : Value) (z_wrong_backtrace : Value) (res : (Int32 × Int32)) (hM : MX2_fail p0 z_at = some res) : Met l yX2_fail (ws_ yX2_fail cX2_fail 2 (some (.object "LastAsked$Refused"))) ({ frames := 1, cells := 0, slots := 0, locals := 22 }) (pre_ D dA [.ref h_z, .int p0] [(h_z, .inr (1, [.ref h_z_wrong, z_text, z_letters, .int z_size, .int z_end, .int z_token, .int z_at, .int z_whole, z_word, z_city, z_asker])), (h_z_wrong, .inr (2, [z_wrong_cause, z_wrong_stackTrace, z_wrong_suppressedExceptions, z_wrong_detailMessage, z_wrong_backtrace, .int z_wrong_depth, .int z_wrong_fault, .int z_wrong_place]))] sz) (qr_ D (fun (u : Unit) => h_z_wrong) (fun (u : Unit) => [(h_z, .inr (1, [.ref h_z_wrong, z_text, z_letters, .int z_size, .int z_end, .int z_token, .int z_at, .int z_whole, z_word, z_city, z_asker])), (h_z_wrong, .inr (2, [z_wrong_cause, z_wrong_stackTrace, z_wrong_suppressedExceptions, z_wrong_detailMessage, z_wrong_backtrace, .int z_wrong_depth, .int res.1, .int res.2]))]) (va_A [(h_z, .inr (1, [.ref h_z_wrong, z_text, z_letters, .int z_size, .int z_end, .int z_token, .int z_at, .int z_whole, z_word, z_city, z_asker])), (h_z_wrong, .inr (2, [z_wrong_cause, z_wrong_stackTrace, z_wrong_suppressedExceptions, z_wrong_detailMessage, z_wrong_backtrace, .int z_wrong_depth, .int z_wrong_fault, .int z_wrong_place]))] sz)) 0 0 (va_A [(h_z, .inr (1, [.ref h_z_wrong, z_text, z_letters, .int z_size, .int z_end, .int z_token, .int z_at, .int z_whole, z_word, z_city, z_asker])), (h_z_wrong, .inr (2, [z_wrong_cause, z_wrong_stackTrace, z_wrong_suppressedExceptions, z_wrong_detailMessage, z_wrong_backtrace, .int z_wrong_depth, .int z_wrong_fault, .int z_wrong_place]))] sz) := by
  refine Met.ofW (cc := cX2_fail) (maxL := 2) (ret := (some (.object "LastAsked$Refused"))) (by decide) rfl ?_
  intro p e s m args below meth c s₁ B hml hv
  obtain ⟨rfl, hsz, hP, hK, hD0⟩ := hv
  have hx := B.exec
  have hb := B.bytes
  have hr := B.returns
  have hts := atoms_spec (ws := (ws_ yX2_fail cX2_fail 2 (some (.object "LastAsked$Refused")))) B.pre
  have hts : ∀ w ∈ lw_all, w.before _ s = true := fun w h => hts w (List.mem_cons_of_mem _ h)
  have hown : s.vm.findClass RX2 = some m.cls := findClass_of_methodNamed B.named
  have hlocks := B.notSynchronized
  subst hsz
  have hD := hD0.self (sz := s.heap.size)
  generalize hAe : va_A [(h_z, .inr (1, [.ref h_z_wrong, z_text, z_letters, .int z_size, .int z_end, .int z_token, .int z_at, .int z_whole, z_word, z_city, z_asker])), (h_z_wrong, .inr (2, [z_wrong_cause, z_wrong_stackTrace, z_wrong_suppressedExceptions, z_wrong_detailMessage, z_wrong_backtrace, .int z_wrong_depth, .int z_wrong_fault, .int z_wrong_place]))] s.heap.size = A at hD ⊢
  have hA : ∀ q : Nat, s.heap.size ≤ q → A q := fun q h => by rw [← hAe]; exact Or.inr h
  have hS : va_S A s.heap s.heap [] := va_S.rf
  have hP : va_P D clG [(h_z, .inr (1, [.ref h_z_wrong, z_text, z_letters, .int z_size, .int z_end, .int z_token, .int z_at, .int z_whole, z_word, z_city, z_asker])), (h_z_wrong, .inr (2, [z_wrong_cause, z_wrong_stackTrace, z_wrong_suppressedExceptions, z_wrong_detailMessage, z_wrong_backtrace, .int z_wrong_depth, .int z_wrong_fault, .int z_wrong_place]))] s.heap := hP
  have hl := lv_entry ([.ref h_z, .int p0]) (n := 2) (Nat.le_of_ble_eq_true rfl)
  rw [lg_entry_eq]
  generalize (lg_sl ([.ref h_z, .int p0]) ++ List.replicate (2 - (lg_sl ([.ref h_z, .int p0])).length) Slot.unset).toArray = ls at hl ⊢
  have hl : lv_has ls 2 [(0, .ref h_z), (1, .int p0)] := hl
  unfold MX2_fail at hM
  refine lv_aload_n hx hb dX2_fail_0 rfl (lv_at hl 0 rfl) ?_
  refine va_get (D := D) (ci := 1) (v := .ref h_z_wrong) (C := RX2) (T := TX2) (N := 11) hx hb hts in_X2 hown hK.1 hP 0 rfl rfl 0 (by decide) (hts _ q226) (fun _ h9 => h9) rfl dX2_fail_1 ?_
  refine lv_iload_n hx hb dX2_fail_4 rfl (lv_at hl 1 rfl) ?_
  refine lv_aload_n hx hb dX2_fail_5 rfl (lv_at hl 0 rfl) ?_
  refine va_get (D := D) (ci := 1) (v := .int z_at) (C := RX2) (T := TX2) (N := 11) hx hb hts in_X2 hown hK.1 hP 0 rfl rfl 6 (by decide) (hts _ q232) (fun _ h9 => h9) rfl dX2_fail_6 ?_
  obtain ⟨r1, er1, hM⟩ := b_inv hM
  refine k_r0 [1] (va_runV (As := [.int p0, .int z_at]) (rest := []) ⟨hx, hb, hml, hown, hts⟩ (ctX3_at l D dA _ h_z_wrong p0 z_at z_wrong_depth z_wrong_fault z_wrong_place (z_wrong_cause) (z_wrong_stackTrace) (z_wrong_suppressedExceptions) (z_wrong_detailMessage) (z_wrong_backtrace) r1 er1) (cwV 2 hts (lw_V q623 q624 q625 q118 q626) rfl rfl rfl (by decide +kernel) ⟨Nat.le_of_ble_eq_true rfl, Nat.le_of_ble_eq_true rfl⟩) (pre_V (hP.sub [1] rfl) hK (hD.sub [1] (by decide) rfl) (ci := 2) (q0 := 0) rfl rfl) rfl rfl hl.1 rfl (lv_room (Nat.le_of_ble_eq_true rfl)) dX2_fail_9 ⟨Nat.le_of_ble_eq_true rfl, Nat.le_of_ble_eq_true rfl⟩) hP hD hS hA rfl (fun _ => rfl) (fun u2 H locs hP hD hS => ?_)
  have hP : va_P D clG [(h_z, .inr (1, [.ref h_z_wrong, z_text, z_letters, .int z_size, .int z_end, .int z_token, .int z_at, .int z_whole, z_word, z_city, z_asker])), (h_z_wrong, .inr (2, [z_wrong_cause, z_wrong_stackTrace, z_wrong_suppressedExceptions, z_wrong_detailMessage, z_wrong_backtrace, .int z_wrong_depth, .int r1.1, .int r1.2]))] H := hP
  have hD : va_D A [(h_z, .inr (1, [.ref h_z_wrong, z_text, z_letters, .int z_size, .int z_end, .int z_token, .int z_at, .int z_whole, z_word, z_city, z_asker])), (h_z_wrong, .inr (2, [z_wrong_cause, z_wrong_stackTrace, z_wrong_suppressedExceptions, z_wrong_detailMessage, z_wrong_backtrace, .int z_wrong_depth, .int r1.1, .int r1.2]))] := hD
  have hM := Option.some.inj hM
  subst hM
  exact W.aret (v := .ref h_z_wrong) hx hb hr (Or.inl ⟨_, rfl⟩) (Or.inr ⟨_, rfl⟩) (fun t ht hW => ⟨⟨(), h_z_wrong, rfl, trivial, rfl, by rw [ht]; exact hP, hD⟩, hS.F ht⟩) hS.2.2 dX2_fail_12

set_option maxHeartbeats 40000000 in
set_option maxRecDepth 100000 in
theorem ctX8_all (l : Launch) (D : va_G) (dA : Nat → ClassId) (sz : Nat) (h_c : Nat) (c_hour : Int32) (c_gives : Int32) (c_peopleMany : Int32) (c_nearMany : Int32) (c_askedMany : Int32) (c_heardMany : Int32) (c_wentMany : Int32) (c_people : Value) (c_hours : Value) (c_heardBy : Value) (c_heardOf : Value) (c_heardAt : Value) (c_heardGive : Value) (res : Int32) (hM : MX8_all c_peopleMany = some res) : Met l yX8_all (ws_ yX8_all cX8_all 1 (some .int)) ({ frames := 0, cells := 0, slots := 0, locals := 0 }) (pre_ D dA [.ref h_c] [(h_c, .inr (6, [c_people, c_hours, c_heardBy, c_heardOf, c_heardAt, c_heardGive, .int c_hour, .int c_gives, .int c_peopleMany, .int c_nearMany, .int c_askedMany, .int c_heardMany, .int c_wentMany]))] sz) (qi_ D res (fun (u : Unit) => [(h_c, .inr (6, [c_people, c_hours, c_heardBy, c_heardOf, c_heardAt, c_heardGive, .int c_hour, .int c_gives, .int c_peopleMany, .int c_nearMany, .int c_askedMany, .int c_heardMany, .int c_wentMany]))]) (va_A [(h_c, .inr (6, [c_people, c_hours, c_heardBy, c_heardOf, c_heardAt, c_heardGive, .int c_hour, .int c_gives, .int c_peopleMany, .int c_nearMany, .int c_askedMany, .int c_heardMany, .int c_wentMany]))] sz)) 0 0 (va_A [(h_c, .inr (6, [c_people, c_hours, c_heardBy, c_heardOf, c_heardAt, c_heardGive, .int c_hour, .int c_gives, .int c_peopleMany, .int c_nearMany, .int c_askedMany, .int c_heardMany, .int c_wentMany]))] sz) := by
  refine Met.ofW (cc := cX8_all) (maxL := 1) (ret := (some .int)) (by decide) rfl ?_
  intro p e s m args below meth c s₁ B hml hv
  obtain ⟨rfl, hsz, hP, hK, hD0⟩ := hv
  have hx := B.exec
  have hb := B.bytes
  have hr := B.returns
  have hts := atoms_spec (ws := (ws_ yX8_all cX8_all 1 (some .int))) B.pre
  have hts : ∀ w ∈ lw_all, w.before _ s = true := fun w h => hts w (List.mem_cons_of_mem _ h)
  have hown : s.vm.findClass RX8 = some m.cls := findClass_of_methodNamed B.named
  have hlocks := B.notSynchronized
  subst hsz
  have hD := hD0.self (sz := s.heap.size)
  generalize hAe : va_A [(h_c, .inr (6, [c_people, c_hours, c_heardBy, c_heardOf, c_heardAt, c_heardGive, .int c_hour, .int c_gives, .int c_peopleMany, .int c_nearMany, .int c_askedMany, .int c_heardMany, .int c_wentMany]))] s.heap.size = A at hD ⊢
  have hA : ∀ q : Nat, s.heap.size ≤ q → A q := fun q h => by rw [← hAe]; exact Or.inr h
  have hS : va_S A s.heap s.heap [] := va_S.rf
  have hP : va_P D clG [(h_c, .inr (6, [c_people, c_hours, c_heardBy, c_heardOf, c_heardAt, c_heardGive, .int c_hour, .int c_gives, .int c_peopleMany, .int c_nearMany, .int c_askedMany, .int c_heardMany, .int c_wentMany]))] s.heap := hP
  have hl := lv_entry ([.ref h_c]) (n := 1) (Nat.le_of_ble_eq_true rfl)
  rw [lg_entry_eq]
  generalize (lg_sl ([.ref h_c]) ++ List.replicate (1 - (lg_sl ([.ref h_c])).length) Slot.unset).toArray = ls at hl ⊢
  have hl : lv_has ls 1 [(0, .ref h_c)] := hl
  unfold MX8_all at hM
  refine lv_iconst (v := (1 : Int32)) hx hb dX8_all_0 (by decide) ?_
  refine lv_aload_n hx hb dX8_all_1 rfl (lv_at hl 0 rfl) ?_
  refine va_get (D := D) (ci := 6) (v := .int c_peopleMany) (C := RX8) (T := TX8) (N := 13) hx hb hts in_X8 hown hK.1 hP 0 rfl rfl 8 (by decide) (hts _ q480) (fun _ h9 => h9) rfl dX8_all_2 ?_
  refine lv_ishl hx hb dX8_all_5 ?_
  refine lv_iconst (v := (1 : Int32)) hx hb dX8_all_6 (by decide) ?_
  refine lv_isub hx hb dX8_all_7 ?_
  have hM := Option.some.inj hM
  subst hM
  exact W.iret (v := (((1 : Int32) <<< (c_peopleMany &&& 31)) - (1 : Int32))) hx hb hr (fun t ht hW => ⟨⟨(((1 : Int32) <<< (c_peopleMany &&& 31)) - (1 : Int32)), (), rfl, rfl, by rw [ht]; exact hP, hD⟩, hS.F ht⟩) hS.2.2 dX8_all_8

set_option maxHeartbeats 40000000 in
set_option maxRecDepth 100000 in
theorem wX4_begin_53 {p : Program} {l : Launch} {e : Env} {s : State} {m : MethodId} {args : Array Value} {below : List Frame} {meth : Method} {c : Code} {D : va_G} {dA : Nat → ClassId} {A : Nat → Prop} {Q : State → Prop} (hx : p.tables.exec = Jvm.exec) (hb : c.code = cX4_begin) (hml : c.maxLocals = 3) (hown : s.vm.findClass RX4 = some m.cls) (hts : ∀ w ∈ lw_all, w.before args s = true) (hK : KK D dA s) (hA : ∀ q : Nat, s.heap.size ≤ q → A q) (h_t : Nat) (h_c : Nat) (h_t_hours : Nat) (h_c_hours : Nat) (h_c_people : Nat) (h_t_has : Nat) (t_living : Int32) (t_hour : Int32) (t_cat : Int32) (t_nights : Int32) (t_seed : Int32) (c_hour : Int32) (c_gives : Int32) (c_peopleMany : Int32) (c_nearMany : Int32) (c_askedMany : Int32) (c_heardMany : Int32) (c_wentMany : Int32) (t_hours_ : AI) (c_hours_ : AI) (t_has_ : AI) (np : Nat) (pk : Nat → Nat) (pu : AI) (pw : AI) (pd : AI) (pr : AI) (ps : AI) (pt : AI) (t_city : Value) (c_heardBy : Value) (c_heardOf : Value) (c_heardAt : Value) (c_heardGive : Value) (pa : Nat → Nat) (pn : Nat → Value) (hpk : ∀ k, k < np → pk k < 4) (t_living_53 : Int32) (t_hours_53 : AI) :
    ∀ (k_ : Nat) (x2_53 : Int32) (t_has_53 : AI) (rx : AI) (H : Heap) (locs : List Loc) (ls : Array Slot), loopN k_ (fun s_ => BX4_begin_53 c_peopleMany np pw t_living_53 t_hours_53 s_.1 s_.2) (x2_53, t_has_53) = some rx → va_P D clG ([(h_t, .inr (3, [.ref h_t_has, .ref h_t_hours, .ref h_c, .int t_living_53, .int c_hour, .int (0 : Int32), .int (0 : Int32), .int (0 : Int32)])), (h_c, .inr (6, [.ref h_c_people, .ref h_c_hours, c_heardBy, c_heardOf, c_heardAt, c_heardGive, .int c_hour, .int c_gives, .int c_peopleMany, .int c_nearMany, .int c_askedMany, .int c_heardMany, .int c_wentMany])), (h_t_hours, .inl (dA 0, 36, .inl (t_hours_53))), (h_c_hours, .inl (dA 0, 36, .inl (c_hours_))), (h_c_people, .inl (dA 4, 6, .inr (.inr (.inr (.inr (pref np pa)))))), (h_t_has, .inl (dA 0, 6, .inl (t_has_53)))] ++ ppool np pa pk pn pu pw pd pr ps pt) H → va_D A ([(h_t, .inr (3, [.ref h_t_has, .ref h_t_hours, .ref h_c, .int t_living_53, .int c_hour, .int (0 : Int32), .int (0 : Int32), .int (0 : Int32)])), (h_c, .inr (6, [.ref h_c_people, .ref h_c_hours, c_heardBy, c_heardOf, c_heardAt, c_heardGive, .int c_hour, .int c_gives, .int c_peopleMany, .int c_nearMany, .int c_askedMany, .int c_heardMany, .int c_wentMany])), (h_t_hours, .inl (dA 0, 36, .inl (t_hours_53))), (h_c_hours, .inl (dA 0, 36, .inl (c_hours_))), (h_c_people, .inl (dA 4, 6, .inr (.inr (.inr (.inr (pref np pa)))))), (h_t_has, .inl (dA 0, 6, .inl (t_has_53)))] ++ ppool np pa pk pn pu pw pd pr ps pt) → va_S A s.heap H locs → lv_has ls 3 [(0, .ref h_t), (1, .ref h_c), (2, .int x2_53)] → (∀ (H1 : Heap) (locs1 : List Loc) (ls1 : Array Slot), va_P D clG ([(h_t, .inr (3, [.ref h_t_has, .ref h_t_hours, .ref h_c, .int t_living_53, .int c_hour, .int (0 : Int32), .int (0 : Int32), .int (0 : Int32)])), (h_c, .inr (6, [.ref h_c_people, .ref h_c_hours, c_heardBy, c_heardOf, c_heardAt, c_heardGive, .int c_hour, .int c_gives, .int c_peopleMany, .int c_nearMany, .int c_askedMany, .int c_heardMany, .int c_wentMany])), (h_t_hours, .inl (dA 0, 36, .inl (t_hours_53))), (h_c_hours, .inl (dA 0, 36, .inl (c_hours_))), (h_c_people, .inl (dA 4, 6, .inr (.inr (.inr (.inr (pref np pa)))))), (h_t_has, .inl (dA 0, 6, .inl (rx)))] ++ ppool np pa pk pn pu pw pd pr ps pt) H1 → va_D A ([(h_t, .inr (3, [.ref h_t_has, .ref h_t_hours, .ref h_c, .int t_living_53, .int c_hour, .int (0 : Int32), .int (0 : Int32), .int (0 : Int32)])), (h_c, .inr (6, [.ref h_c_people, .ref h_c_hours, c_heardBy, c_heardOf, c_heardAt, c_heardGive, .int c_hour, .int c_gives, .int c_peopleMany, .int c_nearMany, .int c_askedMany, .int c_heardMany, .int c_wentMany])), (h_t_hours, .inl (dA 0, 36, .inl (t_hours_53))), (h_c_hours, .inl (dA 0, 36, .inl (c_hours_))), (h_c_people, .inl (dA 4, 6, .inr (.inr (.inr (.inr (pref np pa)))))), (h_t_has, .inl (dA 0, 6, .inl (rx)))] ++ ppool np pa pk pn pu pw pd pr ps pt) → va_S A s.heap H1 locs1 → lv_has ls1 3 [(0, .ref h_t)] → W p l e (headSpec (ws_ yX4_begin cX4_begin 3 (some (.object "LastAsked$Town"))) ({ frames := 1, cells := 0, slots := 0, locals := 200 })).room s m args below meth c H1 locs1 0 0 Q (F0 m 82 ls1 [])) → W p l e (headSpec (ws_ yX4_begin cX4_begin 3 (some (.object "LastAsked$Town"))) ({ frames := 1, cells := 0, slots := 0, locals := 200 })).room s m args below meth c H locs 0 0 Q (F0 m 53 ls []) := by
  intro k_
  induction k_ with
  | zero =>
    intro x2_53 t_has_53 rx H locs ls hN
    cases hN
  | succ k_ ih =>
    intro x2_53 t_has_53 rx H locs ls hN hP hD hS hl kx0
    obtain ⟨r_, hM, hN⟩ := b_inv hN
    replace hM : BX4_begin_53 c_peopleMany np pw t_living_53 t_hours_53 x2_53 t_has_53 = some r_ := hM
    unfold BX4_begin_53 at hM
    refine lv_iload_n hx hb dX4_begin_53 rfl (lv_at hl 2 rfl) ?_
    refine lv_aload_n hx hb dX4_begin_54 rfl (lv_at hl 1 rfl) ?_
    refine va_get (D := D) (ci := 6) (v := .int c_peopleMany) (C := RX8) (T := TX8) (N := 13) hx hb hts in_X8 hown hK.1 hP 1 rfl rfl 8 (by decide) (hts _ q482) (fun _ h9 => h9) rfl dX4_begin_55 ?_
    refine lv_icmp_ge (tgt := 82) hx hb dX4_begin_58 (by decide) (fun c3 => ?_) (fun c3 => ?_)
    · rw [if_pos c3] at hM
      have hM := Option.some.inj hM
      subst hM
      have hN := Option.some.inj hN
      subst hN
      exact kx0 _ _ _ hP hD hS (lv_sub hl [0] rfl)
    · rw [if_neg c3] at hM
      refine lv_aload_n hx hb dX4_begin_61 rfl (lv_at hl 0 rfl) ?_
      refine va_get (D := D) (ci := 3) (v := .ref h_t_has) (C := RX4) (T := TX4) (N := 8) hx hb hts in_X4 hown hK.1 hP 0 rfl rfl 0 (by decide) (hts _ q267) (fun _ h9 => h9) rfl dX4_begin_62 ?_
      refine lv_iload_n hx hb dX4_begin_65 rfl (lv_at hl 2 rfl) ?_
      refine lv_aload_n hx hb dX4_begin_66 rfl (lv_at hl 1 rfl) ?_
      refine va_get (D := D) (ci := 6) (v := .ref h_c_people) (C := RX8) (T := TX8) (N := 13) hx hb hts in_X8 hown hK.1 hP 1 rfl rfl 0 (by decide) (hts _ q457) (fun _ h9 => h9) rfl dX4_begin_67 ?_
      refine lv_iload_n hx hb dX4_begin_70 rfl (lv_at hl 2 rfl) ?_
      obtain ⟨h4, hM⟩ := gi_inv hM
      obtain ⟨h5, hM⟩ := gn_inv hM
      refine va_aldq hx hb hK.1 hP 4 4 rfl rfl h4 dX4_begin_71 ?_
      refine lv_tor (v := .ref (pa (Int32.toNatClampNeg x2_53))) (pp_ref h5) ?_
      refine pp_getf (n := 6) hx hb hts hown hK hP rfl h5 (hpk _ h5) 2 (by decide) (hts _ q752) (fun _ h9 => h9) (v := .int (pw (Int32.toNatClampNeg x2_53))) rfl dX4_begin_72 ?_
      obtain ⟨h6, hM⟩ := gi_inv hM
      refine va_iast hx hb hK.1 hP hD hS 5 0 rfl rfl h6 dX4_begin_75 (fun H locs hP hD hS => ?_)
      have hP : va_P D clG ([(h_t, .inr (3, [.ref h_t_has, .ref h_t_hours, .ref h_c, .int t_living_53, .int c_hour, .int (0 : Int32), .int (0 : Int32), .int (0 : Int32)])), (h_c, .inr (6, [.ref h_c_people, .ref h_c_hours, c_heardBy, c_heardOf, c_heardAt, c_heardGive, .int c_hour, .int c_gives, .int c_peopleMany, .int c_nearMany, .int c_askedMany, .int c_heardMany, .int c_wentMany])), (h_t_hours, .inl (dA 0, 36, .inl (t_hours_53))), (h_c_hours, .inl (dA 0, 36, .inl (c_hours_))), (h_c_people, .inl (dA 4, 6, .inr (.inr (.inr (.inr (pref np pa)))))), (h_t_has, .inl (dA 0, 6, .inl ((upd t_has_53 (Int32.toNatClampNeg x2_53) (pw (Int32.toNatClampNeg x2_53))))))] ++ ppool np pa pk pn pu pw pd pr ps pt) H := hP
      have hD : va_D A ([(h_t, .inr (3, [.ref h_t_has, .ref h_t_hours, .ref h_c, .int t_living_53, .int c_hour, .int (0 : Int32), .int (0 : Int32), .int (0 : Int32)])), (h_c, .inr (6, [.ref h_c_people, .ref h_c_hours, c_heardBy, c_heardOf, c_heardAt, c_heardGive, .int c_hour, .int c_gives, .int c_peopleMany, .int c_nearMany, .int c_askedMany, .int c_heardMany, .int c_wentMany])), (h_t_hours, .inl (dA 0, 36, .inl (t_hours_53))), (h_c_hours, .inl (dA 0, 36, .inl (c_hours_))), (h_c_people, .inl (dA 4, 6, .inr (.inr (.inr (.inr (pref np pa)))))), (h_t_has, .inl (dA 0, 6, .inl ((upd t_has_53 (Int32.toNatClampNeg x2_53) (pw (Int32.toNatClampNeg x2_53))))))] ++ ppool np pa pk pn pu pw pd pr ps pt) := hD
      refine lv_iinc (v := (x2_53 + (1 : Int32))) (lv' := [(2, .int (x2_53 + (1 : Int32))), (0, .ref h_t), (1, .ref h_c)]) hx hb dX4_begin_76 hl (k := 2) rfl (rfl) (by decide) rfl (fun ls hl => ?_)
      refine lv_goto (tgt := 53) hx hb dX4_begin_79 (by decide) ?_
      have hM := Option.some.inj hM
      subst hM
      exact ih (x2_53 + (1 : Int32)) (upd t_has_53 (Int32.toNatClampNeg x2_53) (pw (Int32.toNatClampNeg x2_53))) _ _ _ _ hN hP hD hS (lv_sub hl [1, 2, 0] rfl) kx0
set_option maxHeartbeats 40000000 in
set_option maxRecDepth 100000 in
theorem ctX4_begin (l : Launch) (D : va_G) (dA : Nat → ClassId) (sz : Nat) (h_t : Nat) (h_c : Nat) (h_t_hours : Nat) (h_c_hours : Nat) (h_c_people : Nat) (h_t_has : Nat) (t_living : Int32) (t_hour : Int32) (t_cat : Int32) (t_nights : Int32) (t_seed : Int32) (c_hour : Int32) (c_gives : Int32) (c_peopleMany : Int32) (c_nearMany : Int32) (c_askedMany : Int32) (c_heardMany : Int32) (c_wentMany : Int32) (t_hours_ : AI) (c_hours_ : AI) (t_has_ : AI) (np : Nat) (pk : Nat → Nat) (pu : AI) (pw : AI) (pd : AI) (pr : AI) (ps : AI) (pt : AI) (t_city : Value) (c_heardBy : Value) (c_heardOf : Value) (c_heardAt : Value) (c_heardGive : Value) (pa : Nat → Nat) (pn : Nat → Value) (hpk : ∀ k, k < np → pk k < 4) (res : (Int32 × Int32 × Int32 × Int32 × Int32 × AI × AI)) (hM : MX4_begin c_hour c_peopleMany t_hours_ c_hours_ t_has_ np pw = some res) : Met l yX4_begin (ws_ yX4_begin cX4_begin 3 (some (.object "LastAsked$Town"))) ({ frames := 1, cells := 0, slots := 0, locals := 200 }) (pre_ D dA [.ref h_t, .ref h_c] ([(h_t, .inr (3, [.ref h_t_has, .ref h_t_hours, t_city, .int t_living, .int t_hour, .int t_cat, .int t_nights, .int t_seed])), (h_c, .inr (6, [.ref h_c_people, .ref h_c_hours, c_heardBy, c_heardOf, c_heardAt, c_heardGive, .int c_hour, .int c_gives, .int c_peopleMany, .int c_nearMany, .int c_askedMany, .int c_heardMany, .int c_wentMany])), (h_t_hours, .inl (dA 0, 36, .inl (t_hours_))), (h_c_hours, .inl (dA 0, 36, .inl (c_hours_))), (h_c_people, .inl (dA 4, 6, .inr (.inr (.inr (.inr (pref np pa)))))), (h_t_has, .inl (dA 0, 6, .inl (t_has_)))] ++ ppool np pa pk pn pu pw pd pr ps pt) sz) (qr_ D (fun (u : Unit) => h_t) (fun (u : Unit) => [(h_t, .inr (3, [.ref h_t_has, .ref h_t_hours, .ref h_c, .int res.1, .int res.2.1, .int res.2.2.1, .int res.2.2.2.1, .int res.2.2.2.2.1])), (h_c, .inr (6, [.ref h_c_people, .ref h_c_hours, c_heardBy, c_heardOf, c_heardAt, c_heardGive, .int c_hour, .int c_gives, .int c_peopleMany, .int c_nearMany, .int c_askedMany, .int c_heardMany, .int c_wentMany])), (h_t_hours, .inl (dA 0, 36, .inl (res.2.2.2.2.2.1))), (h_c_hours, .inl (dA 0, 36, .inl (c_hours_))), (h_c_people, .inl (dA 4, 6, .inr (.inr (.inr (.inr (pref np pa)))))), (h_t_has, .inl (dA 0, 6, .inl (res.2.2.2.2.2.2)))] ++ ppool np pa pk pn pu pw pd pr ps pt) (va_A ([(h_t, .inr (3, [.ref h_t_has, .ref h_t_hours, t_city, .int t_living, .int t_hour, .int t_cat, .int t_nights, .int t_seed])), (h_c, .inr (6, [.ref h_c_people, .ref h_c_hours, c_heardBy, c_heardOf, c_heardAt, c_heardGive, .int c_hour, .int c_gives, .int c_peopleMany, .int c_nearMany, .int c_askedMany, .int c_heardMany, .int c_wentMany])), (h_t_hours, .inl (dA 0, 36, .inl (t_hours_))), (h_c_hours, .inl (dA 0, 36, .inl (c_hours_))), (h_c_people, .inl (dA 4, 6, .inr (.inr (.inr (.inr (pref np pa)))))), (h_t_has, .inl (dA 0, 6, .inl (t_has_)))] ++ ppool np pa pk pn pu pw pd pr ps pt) sz)) 0 0 (va_A ([(h_t, .inr (3, [.ref h_t_has, .ref h_t_hours, t_city, .int t_living, .int t_hour, .int t_cat, .int t_nights, .int t_seed])), (h_c, .inr (6, [.ref h_c_people, .ref h_c_hours, c_heardBy, c_heardOf, c_heardAt, c_heardGive, .int c_hour, .int c_gives, .int c_peopleMany, .int c_nearMany, .int c_askedMany, .int c_heardMany, .int c_wentMany])), (h_t_hours, .inl (dA 0, 36, .inl (t_hours_))), (h_c_hours, .inl (dA 0, 36, .inl (c_hours_))), (h_c_people, .inl (dA 4, 6, .inr (.inr (.inr (.inr (pref np pa)))))), (h_t_has, .inl (dA 0, 6, .inl (t_has_)))] ++ ppool np pa pk pn pu pw pd pr ps pt) sz) := by
  refine Met.ofW (cc := cX4_begin) (maxL := 3) (ret := (some (.object "LastAsked$Town"))) (by decide) rfl ?_
  intro p e s m args below meth c s₁ B hml hv
  obtain ⟨rfl, hsz, hP, hK, hD0⟩ := hv
  have hx := B.exec
  have hb := B.bytes
  have hr := B.returns
  have hts := atoms_spec (ws := (ws_ yX4_begin cX4_begin 3 (some (.object "LastAsked$Town")))) B.pre
  have hts : ∀ w ∈ lw_all, w.before _ s = true := fun w h => hts w (List.mem_cons_of_mem _ h)
  have hown : s.vm.findClass RX4 = some m.cls := findClass_of_methodNamed B.named
  have hlocks := B.notSynchronized
  subst hsz
  have hD := hD0.self (sz := s.heap.size)
  generalize hAe : va_A ([(h_t, .inr (3, [.ref h_t_has, .ref h_t_hours, t_city, .int t_living, .int t_hour, .int t_cat, .int t_nights, .int t_seed])), (h_c, .inr (6, [.ref h_c_people, .ref h_c_hours, c_heardBy, c_heardOf, c_heardAt, c_heardGive, .int c_hour, .int c_gives, .int c_peopleMany, .int c_nearMany, .int c_askedMany, .int c_heardMany, .int c_wentMany])), (h_t_hours, .inl (dA 0, 36, .inl (t_hours_))), (h_c_hours, .inl (dA 0, 36, .inl (c_hours_))), (h_c_people, .inl (dA 4, 6, .inr (.inr (.inr (.inr (pref np pa)))))), (h_t_has, .inl (dA 0, 6, .inl (t_has_)))] ++ ppool np pa pk pn pu pw pd pr ps pt) s.heap.size = A at hD ⊢
  have hA : ∀ q : Nat, s.heap.size ≤ q → A q := fun q h => by rw [← hAe]; exact Or.inr h
  have hS : va_S A s.heap s.heap [] := va_S.rf
  have hP : va_P D clG ([(h_t, .inr (3, [.ref h_t_has, .ref h_t_hours, t_city, .int t_living, .int t_hour, .int t_cat, .int t_nights, .int t_seed])), (h_c, .inr (6, [.ref h_c_people, .ref h_c_hours, c_heardBy, c_heardOf, c_heardAt, c_heardGive, .int c_hour, .int c_gives, .int c_peopleMany, .int c_nearMany, .int c_askedMany, .int c_heardMany, .int c_wentMany])), (h_t_hours, .inl (dA 0, 36, .inl (t_hours_))), (h_c_hours, .inl (dA 0, 36, .inl (c_hours_))), (h_c_people, .inl (dA 4, 6, .inr (.inr (.inr (.inr (pref np pa)))))), (h_t_has, .inl (dA 0, 6, .inl (t_has_)))] ++ ppool np pa pk pn pu pw pd pr ps pt) s.heap := hP
  have hl := lv_entry ([.ref h_t, .ref h_c]) (n := 3) (Nat.le_of_ble_eq_true rfl)
  rw [lg_entry_eq]
  generalize (lg_sl ([.ref h_t, .ref h_c]) ++ List.replicate (3 - (lg_sl ([.ref h_t, .ref h_c])).length) Slot.unset).toArray = ls at hl ⊢
  have hl : lv_has ls 3 [(0, .ref h_t), (1, .ref h_c)] := hl
  unfold MX4_begin at hM
  refine lv_aload_n hx hb dX4_begin_0 rfl (lv_at hl 0 rfl) ?_
  refine lv_aload_n hx hb dX4_begin_1 rfl (lv_at hl 1 rfl) ?_
  refine va_put (D := D) (ci := 3) (v := .ref h_c) (ty := (.object "LastAsked$City")) (C := RX4) (T := TX4) (N := 8) hx hb hts in_X4 tyX4 tyX4_ok nmX4 hown hK.1 hP hD hS 0 rfl rfl 2 (by decide) (hts _ q272) (fun _ h9 => h9) rfl (by decide +kernel) rfl rfl (Nat.le_of_ble_eq_true rfl) dX4_begin_2 (fun H locs hP hD hS => ?_)
  have hP : va_P D clG ([(h_t, .inr (3, [.ref h_t_has, .ref h_t_hours, .ref h_c, .int t_living, .int t_hour, .int t_cat, .int t_nights, .int t_seed])), (h_c, .inr (6, [.ref h_c_people, .ref h_c_hours, c_heardBy, c_heardOf, c_heardAt, c_heardGive, .int c_hour, .int c_gives, .int c_peopleMany, .int c_nearMany, .int c_askedMany, .int c_heardMany, .int c_wentMany])), (h_t_hours, .inl (dA 0, 36, .inl (t_hours_))), (h_c_hours, .inl (dA 0, 36, .inl (c_hours_))), (h_c_people, .inl (dA 4, 6, .inr (.inr (.inr (.inr (pref np pa)))))), (h_t_has, .inl (dA 0, 6, .inl (t_has_)))] ++ ppool np pa pk pn pu pw pd pr ps pt) H := hP
  have hD : va_D A ([(h_t, .inr (3, [.ref h_t_has, .ref h_t_hours, .ref h_c, .int t_living, .int t_hour, .int t_cat, .int t_nights, .int t_seed])), (h_c, .inr (6, [.ref h_c_people, .ref h_c_hours, c_heardBy, c_heardOf, c_heardAt, c_heardGive, .int c_hour, .int c_gives, .int c_peopleMany, .int c_nearMany, .int c_askedMany, .int c_heardMany, .int c_wentMany])), (h_t_hours, .inl (dA 0, 36, .inl (t_hours_))), (h_c_hours, .inl (dA 0, 36, .inl (c_hours_))), (h_c_people, .inl (dA 4, 6, .inr (.inr (.inr (.inr (pref np pa)))))), (h_t_has, .inl (dA 0, 6, .inl (t_has_)))] ++ ppool np pa pk pn pu pw pd pr ps pt) := hD
  refine lv_aload_n hx hb dX4_begin_5 rfl (lv_at hl 0 rfl) ?_
  refine lv_aload_n hx hb dX4_begin_6 rfl (lv_at hl 1 rfl) ?_
  obtain ⟨r1, er1, hM⟩ := b_inv hM
  refine k_i0 [1] (va_runV (As := []) (rest := [.ref h_t]) ⟨hx, hb, hml, hown, hts⟩ (ctX8_all l D dA _ h_c c_hour c_gives c_peopleMany c_nearMany c_askedMany c_heardMany c_wentMany (.ref h_c_people) (.ref h_c_hours) (c_heardBy) (c_heardOf) (c_heardAt) (c_heardGive) r1 er1) (cwV 0 hts (lw_V q894 q895 q896 q123 q897) rfl rfl rfl (by decide +kernel) ⟨Nat.le_of_ble_eq_true rfl, Nat.le_of_ble_eq_true rfl⟩) (pre_V (hP.sub [1] rfl) hK (hD.sub [1] (by decide) rfl) (ci := 6) (q0 := 0) rfl rfl) rfl rfl hl.1 rfl (lv_room (Nat.le_of_ble_eq_true rfl)) dX4_begin_7 ⟨Nat.le_of_ble_eq_true rfl, Nat.le_of_ble_eq_true rfl⟩) hP hD hS hA rfl (fun _ => rfl) (fun u2 H locs hP hD hS => ?_)
  have hP : va_P D clG ([(h_t, .inr (3, [.ref h_t_has, .ref h_t_hours, .ref h_c, .int t_living, .int t_hour, .int t_cat, .int t_nights, .int t_seed])), (h_c, .inr (6, [.ref h_c_people, .ref h_c_hours, c_heardBy, c_heardOf, c_heardAt, c_heardGive, .int c_hour, .int c_gives, .int c_peopleMany, .int c_nearMany, .int c_askedMany, .int c_heardMany, .int c_wentMany])), (h_t_hours, .inl (dA 0, 36, .inl (t_hours_))), (h_c_hours, .inl (dA 0, 36, .inl (c_hours_))), (h_c_people, .inl (dA 4, 6, .inr (.inr (.inr (.inr (pref np pa)))))), (h_t_has, .inl (dA 0, 6, .inl (t_has_)))] ++ ppool np pa pk pn pu pw pd pr ps pt) H := hP
  have hD : va_D A ([(h_t, .inr (3, [.ref h_t_has, .ref h_t_hours, .ref h_c, .int t_living, .int t_hour, .int t_cat, .int t_nights, .int t_seed])), (h_c, .inr (6, [.ref h_c_people, .ref h_c_hours, c_heardBy, c_heardOf, c_heardAt, c_heardGive, .int c_hour, .int c_gives, .int c_peopleMany, .int c_nearMany, .int c_askedMany, .int c_heardMany, .int c_wentMany])), (h_t_hours, .inl (dA 0, 36, .inl (t_hours_))), (h_c_hours, .inl (dA 0, 36, .inl (c_hours_))), (h_c_people, .inl (dA 4, 6, .inr (.inr (.inr (.inr (pref np pa)))))), (h_t_has, .inl (dA 0, 6, .inl (t_has_)))] ++ ppool np pa pk pn pu pw pd pr ps pt) := hD
  refine va_put (D := D) (ci := 3) (v := .int r1) (ty := .int) (C := RX4) (T := TX4) (N := 8) hx hb hts in_X4 tyX4 tyX4_ok nmX4 hown hK.1 hP hD hS 0 rfl rfl 3 (by decide) (hts _ q275) (fun _ h9 => h9) rfl (by decide +kernel) rfl rfl (Nat.le_of_ble_eq_true rfl) dX4_begin_10 (fun H locs hP hD hS => ?_)
  have hP : va_P D clG ([(h_t, .inr (3, [.ref h_t_has, .ref h_t_hours, .ref h_c, .int r1, .int t_hour, .int t_cat, .int t_nights, .int t_seed])), (h_c, .inr (6, [.ref h_c_people, .ref h_c_hours, c_heardBy, c_heardOf, c_heardAt, c_heardGive, .int c_hour, .int c_gives, .int c_peopleMany, .int c_nearMany, .int c_askedMany, .int c_heardMany, .int c_wentMany])), (h_t_hours, .inl (dA 0, 36, .inl (t_hours_))), (h_c_hours, .inl (dA 0, 36, .inl (c_hours_))), (h_c_people, .inl (dA 4, 6, .inr (.inr (.inr (.inr (pref np pa)))))), (h_t_has, .inl (dA 0, 6, .inl (t_has_)))] ++ ppool np pa pk pn pu pw pd pr ps pt) H := hP
  have hD : va_D A ([(h_t, .inr (3, [.ref h_t_has, .ref h_t_hours, .ref h_c, .int r1, .int t_hour, .int t_cat, .int t_nights, .int t_seed])), (h_c, .inr (6, [.ref h_c_people, .ref h_c_hours, c_heardBy, c_heardOf, c_heardAt, c_heardGive, .int c_hour, .int c_gives, .int c_peopleMany, .int c_nearMany, .int c_askedMany, .int c_heardMany, .int c_wentMany])), (h_t_hours, .inl (dA 0, 36, .inl (t_hours_))), (h_c_hours, .inl (dA 0, 36, .inl (c_hours_))), (h_c_people, .inl (dA 4, 6, .inr (.inr (.inr (.inr (pref np pa)))))), (h_t_has, .inl (dA 0, 6, .inl (t_has_)))] ++ ppool np pa pk pn pu pw pd pr ps pt) := hD
  refine lv_aload_n hx hb dX4_begin_13 rfl (lv_at hl 0 rfl) ?_
  refine lv_aload_n hx hb dX4_begin_14 rfl (lv_at hl 1 rfl) ?_
  refine va_get (D := D) (ci := 6) (v := .int c_hour) (C := RX8) (T := TX8) (N := 13) hx hb hts in_X8 hown hK.1 hP 1 rfl rfl 6 (by decide) (hts _ q475) (fun _ h9 => h9) rfl dX4_begin_15 ?_
  refine va_put (D := D) (ci := 3) (v := .int c_hour) (ty := .int) (C := RX4) (T := TX4) (N := 8) hx hb hts in_X4 tyX4 tyX4_ok nmX4 hown hK.1 hP hD hS 0 rfl rfl 4 (by decide) (hts _ q278) (fun _ h9 => h9) rfl (by decide +kernel) rfl rfl (Nat.le_of_ble_eq_true rfl) dX4_begin_18 (fun H locs hP hD hS => ?_)
  have hP : va_P D clG ([(h_t, .inr (3, [.ref h_t_has, .ref h_t_hours, .ref h_c, .int r1, .int c_hour, .int t_cat, .int t_nights, .int t_seed])), (h_c, .inr (6, [.ref h_c_people, .ref h_c_hours, c_heardBy, c_heardOf, c_heardAt, c_heardGive, .int c_hour, .int c_gives, .int c_peopleMany, .int c_nearMany, .int c_askedMany, .int c_heardMany, .int c_wentMany])), (h_t_hours, .inl (dA 0, 36, .inl (t_hours_))), (h_c_hours, .inl (dA 0, 36, .inl (c_hours_))), (h_c_people, .inl (dA 4, 6, .inr (.inr (.inr (.inr (pref np pa)))))), (h_t_has, .inl (dA 0, 6, .inl (t_has_)))] ++ ppool np pa pk pn pu pw pd pr ps pt) H := hP
  have hD : va_D A ([(h_t, .inr (3, [.ref h_t_has, .ref h_t_hours, .ref h_c, .int r1, .int c_hour, .int t_cat, .int t_nights, .int t_seed])), (h_c, .inr (6, [.ref h_c_people, .ref h_c_hours, c_heardBy, c_heardOf, c_heardAt, c_heardGive, .int c_hour, .int c_gives, .int c_peopleMany, .int c_nearMany, .int c_askedMany, .int c_heardMany, .int c_wentMany])), (h_t_hours, .inl (dA 0, 36, .inl (t_hours_))), (h_c_hours, .inl (dA 0, 36, .inl (c_hours_))), (h_c_people, .inl (dA 4, 6, .inr (.inr (.inr (.inr (pref np pa)))))), (h_t_has, .inl (dA 0, 6, .inl (t_has_)))] ++ ppool np pa pk pn pu pw pd pr ps pt) := hD
  refine lv_aload_n hx hb dX4_begin_21 rfl (lv_at hl 0 rfl) ?_
  refine lv_iconst (v := (0 : Int32)) hx hb dX4_begin_22 (by decide) ?_
  refine va_put (D := D) (ci := 3) (v := .int (0 : Int32)) (ty := .int) (C := RX4) (T := TX4) (N := 8) hx hb hts in_X4 tyX4 tyX4_ok nmX4 hown hK.1 hP hD hS 0 rfl rfl 5 (by decide) (hts _ q280) (fun _ h9 => h9) rfl (by decide +kernel) rfl rfl (Nat.le_of_ble_eq_true rfl) dX4_begin_23 (fun H locs hP hD hS => ?_)
  have hP : va_P D clG ([(h_t, .inr (3, [.ref h_t_has, .ref h_t_hours, .ref h_c, .int r1, .int c_hour, .int (0 : Int32), .int t_nights, .int t_seed])), (h_c, .inr (6, [.ref h_c_people, .ref h_c_hours, c_heardBy, c_heardOf, c_heardAt, c_heardGive, .int c_hour, .int c_gives, .int c_peopleMany, .int c_nearMany, .int c_askedMany, .int c_heardMany, .int c_wentMany])), (h_t_hours, .inl (dA 0, 36, .inl (t_hours_))), (h_c_hours, .inl (dA 0, 36, .inl (c_hours_))), (h_c_people, .inl (dA 4, 6, .inr (.inr (.inr (.inr (pref np pa)))))), (h_t_has, .inl (dA 0, 6, .inl (t_has_)))] ++ ppool np pa pk pn pu pw pd pr ps pt) H := hP
  have hD : va_D A ([(h_t, .inr (3, [.ref h_t_has, .ref h_t_hours, .ref h_c, .int r1, .int c_hour, .int (0 : Int32), .int t_nights, .int t_seed])), (h_c, .inr (6, [.ref h_c_people, .ref h_c_hours, c_heardBy, c_heardOf, c_heardAt, c_heardGive, .int c_hour, .int c_gives, .int c_peopleMany, .int c_nearMany, .int c_askedMany, .int c_heardMany, .int c_wentMany])), (h_t_hours, .inl (dA 0, 36, .inl (t_hours_))), (h_c_hours, .inl (dA 0, 36, .inl (c_hours_))), (h_c_people, .inl (dA 4, 6, .inr (.inr (.inr (.inr (pref np pa)))))), (h_t_has, .inl (dA 0, 6, .inl (t_has_)))] ++ ppool np pa pk pn pu pw pd pr ps pt) := hD
  refine lv_aload_n hx hb dX4_begin_26 rfl (lv_at hl 0 rfl) ?_
  refine lv_iconst (v := (0 : Int32)) hx hb dX4_begin_27 (by decide) ?_
  refine va_put (D := D) (ci := 3) (v := .int (0 : Int32)) (ty := .int) (C := RX4) (T := TX4) (N := 8) hx hb hts in_X4 tyX4 tyX4_ok nmX4 hown hK.1 hP hD hS 0 rfl rfl 6 (by decide) (hts _ q283) (fun _ h9 => h9) rfl (by decide +kernel) rfl rfl (Nat.le_of_ble_eq_true rfl) dX4_begin_28 (fun H locs hP hD hS => ?_)
  have hP : va_P D clG ([(h_t, .inr (3, [.ref h_t_has, .ref h_t_hours, .ref h_c, .int r1, .int c_hour, .int (0 : Int32), .int (0 : Int32), .int t_seed])), (h_c, .inr (6, [.ref h_c_people, .ref h_c_hours, c_heardBy, c_heardOf, c_heardAt, c_heardGive, .int c_hour, .int c_gives, .int c_peopleMany, .int c_nearMany, .int c_askedMany, .int c_heardMany, .int c_wentMany])), (h_t_hours, .inl (dA 0, 36, .inl (t_hours_))), (h_c_hours, .inl (dA 0, 36, .inl (c_hours_))), (h_c_people, .inl (dA 4, 6, .inr (.inr (.inr (.inr (pref np pa)))))), (h_t_has, .inl (dA 0, 6, .inl (t_has_)))] ++ ppool np pa pk pn pu pw pd pr ps pt) H := hP
  have hD : va_D A ([(h_t, .inr (3, [.ref h_t_has, .ref h_t_hours, .ref h_c, .int r1, .int c_hour, .int (0 : Int32), .int (0 : Int32), .int t_seed])), (h_c, .inr (6, [.ref h_c_people, .ref h_c_hours, c_heardBy, c_heardOf, c_heardAt, c_heardGive, .int c_hour, .int c_gives, .int c_peopleMany, .int c_nearMany, .int c_askedMany, .int c_heardMany, .int c_wentMany])), (h_t_hours, .inl (dA 0, 36, .inl (t_hours_))), (h_c_hours, .inl (dA 0, 36, .inl (c_hours_))), (h_c_people, .inl (dA 4, 6, .inr (.inr (.inr (.inr (pref np pa)))))), (h_t_has, .inl (dA 0, 6, .inl (t_has_)))] ++ ppool np pa pk pn pu pw pd pr ps pt) := hD
  refine lv_aload_n hx hb dX4_begin_31 rfl (lv_at hl 0 rfl) ?_
  refine lv_iconst (v := (0 : Int32)) hx hb dX4_begin_32 (by decide) ?_
  refine va_put (D := D) (ci := 3) (v := .int (0 : Int32)) (ty := .int) (C := RX4) (T := TX4) (N := 8) hx hb hts in_X4 tyX4 tyX4_ok nmX4 hown hK.1 hP hD hS 0 rfl rfl 7 (by decide) (hts _ q285) (fun _ h9 => h9) rfl (by decide +kernel) rfl rfl (Nat.le_of_ble_eq_true rfl) dX4_begin_33 (fun H locs hP hD hS => ?_)
  have hP : va_P D clG ([(h_t, .inr (3, [.ref h_t_has, .ref h_t_hours, .ref h_c, .int r1, .int c_hour, .int (0 : Int32), .int (0 : Int32), .int (0 : Int32)])), (h_c, .inr (6, [.ref h_c_people, .ref h_c_hours, c_heardBy, c_heardOf, c_heardAt, c_heardGive, .int c_hour, .int c_gives, .int c_peopleMany, .int c_nearMany, .int c_askedMany, .int c_heardMany, .int c_wentMany])), (h_t_hours, .inl (dA 0, 36, .inl (t_hours_))), (h_c_hours, .inl (dA 0, 36, .inl (c_hours_))), (h_c_people, .inl (dA 4, 6, .inr (.inr (.inr (.inr (pref np pa)))))), (h_t_has, .inl (dA 0, 6, .inl (t_has_)))] ++ ppool np pa pk pn pu pw pd pr ps pt) H := hP
  have hD : va_D A ([(h_t, .inr (3, [.ref h_t_has, .ref h_t_hours, .ref h_c, .int r1, .int c_hour, .int (0 : Int32), .int (0 : Int32), .int (0 : Int32)])), (h_c, .inr (6, [.ref h_c_people, .ref h_c_hours, c_heardBy, c_heardOf, c_heardAt, c_heardGive, .int c_hour, .int c_gives, .int c_peopleMany, .int c_nearMany, .int c_askedMany, .int c_heardMany, .int c_wentMany])), (h_t_hours, .inl (dA 0, 36, .inl (t_hours_))), (h_c_hours, .inl (dA 0, 36, .inl (c_hours_))), (h_c_people, .inl (dA 4, 6, .inr (.inr (.inr (.inr (pref np pa)))))), (h_t_has, .inl (dA 0, 6, .inl (t_has_)))] ++ ppool np pa pk pn pu pw pd pr ps pt) := hD
  refine lv_aload_n hx hb dX4_begin_36 rfl (lv_at hl 1 rfl) ?_
  refine va_get (D := D) (ci := 6) (v := .ref h_c_hours) (C := RX8) (T := TX8) (N := 13) hx hb hts in_X8 hown hK.1 hP 1 rfl rfl 1 (by decide) (hts _ q462) (fun _ h9 => h9) rfl dX4_begin_37 ?_
  refine lv_iconst (v := (0 : Int32)) hx hb dX4_begin_40 (by decide) ?_
  refine lv_aload_n hx hb dX4_begin_41 rfl (lv_at hl 0 rfl) ?_
  refine va_get (D := D) (ci := 3) (v := .ref h_t_hours) (C := RX4) (T := TX4) (N := 8) hx hb hts in_X4 hown hK.1 hP 0 rfl rfl 1 (by decide) (hts _ q270) (fun _ h9 => h9) rfl dX4_begin_42 ?_
  refine lv_iconst (v := (0 : Int32)) hx hb dX4_begin_45 (by decide) ?_
  refine lv_bipush (v := (36 : Int32)) hx hb dX4_begin_46 (by decide) ?_
  refine va_copyi hx hb (hml.trans hl.1.symm) hown (hts _ q898) (hts _ q900) (hts _ q899) (hts _ q134) hK.1 hP hD hS 3 2 0 0 rfl rfl rfl rfl rfl (by decide) (by decide) (by decide) (by decide) (by decide) (fun _ _ => rfl) (Nat.le_of_ble_eq_true rfl) (by decide) dX4_begin_48 (fun H locs hP hD hS => ?_)
  have hP : va_P D clG ([(h_t, .inr (3, [.ref h_t_has, .ref h_t_hours, .ref h_c, .int r1, .int c_hour, .int (0 : Int32), .int (0 : Int32), .int (0 : Int32)])), (h_c, .inr (6, [.ref h_c_people, .ref h_c_hours, c_heardBy, c_heardOf, c_heardAt, c_heardGive, .int c_hour, .int c_gives, .int c_peopleMany, .int c_nearMany, .int c_askedMany, .int c_heardMany, .int c_wentMany])), (h_t_hours, .inl (dA 0, 36, .inl ((va_cpy c_hours_ t_hours_ 0 0 36)))), (h_c_hours, .inl (dA 0, 36, .inl (c_hours_))), (h_c_people, .inl (dA 4, 6, .inr (.inr (.inr (.inr (pref np pa)))))), (h_t_has, .inl (dA 0, 6, .inl (t_has_)))] ++ ppool np pa pk pn pu pw pd pr ps pt) H := hP
  have hD : va_D A ([(h_t, .inr (3, [.ref h_t_has, .ref h_t_hours, .ref h_c, .int r1, .int c_hour, .int (0 : Int32), .int (0 : Int32), .int (0 : Int32)])), (h_c, .inr (6, [.ref h_c_people, .ref h_c_hours, c_heardBy, c_heardOf, c_heardAt, c_heardGive, .int c_hour, .int c_gives, .int c_peopleMany, .int c_nearMany, .int c_askedMany, .int c_heardMany, .int c_wentMany])), (h_t_hours, .inl (dA 0, 36, .inl ((va_cpy c_hours_ t_hours_ 0 0 36)))), (h_c_hours, .inl (dA 0, 36, .inl (c_hours_))), (h_c_people, .inl (dA 4, 6, .inr (.inr (.inr (.inr (pref np pa)))))), (h_t_has, .inl (dA 0, 6, .inl (t_has_)))] ++ ppool np pa pk pn pu pw pd pr ps pt) := hD
  refine lv_iconst (v := (0 : Int32)) hx hb dX4_begin_51 (by decide) ?_
  refine lv_istore_n (lv' := [(2, .int (0 : Int32)), (0, .ref h_t), (1, .ref h_c)]) hx hb dX4_begin_52 rfl hl (by decide) rfl (fun ls hl => ?_)
  obtain ⟨r7, er7, hM⟩ := b_inv hM
  refine wX4_begin_53 hx hb hml hown hts hK hA h_t h_c h_t_hours h_c_hours h_c_people h_t_has t_living t_hour t_cat t_nights t_seed c_hour c_gives c_peopleMany c_nearMany c_askedMany c_heardMany c_wentMany t_hours_ c_hours_ t_has_ np pk pu pw pd pr ps pt t_city c_heardBy c_heardOf c_heardAt c_heardGive pa pn hpk r1 (va_cpy c_hours_ t_hours_ 0 0 36) _ (0 : Int32) t_has_ _ _ _ _ er7 hP hD hS (lv_sub hl [1, 2, 0] rfl) (fun H locs ls hP hD hS hl => ?_)
  refine lv_aload_n hx hb dX4_begin_82 rfl (lv_at hl 0 rfl) ?_
  have hM := Option.some.inj hM
  subst hM
  exact W.aret (v := .ref h_t) hx hb hr (Or.inl ⟨_, rfl⟩) (Or.inr ⟨_, rfl⟩) (fun t ht hW => ⟨⟨(), h_t, rfl, trivial, rfl, by rw [ht]; exact hP, hD⟩, hS.F ht⟩) hS.2.2 dX4_begin_83

set_option maxHeartbeats 40000000 in
set_option maxRecDepth 100000 in
theorem ctX1_fault (l : Launch) (D : va_G) (dA : Nat → ClassId) (sz : Nat) (h_o : Nat) (o_taped : Int32) (o_trouble : Int32) (o_fault : Int32) (o_where : Int32) (o_imageMany : Int32) (o_undoMany : Int32) (o_firstRest : Int32) (o_catAt : Int32) (o_tape : Value) (o_scanner : Value) (o_city : Value) (o_town : Value) (o_was : Value) (o_trial : Value) (o_night : Value) (o_plans : Value) (o_undone : Value) (o_images : Value) (o_often : Value) (o_next : Value) (res : Int32) (hM : MX1_fault o_fault = some res) : Met l yX1_fault (ws_ yX1_fault cX1_fault 1 (some .int)) ({ frames := 0, cells := 0, slots := 0, locals := 0 }) (pre_ D dA [.ref h_o] [(h_o, .inr (0, [o_tape, .int o_taped, o_scanner, o_city, .int o_trouble, .int o_fault, .int o_where, .int o_imageMany, .int o_undoMany, o_town, o_was, o_trial, o_night, o_plans, o_undone, o_images, o_often, .int o_firstRest, o_next, .int o_catAt]))] sz) (qi_ D res (fun (u : Unit) => [(h_o, .inr (0, [o_tape, .int o_taped, o_scanner, o_city, .int o_trouble, .int o_fault, .int o_where, .int o_imageMany, .int o_undoMany, o_town, o_was, o_trial, o_night, o_plans, o_undone, o_images, o_often, .int o_firstRest, o_next, .int o_catAt]))]) (va_A [(h_o, .inr (0, [o_tape, .int o_taped, o_scanner, o_city, .int o_trouble, .int o_fault, .int o_where, .int o_imageMany, .int o_undoMany, o_town, o_was, o_trial, o_night, o_plans, o_undone, o_images, o_often, .int o_firstRest, o_next, .int o_catAt]))] sz)) 0 0 (va_A [(h_o, .inr (0, [o_tape, .int o_taped, o_scanner, o_city, .int o_trouble, .int o_fault, .int o_where, .int o_imageMany, .int o_undoMany, o_town, o_was, o_trial, o_night, o_plans, o_undone, o_images, o_often, .int o_firstRest, o_next, .int o_catAt]))] sz) := by
  refine Met.ofW (cc := cX1_fault) (maxL := 1) (ret := (some .int)) (by decide) rfl ?_
  intro p e s m args below meth c s₁ B hml hv
  obtain ⟨rfl, hsz, hP, hK, hD0⟩ := hv
  have hx := B.exec
  have hb := B.bytes
  have hr := B.returns
  have hts := atoms_spec (ws := (ws_ yX1_fault cX1_fault 1 (some .int))) B.pre
  have hts : ∀ w ∈ lw_all, w.before _ s = true := fun w h => hts w (List.mem_cons_of_mem _ h)
  have hown : s.vm.findClass RX1 = some m.cls := findClass_of_methodNamed B.named
  have hlocks := B.notSynchronized
  subst hsz
  have hD := hD0.self (sz := s.heap.size)
  generalize hAe : va_A [(h_o, .inr (0, [o_tape, .int o_taped, o_scanner, o_city, .int o_trouble, .int o_fault, .int o_where, .int o_imageMany, .int o_undoMany, o_town, o_was, o_trial, o_night, o_plans, o_undone, o_images, o_often, .int o_firstRest, o_next, .int o_catAt]))] s.heap.size = A at hD ⊢
  have hA : ∀ q : Nat, s.heap.size ≤ q → A q := fun q h => by rw [← hAe]; exact Or.inr h
  have hS : va_S A s.heap s.heap [] := va_S.rf
  have hP : va_P D clG [(h_o, .inr (0, [o_tape, .int o_taped, o_scanner, o_city, .int o_trouble, .int o_fault, .int o_where, .int o_imageMany, .int o_undoMany, o_town, o_was, o_trial, o_night, o_plans, o_undone, o_images, o_often, .int o_firstRest, o_next, .int o_catAt]))] s.heap := hP
  have hl := lv_entry ([.ref h_o]) (n := 1) (Nat.le_of_ble_eq_true rfl)
  rw [lg_entry_eq]
  generalize (lg_sl ([.ref h_o]) ++ List.replicate (1 - (lg_sl ([.ref h_o])).length) Slot.unset).toArray = ls at hl ⊢
  have hl : lv_has ls 1 [(0, .ref h_o)] := hl
  unfold MX1_fault at hM
  refine lv_aload_n hx hb dX1_fault_0 rfl (lv_at hl 0 rfl) ?_
  refine va_get (D := D) (ci := 0) (v := .int o_fault) (C := RX1) (T := TX1) (N := 20) hx hb hts in_X1 hown hK.1 hP 0 rfl rfl 5 (by decide) (hts _ q363) (fun _ h9 => h9) rfl dX1_fault_1 ?_
  have hM := Option.some.inj hM
  subst hM
  exact W.iret (v := o_fault) hx hb hr (fun t ht hW => ⟨⟨o_fault, (), rfl, rfl, by rw [ht]; exact hP, hD⟩, hS.F ht⟩) hS.2.2 dX1_fault_4

set_option maxHeartbeats 40000000 in
set_option maxRecDepth 100000 in
theorem ctX1_where (l : Launch) (D : va_G) (dA : Nat → ClassId) (sz : Nat) (h_o : Nat) (o_taped : Int32) (o_trouble : Int32) (o_fault : Int32) (o_where : Int32) (o_imageMany : Int32) (o_undoMany : Int32) (o_firstRest : Int32) (o_catAt : Int32) (o_tape : Value) (o_scanner : Value) (o_city : Value) (o_town : Value) (o_was : Value) (o_trial : Value) (o_night : Value) (o_plans : Value) (o_undone : Value) (o_images : Value) (o_often : Value) (o_next : Value) (res : Int32) (hM : MX1_where o_trouble o_where = some res) : Met l yX1_where (ws_ yX1_where cX1_where 1 (some .int)) ({ frames := 0, cells := 0, slots := 0, locals := 0 }) (pre_ D dA [.ref h_o] [(h_o, .inr (0, [o_tape, .int o_taped, o_scanner, o_city, .int o_trouble, .int o_fault, .int o_where, .int o_imageMany, .int o_undoMany, o_town, o_was, o_trial, o_night, o_plans, o_undone, o_images, o_often, .int o_firstRest, o_next, .int o_catAt]))] sz) (qi_ D res (fun (u : Unit) => [(h_o, .inr (0, [o_tape, .int o_taped, o_scanner, o_city, .int o_trouble, .int o_fault, .int o_where, .int o_imageMany, .int o_undoMany, o_town, o_was, o_trial, o_night, o_plans, o_undone, o_images, o_often, .int o_firstRest, o_next, .int o_catAt]))]) (va_A [(h_o, .inr (0, [o_tape, .int o_taped, o_scanner, o_city, .int o_trouble, .int o_fault, .int o_where, .int o_imageMany, .int o_undoMany, o_town, o_was, o_trial, o_night, o_plans, o_undone, o_images, o_often, .int o_firstRest, o_next, .int o_catAt]))] sz)) 0 0 (va_A [(h_o, .inr (0, [o_tape, .int o_taped, o_scanner, o_city, .int o_trouble, .int o_fault, .int o_where, .int o_imageMany, .int o_undoMany, o_town, o_was, o_trial, o_night, o_plans, o_undone, o_images, o_often, .int o_firstRest, o_next, .int o_catAt]))] sz) := by
  refine Met.ofW (cc := cX1_where) (maxL := 1) (ret := (some .int)) (by decide) rfl ?_
  intro p e s m args below meth c s₁ B hml hv
  obtain ⟨rfl, hsz, hP, hK, hD0⟩ := hv
  have hx := B.exec
  have hb := B.bytes
  have hr := B.returns
  have hts := atoms_spec (ws := (ws_ yX1_where cX1_where 1 (some .int))) B.pre
  have hts : ∀ w ∈ lw_all, w.before _ s = true := fun w h => hts w (List.mem_cons_of_mem _ h)
  have hown : s.vm.findClass RX1 = some m.cls := findClass_of_methodNamed B.named
  have hlocks := B.notSynchronized
  subst hsz
  have hD := hD0.self (sz := s.heap.size)
  generalize hAe : va_A [(h_o, .inr (0, [o_tape, .int o_taped, o_scanner, o_city, .int o_trouble, .int o_fault, .int o_where, .int o_imageMany, .int o_undoMany, o_town, o_was, o_trial, o_night, o_plans, o_undone, o_images, o_often, .int o_firstRest, o_next, .int o_catAt]))] s.heap.size = A at hD ⊢
  have hA : ∀ q : Nat, s.heap.size ≤ q → A q := fun q h => by rw [← hAe]; exact Or.inr h
  have hS : va_S A s.heap s.heap [] := va_S.rf
  have hP : va_P D clG [(h_o, .inr (0, [o_tape, .int o_taped, o_scanner, o_city, .int o_trouble, .int o_fault, .int o_where, .int o_imageMany, .int o_undoMany, o_town, o_was, o_trial, o_night, o_plans, o_undone, o_images, o_often, .int o_firstRest, o_next, .int o_catAt]))] s.heap := hP
  have hl := lv_entry ([.ref h_o]) (n := 1) (Nat.le_of_ble_eq_true rfl)
  rw [lg_entry_eq]
  generalize (lg_sl ([.ref h_o]) ++ List.replicate (1 - (lg_sl ([.ref h_o])).length) Slot.unset).toArray = ls at hl ⊢
  have hl : lv_has ls 1 [(0, .ref h_o)] := hl
  unfold MX1_where at hM
  refine lv_aload_n hx hb dX1_where_0 rfl (lv_at hl 0 rfl) ?_
  refine va_get (D := D) (ci := 0) (v := .int o_trouble) (C := RX1) (T := TX1) (N := 20) hx hb hts in_X1 hown hK.1 hP 0 rfl rfl 4 (by decide) (hts _ q362) (fun _ h9 => h9) rfl dX1_where_1 ?_
  refine lv_iconst (v := (4 : Int32)) hx hb dX1_where_4 (by decide) ?_
  refine lv_icmp_ne (tgt := 15) hx hb dX1_where_5 (by decide) (fun c1 => ?_) (fun c1 => ?_)
  · rw [if_neg c1] at hM
    refine lv_iconst (v := (-1 : Int32)) hx hb dX1_where_15 (by decide) ?_
    have hM := Option.some.inj hM
    subst hM
    exact W.iret (v := (-1 : Int32)) hx hb hr (fun t ht hW => ⟨⟨(-1 : Int32), (), rfl, rfl, by rw [ht]; exact hP, hD⟩, hS.F ht⟩) hS.2.2 dX1_where_16
  · rw [if_pos c1] at hM
    refine lv_aload_n hx hb dX1_where_8 rfl (lv_at hl 0 rfl) ?_
    refine va_get (D := D) (ci := 0) (v := .int o_where) (C := RX1) (T := TX1) (N := 20) hx hb hts in_X1 hown hK.1 hP 0 rfl rfl 6 (by decide) (hts _ q364) (fun _ h9 => h9) rfl dX1_where_9 ?_
    refine lv_goto (tgt := 16) hx hb dX1_where_12 (by decide) ?_
    have hM := Option.some.inj hM
    subst hM
    exact W.iret (v := o_where) hx hb hr (fun t ht hW => ⟨⟨o_where, (), rfl, rfl, by rw [ht]; exact hP, hD⟩, hS.F ht⟩) hS.2.2 dX1_where_16

set_option maxHeartbeats 40000000 in
set_option maxRecDepth 100000 in
theorem ctX1_isPerson (l : Launch) (D : va_G) (dA : Nat → ClassId) (sz : Nat) (h_o : Nat) (h_c : Nat) (p0 : Int32) (o_taped : Int32) (o_trouble : Int32) (o_fault : Int32) (o_where : Int32) (o_imageMany : Int32) (o_undoMany : Int32) (o_firstRest : Int32) (o_catAt : Int32) (c_hour : Int32) (c_gives : Int32) (c_peopleMany : Int32) (c_nearMany : Int32) (c_askedMany : Int32) (c_heardMany : Int32) (c_wentMany : Int32) (o_tape : Value) (o_scanner : Value) (o_town : Value) (o_was : Value) (o_trial : Value) (o_night : Value) (o_plans : Value) (o_undone : Value) (o_images : Value) (o_often : Value) (o_next : Value) (c_people : Value) (c_hours : Value) (c_heardBy : Value) (c_heardOf : Value) (c_heardAt : Value) (c_heardGive : Value) (res : Bool) (hM : MX1_isPerson p0 c_peopleMany = some res) : Met l yX1_isPerson (ws_ yX1_isPerson cX1_isPerson 2 (some .boolean)) ({ frames := 1, cells := 0, slots := 0, locals := 22 }) (pre_ D dA [.ref h_o, .int p0] [(h_o, .inr (0, [o_tape, .int o_taped, o_scanner, .ref h_c, .int o_trouble, .int o_fault, .int o_where, .int o_imageMany, .int o_undoMany, o_town, o_was, o_trial, o_night, o_plans, o_undone, o_images, o_often, .int o_firstRest, o_next, .int o_catAt])), (h_c, .inr (6, [c_people, c_hours, c_heardBy, c_heardOf, c_heardAt, c_heardGive, .int c_hour, .int c_gives, .int c_peopleMany, .int c_nearMany, .int c_askedMany, .int c_heardMany, .int c_wentMany]))] sz) (qi_ D (b2i res) (fun (u : Unit) => [(h_o, .inr (0, [o_tape, .int o_taped, o_scanner, .ref h_c, .int o_trouble, .int o_fault, .int o_where, .int o_imageMany, .int o_undoMany, o_town, o_was, o_trial, o_night, o_plans, o_undone, o_images, o_often, .int o_firstRest, o_next, .int o_catAt])), (h_c, .inr (6, [c_people, c_hours, c_heardBy, c_heardOf, c_heardAt, c_heardGive, .int c_hour, .int c_gives, .int c_peopleMany, .int c_nearMany, .int c_askedMany, .int c_heardMany, .int c_wentMany]))]) (va_A [(h_o, .inr (0, [o_tape, .int o_taped, o_scanner, .ref h_c, .int o_trouble, .int o_fault, .int o_where, .int o_imageMany, .int o_undoMany, o_town, o_was, o_trial, o_night, o_plans, o_undone, o_images, o_often, .int o_firstRest, o_next, .int o_catAt])), (h_c, .inr (6, [c_people, c_hours, c_heardBy, c_heardOf, c_heardAt, c_heardGive, .int c_hour, .int c_gives, .int c_peopleMany, .int c_nearMany, .int c_askedMany, .int c_heardMany, .int c_wentMany]))] sz)) 0 0 (va_A [(h_o, .inr (0, [o_tape, .int o_taped, o_scanner, .ref h_c, .int o_trouble, .int o_fault, .int o_where, .int o_imageMany, .int o_undoMany, o_town, o_was, o_trial, o_night, o_plans, o_undone, o_images, o_often, .int o_firstRest, o_next, .int o_catAt])), (h_c, .inr (6, [c_people, c_hours, c_heardBy, c_heardOf, c_heardAt, c_heardGive, .int c_hour, .int c_gives, .int c_peopleMany, .int c_nearMany, .int c_askedMany, .int c_heardMany, .int c_wentMany]))] sz) := by
  refine Met.ofW (cc := cX1_isPerson) (maxL := 2) (ret := (some .boolean)) (by decide) rfl ?_
  intro p e s m args below meth c s₁ B hml hv
  obtain ⟨rfl, hsz, hP, hK, hD0⟩ := hv
  have hx := B.exec
  have hb := B.bytes
  have hr := B.returns
  have hts := atoms_spec (ws := (ws_ yX1_isPerson cX1_isPerson 2 (some .boolean))) B.pre
  have hts : ∀ w ∈ lw_all, w.before _ s = true := fun w h => hts w (List.mem_cons_of_mem _ h)
  have hown : s.vm.findClass RX1 = some m.cls := findClass_of_methodNamed B.named
  have hlocks := B.notSynchronized
  subst hsz
  have hD := hD0.self (sz := s.heap.size)
  generalize hAe : va_A [(h_o, .inr (0, [o_tape, .int o_taped, o_scanner, .ref h_c, .int o_trouble, .int o_fault, .int o_where, .int o_imageMany, .int o_undoMany, o_town, o_was, o_trial, o_night, o_plans, o_undone, o_images, o_often, .int o_firstRest, o_next, .int o_catAt])), (h_c, .inr (6, [c_people, c_hours, c_heardBy, c_heardOf, c_heardAt, c_heardGive, .int c_hour, .int c_gives, .int c_peopleMany, .int c_nearMany, .int c_askedMany, .int c_heardMany, .int c_wentMany]))] s.heap.size = A at hD ⊢
  have hA : ∀ q : Nat, s.heap.size ≤ q → A q := fun q h => by rw [← hAe]; exact Or.inr h
  have hS : va_S A s.heap s.heap [] := va_S.rf
  have hP : va_P D clG [(h_o, .inr (0, [o_tape, .int o_taped, o_scanner, .ref h_c, .int o_trouble, .int o_fault, .int o_where, .int o_imageMany, .int o_undoMany, o_town, o_was, o_trial, o_night, o_plans, o_undone, o_images, o_often, .int o_firstRest, o_next, .int o_catAt])), (h_c, .inr (6, [c_people, c_hours, c_heardBy, c_heardOf, c_heardAt, c_heardGive, .int c_hour, .int c_gives, .int c_peopleMany, .int c_nearMany, .int c_askedMany, .int c_heardMany, .int c_wentMany]))] s.heap := hP
  have hl := lv_entry ([.ref h_o, .int p0]) (n := 2) (Nat.le_of_ble_eq_true rfl)
  rw [lg_entry_eq]
  generalize (lg_sl ([.ref h_o, .int p0]) ++ List.replicate (2 - (lg_sl ([.ref h_o, .int p0])).length) Slot.unset).toArray = ls at hl ⊢
  have hl : lv_has ls 2 [(0, .ref h_o), (1, .int p0)] := hl
  unfold MX1_isPerson at hM
  refine lv_aload_n hx hb dX1_isPerson_0 rfl (lv_at hl 0 rfl) ?_
  refine va_get (D := D) (ci := 0) (v := .ref h_c) (C := RX1) (T := TX1) (N := 20) hx hb hts in_X1 hown hK.1 hP 0 rfl rfl 3 (by decide) (hts _ q361) (fun _ h9 => h9) rfl dX1_isPerson_1 ?_
  refine lv_ifnull hx hb dX1_isPerson_4 ?_
  refine lv_iload_n hx hb dX1_isPerson_7 rfl (lv_at hl 1 rfl) ?_
  refine lv_iconst (v := (0 : Int32)) hx hb dX1_isPerson_8 (by decide) ?_
  refine lv_aload_n hx hb dX1_isPerson_9 rfl (lv_at hl 0 rfl) ?_
  refine va_get (D := D) (ci := 0) (v := .ref h_c) (C := RX1) (T := TX1) (N := 20) hx hb hts in_X1 hown hK.1 hP 0 rfl rfl 3 (by decide) (hts _ q361) (fun _ h9 => h9) rfl dX1_isPerson_10 ?_
  refine va_get (D := D) (ci := 6) (v := .int c_peopleMany) (C := RX8) (T := TX8) (N := 13) hx hb hts in_X8 hown hK.1 hP 1 rfl rfl 8 (by decide) (hts _ q484) (fun _ h9 => h9) rfl dX1_isPerson_13 ?_
  refine lv_iconst (v := (1 : Int32)) hx hb dX1_isPerson_16 (by decide) ?_
  refine lv_isub hx hb dX1_isPerson_17 ?_
  obtain ⟨r1, er1, hM⟩ := b_inv hM
  refine k_i0 [] (va_runS (As := [.int p0, .int (0 : Int32), .int (c_peopleMany - (1 : Int32))]) (rest := []) ⟨hx, hb, hml, hown, hts⟩ (ctX1_in l D dA _ p0 (0 : Int32) (c_peopleMany - (1 : Int32)) r1 er1) (va_cwS 3 hts (lw_S q436 q437 q113 q438) rfl rfl rfl (by decide +kernel) ⟨Nat.le_of_ble_eq_true rfl, Nat.le_of_ble_eq_true rfl⟩) (pre_S (hP.sub [] rfl) hK (hD.sub [] (by decide) rfl)) rfl rfl hl.1 rfl (lv_room (Nat.le_of_ble_eq_true rfl)) dX1_isPerson_18 ⟨Nat.le_of_ble_eq_true rfl, Nat.le_of_ble_eq_true rfl⟩) hP hD hS hA rfl (fun _ => rfl) (fun u2 H locs hP hD hS => ?_)
  have hP : va_P D clG [(h_o, .inr (0, [o_tape, .int o_taped, o_scanner, .ref h_c, .int o_trouble, .int o_fault, .int o_where, .int o_imageMany, .int o_undoMany, o_town, o_was, o_trial, o_night, o_plans, o_undone, o_images, o_often, .int o_firstRest, o_next, .int o_catAt])), (h_c, .inr (6, [c_people, c_hours, c_heardBy, c_heardOf, c_heardAt, c_heardGive, .int c_hour, .int c_gives, .int c_peopleMany, .int c_nearMany, .int c_askedMany, .int c_heardMany, .int c_wentMany]))] H := hP
  have hD : va_D A [(h_o, .inr (0, [o_tape, .int o_taped, o_scanner, .ref h_c, .int o_trouble, .int o_fault, .int o_where, .int o_imageMany, .int o_undoMany, o_town, o_was, o_trial, o_night, o_plans, o_undone, o_images, o_often, .int o_firstRest, o_next, .int o_catAt])), (h_c, .inr (6, [c_people, c_hours, c_heardBy, c_heardOf, c_heardAt, c_heardGive, .int c_hour, .int c_gives, .int c_peopleMany, .int c_nearMany, .int c_askedMany, .int c_heardMany, .int c_wentMany]))] := hD
  refine lv_if_eq (tgt := 28) hx hb dX1_isPerson_21 (by decide) (fun c3 => ?_) (fun c3 => ?_)
  · rw [if_pos c3] at hM
    refine lv_iconst (v := (0 : Int32)) hx hb dX1_isPerson_28 (by decide) ?_
    have hM := Option.some.inj hM
    subst hM
    exact W.zret (v := b2i false) hx hb hr (nar_b _) (fun t ht hW => ⟨⟨b2i false, (), rfl, rfl, by rw [ht]; exact hP, hD⟩, hS.F ht⟩) hS.2.2 dX1_isPerson_29
  · rw [if_neg c3] at hM
    refine lv_iconst (v := (1 : Int32)) hx hb dX1_isPerson_24 (by decide) ?_
    refine lv_goto (tgt := 29) hx hb dX1_isPerson_25 (by decide) ?_
    have hM := Option.some.inj hM
    subst hM
    exact W.zret (v := b2i true) hx hb hr (nar_b _) (fun t ht hW => ⟨⟨b2i true, (), rfl, rfl, by rw [ht]; exact hP, hD⟩, hS.F ht⟩) hS.2.2 dX1_isPerson_29

set_option maxHeartbeats 40000000 in
set_option maxRecDepth 100000 in
theorem ctX4_isLiving (l : Launch) (D : va_G) (dA : Nat → ClassId) (sz : Nat) (h_t : Nat) (p0 : Int32) (t_living : Int32) (t_hour : Int32) (t_cat : Int32) (t_nights : Int32) (t_seed : Int32) (t_has : Value) (t_hours : Value) (t_city : Value) (res : Bool) (hM : MX4_isLiving p0 t_living = some res) : Met l yX4_isLiving (ws_ yX4_isLiving cX4_isLiving 2 (some .boolean)) ({ frames := 1, cells := 0, slots := 0, locals := 21 }) (pre_ D dA [.ref h_t, .int p0] [(h_t, .inr (3, [t_has, t_hours, t_city, .int t_living, .int t_hour, .int t_cat, .int t_nights, .int t_seed]))] sz) (qi_ D (b2i res) (fun (u : Unit) => [(h_t, .inr (3, [t_has, t_hours, t_city, .int t_living, .int t_hour, .int t_cat, .int t_nights, .int t_seed]))]) (va_A [(h_t, .inr (3, [t_has, t_hours, t_city, .int t_living, .int t_hour, .int t_cat, .int t_nights, .int t_seed]))] sz)) 0 0 (va_A [(h_t, .inr (3, [t_has, t_hours, t_city, .int t_living, .int t_hour, .int t_cat, .int t_nights, .int t_seed]))] sz) := by
  refine Met.ofW (cc := cX4_isLiving) (maxL := 2) (ret := (some .boolean)) (by decide) rfl ?_
  intro p e s m args below meth c s₁ B hml hv
  obtain ⟨rfl, hsz, hP, hK, hD0⟩ := hv
  have hx := B.exec
  have hb := B.bytes
  have hr := B.returns
  have hts := atoms_spec (ws := (ws_ yX4_isLiving cX4_isLiving 2 (some .boolean))) B.pre
  have hts : ∀ w ∈ lw_all, w.before _ s = true := fun w h => hts w (List.mem_cons_of_mem _ h)
  have hown : s.vm.findClass RX4 = some m.cls := findClass_of_methodNamed B.named
  have hlocks := B.notSynchronized
  subst hsz
  have hD := hD0.self (sz := s.heap.size)
  generalize hAe : va_A [(h_t, .inr (3, [t_has, t_hours, t_city, .int t_living, .int t_hour, .int t_cat, .int t_nights, .int t_seed]))] s.heap.size = A at hD ⊢
  have hA : ∀ q : Nat, s.heap.size ≤ q → A q := fun q h => by rw [← hAe]; exact Or.inr h
  have hS : va_S A s.heap s.heap [] := va_S.rf
  have hP : va_P D clG [(h_t, .inr (3, [t_has, t_hours, t_city, .int t_living, .int t_hour, .int t_cat, .int t_nights, .int t_seed]))] s.heap := hP
  have hl := lv_entry ([.ref h_t, .int p0]) (n := 2) (Nat.le_of_ble_eq_true rfl)
  rw [lg_entry_eq]
  generalize (lg_sl ([.ref h_t, .int p0]) ++ List.replicate (2 - (lg_sl ([.ref h_t, .int p0])).length) Slot.unset).toArray = ls at hl ⊢
  have hl : lv_has ls 2 [(0, .ref h_t), (1, .int p0)] := hl
  unfold MX4_isLiving at hM
  refine lv_aload_n hx hb dX4_isLiving_0 rfl (lv_at hl 0 rfl) ?_
  refine va_get (D := D) (ci := 3) (v := .int t_living) (C := RX4) (T := TX4) (N := 8) hx hb hts in_X4 hown hK.1 hP 0 rfl rfl 3 (by decide) (hts _ q275) (fun _ h9 => h9) rfl dX4_isLiving_1 ?_
  refine lv_iload_n hx hb dX4_isLiving_4 rfl (lv_at hl 1 rfl) ?_
  obtain ⟨r1, er1, hM⟩ := b_inv hM
  refine k_i0 [] (va_runSN (As := [.int t_living, .int p0]) (rest := []) ⟨hx, hb, hml, hown, hts⟩ (ctX1_has l D dA _ t_living p0 r1 er1) ⟨va_cnB 2 hts (lw_meth q839) rfl rfl rfl (hK.nw 19 rfl) (hts _ q113) (by decide +kernel) ⟨Nat.le_of_ble_eq_true rfl, Nat.le_of_ble_eq_true rfl⟩, hts _ q838, trivial⟩ (pre_S (hP.sub [] rfl) hK (hD.sub [] (by decide) rfl)) rfl rfl hl.1 rfl (lv_room (Nat.le_of_ble_eq_true rfl)) dX4_isLiving_5 ⟨Nat.le_of_ble_eq_true rfl, Nat.le_of_ble_eq_true rfl⟩) hP hD hS hA rfl (fun _ => rfl) (fun u2 H locs hP hD hS => ?_)
  have hP : va_P D clG [(h_t, .inr (3, [t_has, t_hours, t_city, .int t_living, .int t_hour, .int t_cat, .int t_nights, .int t_seed]))] H := hP
  have hD : va_D A [(h_t, .inr (3, [t_has, t_hours, t_city, .int t_living, .int t_hour, .int t_cat, .int t_nights, .int t_seed]))] := hD
  have hM := Option.some.inj hM
  subst hM
  exact W.zret (v := b2i r1) hx hb hr (nar_b _) (fun t ht hW => ⟨⟨b2i r1, (), rfl, rfl, by rw [ht]; exact hP, hD⟩, hS.F ht⟩) hS.2.2 dX4_isLiving_8

set_option maxHeartbeats 40000000 in
set_option maxRecDepth 100000 in
theorem ctX4_canAsk (l : Launch) (D : va_G) (dA : Nat → ClassId) (sz : Nat) (h_t : Nat) (h_c : Nat) (h_c_people : Nat) (p0 : Int32) (p1 : Int32) (t_living : Int32) (t_hour : Int32) (t_cat : Int32) (t_nights : Int32) (t_seed : Int32) (c_hour : Int32) (c_gives : Int32) (c_peopleMany : Int32) (c_nearMany : Int32) (c_askedMany : Int32) (c_heardMany : Int32) (c_wentMany : Int32) (np : Nat) (pk : Nat → Nat) (pu : AI) (pw : AI) (pd : AI) (pr : AI) (ps : AI) (pt : AI) (t_has : Value) (t_hours : Value) (c_hours : Value) (c_heardBy : Value) (c_heardOf : Value) (c_heardAt : Value) (c_heardGive : Value) (pa : Nat → Nat) (pn : Nat → Value) (hpk : ∀ k, k < np → pk k < 4) (res : Bool) (hM : MX4_canAsk p0 p1 t_living np pk pr = some res) : Met l yX4_canAsk (ws_ yX4_canAsk cX4_canAsk 3 (some .boolean)) ({ frames := 4, cells := 0, slots := 0, locals := 200 }) (pre_ D dA [.ref h_t, .int p0, .int p1] ([(h_t, .inr (3, [t_has, t_hours, .ref h_c, .int t_living, .int t_hour, .int t_cat, .int t_nights, .int t_seed])), (h_c, .inr (6, [.ref h_c_people, c_hours, c_heardBy, c_heardOf, c_heardAt, c_heardGive, .int c_hour, .int c_gives, .int c_peopleMany, .int c_nearMany, .int c_askedMany, .int c_heardMany, .int c_wentMany])), (h_c_people, .inl (dA 4, 6, .inr (.inr (.inr (.inr (pref np pa))))))] ++ ppool np pa pk pn pu pw pd pr ps pt) sz) (qi_ D (b2i res) (fun (u : Unit) => [(h_t, .inr (3, [t_has, t_hours, .ref h_c, .int t_living, .int t_hour, .int t_cat, .int t_nights, .int t_seed])), (h_c, .inr (6, [.ref h_c_people, c_hours, c_heardBy, c_heardOf, c_heardAt, c_heardGive, .int c_hour, .int c_gives, .int c_peopleMany, .int c_nearMany, .int c_askedMany, .int c_heardMany, .int c_wentMany])), (h_c_people, .inl (dA 4, 6, .inr (.inr (.inr (.inr (pref np pa))))))] ++ ppool np pa pk pn pu pw pd pr ps pt) (va_A ([(h_t, .inr (3, [t_has, t_hours, .ref h_c, .int t_living, .int t_hour, .int t_cat, .int t_nights, .int t_seed])), (h_c, .inr (6, [.ref h_c_people, c_hours, c_heardBy, c_heardOf, c_heardAt, c_heardGive, .int c_hour, .int c_gives, .int c_peopleMany, .int c_nearMany, .int c_askedMany, .int c_heardMany, .int c_wentMany])), (h_c_people, .inl (dA 4, 6, .inr (.inr (.inr (.inr (pref np pa))))))] ++ ppool np pa pk pn pu pw pd pr ps pt) sz)) 0 0 (va_A ([(h_t, .inr (3, [t_has, t_hours, .ref h_c, .int t_living, .int t_hour, .int t_cat, .int t_nights, .int t_seed])), (h_c, .inr (6, [.ref h_c_people, c_hours, c_heardBy, c_heardOf, c_heardAt, c_heardGive, .int c_hour, .int c_gives, .int c_peopleMany, .int c_nearMany, .int c_askedMany, .int c_heardMany, .int c_wentMany])), (h_c_people, .inl (dA 4, 6, .inr (.inr (.inr (.inr (pref np pa))))))] ++ ppool np pa pk pn pu pw pd pr ps pt) sz) := by
  refine Met.ofW (cc := cX4_canAsk) (maxL := 3) (ret := (some .boolean)) (by decide) rfl ?_
  intro p e s m args below meth c s₁ B hml hv
  obtain ⟨rfl, hsz, hP, hK, hD0⟩ := hv
  have hx := B.exec
  have hb := B.bytes
  have hr := B.returns
  have hts := atoms_spec (ws := (ws_ yX4_canAsk cX4_canAsk 3 (some .boolean))) B.pre
  have hts : ∀ w ∈ lw_all, w.before _ s = true := fun w h => hts w (List.mem_cons_of_mem _ h)
  have hown : s.vm.findClass RX4 = some m.cls := findClass_of_methodNamed B.named
  have hlocks := B.notSynchronized
  subst hsz
  have hD := hD0.self (sz := s.heap.size)
  generalize hAe : va_A ([(h_t, .inr (3, [t_has, t_hours, .ref h_c, .int t_living, .int t_hour, .int t_cat, .int t_nights, .int t_seed])), (h_c, .inr (6, [.ref h_c_people, c_hours, c_heardBy, c_heardOf, c_heardAt, c_heardGive, .int c_hour, .int c_gives, .int c_peopleMany, .int c_nearMany, .int c_askedMany, .int c_heardMany, .int c_wentMany])), (h_c_people, .inl (dA 4, 6, .inr (.inr (.inr (.inr (pref np pa))))))] ++ ppool np pa pk pn pu pw pd pr ps pt) s.heap.size = A at hD ⊢
  have hA : ∀ q : Nat, s.heap.size ≤ q → A q := fun q h => by rw [← hAe]; exact Or.inr h
  have hS : va_S A s.heap s.heap [] := va_S.rf
  have hP : va_P D clG ([(h_t, .inr (3, [t_has, t_hours, .ref h_c, .int t_living, .int t_hour, .int t_cat, .int t_nights, .int t_seed])), (h_c, .inr (6, [.ref h_c_people, c_hours, c_heardBy, c_heardOf, c_heardAt, c_heardGive, .int c_hour, .int c_gives, .int c_peopleMany, .int c_nearMany, .int c_askedMany, .int c_heardMany, .int c_wentMany])), (h_c_people, .inl (dA 4, 6, .inr (.inr (.inr (.inr (pref np pa))))))] ++ ppool np pa pk pn pu pw pd pr ps pt) s.heap := hP
  have hl := lv_entry ([.ref h_t, .int p0, .int p1]) (n := 3) (Nat.le_of_ble_eq_true rfl)
  rw [lg_entry_eq]
  generalize (lg_sl ([.ref h_t, .int p0, .int p1]) ++ List.replicate (3 - (lg_sl ([.ref h_t, .int p0, .int p1])).length) Slot.unset).toArray = ls at hl ⊢
  have hl : lv_has ls 3 [(0, .ref h_t), (1, .int p0), (2, .int p1)] := hl
  unfold MX4_canAsk at hM
  refine lv_iload_n hx hb dX4_canAsk_0 rfl (lv_at hl 1 rfl) ?_
  refine lv_iload_n hx hb dX4_canAsk_1 rfl (lv_at hl 2 rfl) ?_
  refine lv_icmp_eq (tgt := 56) hx hb dX4_canAsk_2 (by decide) (fun c1 => ?_) (fun c1 => ?_)
  · rw [if_pos c1] at hM
    refine lv_iconst (v := (0 : Int32)) hx hb dX4_canAsk_56 (by decide) ?_
    have hM := Option.some.inj hM
    subst hM
    exact W.zret (v := b2i false) hx hb hr (nar_b _) (fun t ht hW => ⟨⟨b2i false, (), rfl, rfl, by rw [ht]; exact hP, hD⟩, hS.F ht⟩) hS.2.2 dX4_canAsk_57
  · rw [if_neg c1] at hM
    refine lv_aload_n hx hb dX4_canAsk_5 rfl (lv_at hl 0 rfl) ?_
    refine lv_iload_n hx hb dX4_canAsk_6 rfl (lv_at hl 1 rfl) ?_
    obtain ⟨r2, er2, hM⟩ := b_inv hM
    refine k_i0 [0] (va_runV (As := [.int p0]) (rest := []) ⟨hx, hb, hml, hown, hts⟩ (ctX4_isLiving l D dA _ h_t p0 t_living t_hour t_cat t_nights t_seed (t_has) (t_hours) (.ref h_c) r2 er2) (cwV 1 hts (lw_V q947 q935 q936 q119 q937) rfl rfl rfl (by decide +kernel) ⟨Nat.le_of_ble_eq_true rfl, Nat.le_of_ble_eq_true rfl⟩) (pre_V (hP.sub [0] rfl) hK (hD.sub [0] (by decide) rfl) (ci := 3) (q0 := 0) rfl rfl) rfl rfl hl.1 rfl (lv_room (Nat.le_of_ble_eq_true rfl)) dX4_canAsk_7 ⟨Nat.le_of_ble_eq_true rfl, Nat.le_of_ble_eq_true rfl⟩) hP hD hS hA rfl (fun _ => rfl) (fun u3 H locs hP hD hS => ?_)
    have hP : va_P D clG ([(h_t, .inr (3, [t_has, t_hours, .ref h_c, .int t_living, .int t_hour, .int t_cat, .int t_nights, .int t_seed])), (h_c, .inr (6, [.ref h_c_people, c_hours, c_heardBy, c_heardOf, c_heardAt, c_heardGive, .int c_hour, .int c_gives, .int c_peopleMany, .int c_nearMany, .int c_askedMany, .int c_heardMany, .int c_wentMany])), (h_c_people, .inl (dA 4, 6, .inr (.inr (.inr (.inr (pref np pa))))))] ++ ppool np pa pk pn pu pw pd pr ps pt) H := hP
    have hD : va_D A ([(h_t, .inr (3, [t_has, t_hours, .ref h_c, .int t_living, .int t_hour, .int t_cat, .int t_nights, .int t_seed])), (h_c, .inr (6, [.ref h_c_people, c_hours, c_heardBy, c_heardOf, c_heardAt, c_heardGive, .int c_hour, .int c_gives, .int c_peopleMany, .int c_nearMany, .int c_askedMany, .int c_heardMany, .int c_wentMany])), (h_c_people, .inl (dA 4, 6, .inr (.inr (.inr (.inr (pref np pa))))))] ++ ppool np pa pk pn pu pw pd pr ps pt) := hD
    refine lv_if_eq (tgt := 56) hx hb dX4_canAsk_10 (by decide) (fun c4 => ?_) (fun c4 => ?_)
    · rw [if_pos c4] at hM
      refine lv_iconst (v := (0 : Int32)) hx hb dX4_canAsk_56 (by decide) ?_
      have hM := Option.some.inj hM
      subst hM
      exact W.zret (v := b2i false) hx hb hr (nar_b _) (fun t ht hW => ⟨⟨b2i false, (), rfl, rfl, by rw [ht]; exact hP, hD⟩, hS.F ht⟩) hS.2.2 dX4_canAsk_57
    · rw [if_neg c4] at hM
      refine lv_aload_n hx hb dX4_canAsk_13 rfl (lv_at hl 0 rfl) ?_
      refine lv_iload_n hx hb dX4_canAsk_14 rfl (lv_at hl 2 rfl) ?_
      obtain ⟨r5, er5, hM⟩ := b_inv hM
      refine k_i0 [0] (va_runV (As := [.int p1]) (rest := []) ⟨hx, hb, hml, hown, hts⟩ (ctX4_isLiving l D dA _ h_t p1 t_living t_hour t_cat t_nights t_seed (t_has) (t_hours) (.ref h_c) r5 er5) (cwV 1 hts (lw_V q947 q935 q936 q119 q937) rfl rfl rfl (by decide +kernel) ⟨Nat.le_of_ble_eq_true rfl, Nat.le_of_ble_eq_true rfl⟩) (pre_V (hP.sub [0] rfl) hK (hD.sub [0] (by decide) rfl) (ci := 3) (q0 := 0) rfl rfl) rfl rfl hl.1 rfl (lv_room (Nat.le_of_ble_eq_true rfl)) dX4_canAsk_15 ⟨Nat.le_of_ble_eq_true rfl, Nat.le_of_ble_eq_true rfl⟩) hP hD hS hA rfl (fun _ => rfl) (fun u6 H locs hP hD hS => ?_)
      have hP : va_P D clG ([(h_t, .inr (3, [t_has, t_hours, .ref h_c, .int t_living, .int t_hour, .int t_cat, .int t_nights, .int t_seed])), (h_c, .inr (6, [.ref h_c_people, c_hours, c_heardBy, c_heardOf, c_heardAt, c_heardGive, .int c_hour, .int c_gives, .int c_peopleMany, .int c_nearMany, .int c_askedMany, .int c_heardMany, .int c_wentMany])), (h_c_people, .inl (dA 4, 6, .inr (.inr (.inr (.inr (pref np pa))))))] ++ ppool np pa pk pn pu pw pd pr ps pt) H := hP
      have hD : va_D A ([(h_t, .inr (3, [t_has, t_hours, .ref h_c, .int t_living, .int t_hour, .int t_cat, .int t_nights, .int t_seed])), (h_c, .inr (6, [.ref h_c_people, c_hours, c_heardBy, c_heardOf, c_heardAt, c_heardGive, .int c_hour, .int c_gives, .int c_peopleMany, .int c_nearMany, .int c_askedMany, .int c_heardMany, .int c_wentMany])), (h_c_people, .inl (dA 4, 6, .inr (.inr (.inr (.inr (pref np pa))))))] ++ ppool np pa pk pn pu pw pd pr ps pt) := hD
      refine lv_if_eq (tgt := 56) hx hb dX4_canAsk_18 (by decide) (fun c7 => ?_) (fun c7 => ?_)
      · rw [if_pos c7] at hM
        refine lv_iconst (v := (0 : Int32)) hx hb dX4_canAsk_56 (by decide) ?_
        have hM := Option.some.inj hM
        subst hM
        exact W.zret (v := b2i false) hx hb hr (nar_b _) (fun t ht hW => ⟨⟨b2i false, (), rfl, rfl, by rw [ht]; exact hP, hD⟩, hS.F ht⟩) hS.2.2 dX4_canAsk_57
      · rw [if_neg c7] at hM
        refine lv_aload_n hx hb dX4_canAsk_21 rfl (lv_at hl 0 rfl) ?_
        refine va_get (D := D) (ci := 3) (v := .ref h_c) (C := RX4) (T := TX4) (N := 8) hx hb hts in_X4 hown hK.1 hP 0 rfl rfl 2 (by decide) (hts _ q272) (fun _ h9 => h9) rfl dX4_canAsk_22 ?_
        refine va_get (D := D) (ci := 6) (v := .ref h_c_people) (C := RX8) (T := TX8) (N := 13) hx hb hts in_X8 hown hK.1 hP 1 rfl rfl 0 (by decide) (hts _ q457) (fun _ h9 => h9) rfl dX4_canAsk_25 ?_
        refine lv_iload_n hx hb dX4_canAsk_28 rfl (lv_at hl 1 rfl) ?_
        obtain ⟨h8, hM⟩ := gi_inv hM
        obtain ⟨h9, hM⟩ := gn_inv hM
        refine va_aldq hx hb hK.1 hP 2 4 rfl rfl h8 dX4_canAsk_29 ?_
        refine lv_tor (v := .ref (pa (Int32.toNatClampNeg p0))) (pp_ref h9) ?_
        refine pp_mayAsk (n := 3) (rest := []) ⟨hx, hb, hml, hown, hts⟩ hK hP hD hS hA rfl h9 (hpk _ h9) q948 hl.1 (lv_room (Nat.le_of_ble_eq_true rfl)) (Nat.le_of_ble_eq_true rfl) (Nat.le_of_ble_eq_true rfl) (Nat.le_of_ble_eq_true rfl) (Nat.le_of_ble_eq_true rfl) dX4_canAsk_30 (fun H locs hP hD hS => ?_)
        have hP : va_P D clG ([(h_t, .inr (3, [t_has, t_hours, .ref h_c, .int t_living, .int t_hour, .int t_cat, .int t_nights, .int t_seed])), (h_c, .inr (6, [.ref h_c_people, c_hours, c_heardBy, c_heardOf, c_heardAt, c_heardGive, .int c_hour, .int c_gives, .int c_peopleMany, .int c_nearMany, .int c_askedMany, .int c_heardMany, .int c_wentMany])), (h_c_people, .inl (dA 4, 6, .inr (.inr (.inr (.inr (pref np pa))))))] ++ ppool np pa pk pn pu pw pd pr ps pt) H := hP
        have hD : va_D A ([(h_t, .inr (3, [t_has, t_hours, .ref h_c, .int t_living, .int t_hour, .int t_cat, .int t_nights, .int t_seed])), (h_c, .inr (6, [.ref h_c_people, c_hours, c_heardBy, c_heardOf, c_heardAt, c_heardGive, .int c_hour, .int c_gives, .int c_peopleMany, .int c_nearMany, .int c_askedMany, .int c_heardMany, .int c_wentMany])), (h_c_people, .inl (dA 4, 6, .inr (.inr (.inr (.inr (pref np pa))))))] ++ ppool np pa pk pn pu pw pd pr ps pt) := hD
        refine lv_if_eq (tgt := 56) hx hb dX4_canAsk_33 (by decide) (fun c10 => ?_) (fun c10 => ?_)
        · rw [if_pos c10] at hM
          refine lv_iconst (v := (0 : Int32)) hx hb dX4_canAsk_56 (by decide) ?_
          have hM := Option.some.inj hM
          subst hM
          exact W.zret (v := b2i false) hx hb hr (nar_b _) (fun t ht hW => ⟨⟨b2i false, (), rfl, rfl, by rw [ht]; exact hP, hD⟩, hS.F ht⟩) hS.2.2 dX4_canAsk_57
        · rw [if_neg c10] at hM
          refine lv_aload_n hx hb dX4_canAsk_36 rfl (lv_at hl 0 rfl) ?_
          refine va_get (D := D) (ci := 3) (v := .ref h_c) (C := RX4) (T := TX4) (N := 8) hx hb hts in_X4 hown hK.1 hP 0 rfl rfl 2 (by decide) (hts _ q272) (fun _ h9 => h9) rfl dX4_canAsk_37 ?_
          refine va_get (D := D) (ci := 6) (v := .ref h_c_people) (C := RX8) (T := TX8) (N := 13) hx hb hts in_X8 hown hK.1 hP 1 rfl rfl 0 (by decide) (hts _ q457) (fun _ h9 => h9) rfl dX4_canAsk_40 ?_
          refine lv_iload_n hx hb dX4_canAsk_43 rfl (lv_at hl 2 rfl) ?_
          obtain ⟨h11, hM⟩ := gi_inv hM
          obtain ⟨h12, hM⟩ := gn_inv hM
          refine va_aldq hx hb hK.1 hP 2 4 rfl rfl h11 dX4_canAsk_44 ?_
          refine lv_tor (v := .ref (pa (Int32.toNatClampNeg p1))) (pp_ref h12) ?_
          refine lv_iload_n hx hb dX4_canAsk_45 rfl (lv_at hl 1 rfl) ?_
          refine pp_mayBeAskedBy (n := 3) (rest := []) (i := p0) ⟨hx, hb, hml, hown, hts⟩ hK hP hD hS hA rfl h12 (hpk _ h12) q949 hl.1 (lv_room (Nat.le_of_ble_eq_true rfl)) (Nat.le_of_ble_eq_true rfl) (Nat.le_of_ble_eq_true rfl) (Nat.le_of_ble_eq_true rfl) (Nat.le_of_ble_eq_true rfl) dX4_canAsk_46 (fun H locs hP hD hS => ?_)
          have hP : va_P D clG ([(h_t, .inr (3, [t_has, t_hours, .ref h_c, .int t_living, .int t_hour, .int t_cat, .int t_nights, .int t_seed])), (h_c, .inr (6, [.ref h_c_people, c_hours, c_heardBy, c_heardOf, c_heardAt, c_heardGive, .int c_hour, .int c_gives, .int c_peopleMany, .int c_nearMany, .int c_askedMany, .int c_heardMany, .int c_wentMany])), (h_c_people, .inl (dA 4, 6, .inr (.inr (.inr (.inr (pref np pa))))))] ++ ppool np pa pk pn pu pw pd pr ps pt) H := hP
          have hD : va_D A ([(h_t, .inr (3, [t_has, t_hours, .ref h_c, .int t_living, .int t_hour, .int t_cat, .int t_nights, .int t_seed])), (h_c, .inr (6, [.ref h_c_people, c_hours, c_heardBy, c_heardOf, c_heardAt, c_heardGive, .int c_hour, .int c_gives, .int c_peopleMany, .int c_nearMany, .int c_askedMany, .int c_heardMany, .int c_wentMany])), (h_c_people, .inl (dA 4, 6, .inr (.inr (.inr (.inr (pref np pa))))))] ++ ppool np pa pk pn pu pw pd pr ps pt) := hD
          refine lv_if_eq (tgt := 56) hx hb dX4_canAsk_49 (by decide) (fun c13 => ?_) (fun c13 => ?_)
          · rw [if_pos c13] at hM
            refine lv_iconst (v := (0 : Int32)) hx hb dX4_canAsk_56 (by decide) ?_
            have hM := Option.some.inj hM
            subst hM
            exact W.zret (v := b2i false) hx hb hr (nar_b _) (fun t ht hW => ⟨⟨b2i false, (), rfl, rfl, by rw [ht]; exact hP, hD⟩, hS.F ht⟩) hS.2.2 dX4_canAsk_57
          · rw [if_neg c13] at hM
            refine lv_iconst (v := (1 : Int32)) hx hb dX4_canAsk_52 (by decide) ?_
            refine lv_goto (tgt := 57) hx hb dX4_canAsk_53 (by decide) ?_
            have hM := Option.some.inj hM
            subst hM
            exact W.zret (v := b2i true) hx hb hr (nar_b _) (fun t ht hW => ⟨⟨b2i true, (), rfl, rfl, by rw [ht]; exact hP, hD⟩, hS.F ht⟩) hS.2.2 dX4_canAsk_57

set_option maxHeartbeats 40000000 in
set_option maxRecDepth 100000 in
theorem wX1_askable_4 {p : Program} {l : Launch} {e : Env} {s : State} {m : MethodId} {args : Array Value} {below : List Frame} {meth : Method} {c : Code} {D : va_G} {dA : Nat → ClassId} {A : Nat → Prop} {Q : State → Prop} (hx : p.tables.exec = Jvm.exec) (hb : c.code = cX1_askable) (hml : c.maxLocals = 4) (hown : s.vm.findClass RX1 = some m.cls) (hts : ∀ w ∈ lw_all, w.before args s = true) (hK : KK D dA s) (hA : ∀ q : Nat, s.heap.size ≤ q → A q) (h_o : Nat) (h_c : Nat) (h_o_town : Nat) (h_c_people : Nat) (p0 : Int32) (o_taped : Int32) (o_trouble : Int32) (o_fault : Int32) (o_where : Int32) (o_imageMany : Int32) (o_undoMany : Int32) (o_firstRest : Int32) (o_catAt : Int32) (c_hour : Int32) (c_gives : Int32) (c_peopleMany : Int32) (c_nearMany : Int32) (c_askedMany : Int32) (c_heardMany : Int32) (c_wentMany : Int32) (o_town_living : Int32) (o_town_hour : Int32) (o_town_cat : Int32) (o_town_nights : Int32) (o_town_seed : Int32) (np : Nat) (pk : Nat → Nat) (pu : AI) (pw : AI) (pd : AI) (pr : AI) (ps : AI) (pt : AI) (o_tape : Value) (o_scanner : Value) (o_was : Value) (o_trial : Value) (o_night : Value) (o_plans : Value) (o_undone : Value) (o_images : Value) (o_often : Value) (o_next : Value) (c_hours : Value) (c_heardBy : Value) (c_heardOf : Value) (c_heardAt : Value) (c_heardGive : Value) (o_town_has : Value) (o_town_hours : Value) (pa : Nat → Nat) (pn : Nat → Value) (hpk : ∀ k, k < np → pk k < 4) :
    ∀ (k_ : Nat) (x2_4 : Int32) (x3_4 : Int32) (rx : Int32) (H : Heap) (locs : List Loc) (ls : Array Slot), loopN k_ (fun s_ => BX1_askable_4 p0 c_peopleMany o_town_living np pk pr s_.1 s_.2) (x2_4, x3_4) = some rx → va_P D clG ([(h_o, .inr (0, [o_tape, .int o_taped, o_scanner, .ref h_c, .int o_trouble, .int o_fault, .int o_where, .int o_imageMany, .int o_undoMany, .ref h_o_town, o_was, o_trial, o_night, o_plans, o_undone, o_images, o_often, .int o_firstRest, o_next, .int o_catAt])), (h_c, .inr (6, [.ref h_c_people, c_hours, c_heardBy, c_heardOf, c_heardAt, c_heardGive, .int c_hour, .int c_gives, .int c_peopleMany, .int c_nearMany, .int c_askedMany, .int c_heardMany, .int c_wentMany])), (h_o_town, .inr (3, [o_town_has, o_town_hours, .ref h_c, .int o_town_living, .int o_town_hour, .int o_town_cat, .int o_town_nights, .int o_town_seed])), (h_c_people, .inl (dA 4, 6, .inr (.inr (.inr (.inr (pref np pa))))))] ++ ppool np pa pk pn pu pw pd pr ps pt) H → va_D A ([(h_o, .inr (0, [o_tape, .int o_taped, o_scanner, .ref h_c, .int o_trouble, .int o_fault, .int o_where, .int o_imageMany, .int o_undoMany, .ref h_o_town, o_was, o_trial, o_night, o_plans, o_undone, o_images, o_often, .int o_firstRest, o_next, .int o_catAt])), (h_c, .inr (6, [.ref h_c_people, c_hours, c_heardBy, c_heardOf, c_heardAt, c_heardGive, .int c_hour, .int c_gives, .int c_peopleMany, .int c_nearMany, .int c_askedMany, .int c_heardMany, .int c_wentMany])), (h_o_town, .inr (3, [o_town_has, o_town_hours, .ref h_c, .int o_town_living, .int o_town_hour, .int o_town_cat, .int o_town_nights, .int o_town_seed])), (h_c_people, .inl (dA 4, 6, .inr (.inr (.inr (.inr (pref np pa))))))] ++ ppool np pa pk pn pu pw pd pr ps pt) → va_S A s.heap H locs → lv_has ls 4 [(0, .ref h_o), (1, .int p0), (2, .int x2_4), (3, .int x3_4)] → (∀ (H1 : Heap) (locs1 : List Loc) (ls1 : Array Slot), va_P D clG ([(h_o, .inr (0, [o_tape, .int o_taped, o_scanner, .ref h_c, .int o_trouble, .int o_fault, .int o_where, .int o_imageMany, .int o_undoMany, .ref h_o_town, o_was, o_trial, o_night, o_plans, o_undone, o_images, o_often, .int o_firstRest, o_next, .int o_catAt])), (h_c, .inr (6, [.ref h_c_people, c_hours, c_heardBy, c_heardOf, c_heardAt, c_heardGive, .int c_hour, .int c_gives, .int c_peopleMany, .int c_nearMany, .int c_askedMany, .int c_heardMany, .int c_wentMany])), (h_o_town, .inr (3, [o_town_has, o_town_hours, .ref h_c, .int o_town_living, .int o_town_hour, .int o_town_cat, .int o_town_nights, .int o_town_seed])), (h_c_people, .inl (dA 4, 6, .inr (.inr (.inr (.inr (pref np pa))))))] ++ ppool np pa pk pn pu pw pd pr ps pt) H1 → va_D A ([(h_o, .inr (0, [o_tape, .int o_taped, o_scanner, .ref h_c, .int o_trouble, .int o_fault, .int o_where, .int o_imageMany, .int o_undoMany, .ref h_o_town, o_was, o_trial, o_night, o_plans, o_undone, o_images, o_often, .int o_firstRest, o_next, .int o_catAt])), (h_c, .inr (6, [.ref h_c_people, c_hours, c_heardBy, c_heardOf, c_heardAt, c_heardGive, .int c_hour, .int c_gives, .int c_peopleMany, .int c_nearMany, .int c_askedMany, .int c_heardMany, .int c_wentMany])), (h_o_town, .inr (3, [o_town_has, o_town_hours, .ref h_c, .int o_town_living, .int o_town_hour, .int o_town_cat, .int o_town_nights, .int o_town_seed])), (h_c_people, .inl (dA 4, 6, .inr (.inr (.inr (.inr (pref np pa))))))] ++ ppool np pa pk pn pu pw pd pr ps pt) → va_S A s.heap H1 locs1 → lv_has ls1 4 [(2, .int rx)] → W p l e (headSpec (ws_ yX1_askable cX1_askable 4 (some .int)) ({ frames := 5, cells := 0, slots := 0, locals := 222 })).room s m args below meth c H1 locs1 0 0 Q (F0 m 43 ls1 [])) → W p l e (headSpec (ws_ yX1_askable cX1_askable 4 (some .int)) ({ frames := 5, cells := 0, slots := 0, locals := 222 })).room s m args below meth c H locs 0 0 Q (F0 m 4 ls []) := by
  intro k_
  induction k_ with
  | zero =>
    intro x2_4 x3_4 rx H locs ls hN
    cases hN
  | succ k_ ih =>
    intro x2_4 x3_4 rx H locs ls hN hP hD hS hl kx0
    obtain ⟨r_, hM, hN⟩ := b_inv hN
    replace hM : BX1_askable_4 p0 c_peopleMany o_town_living np pk pr x2_4 x3_4 = some r_ := hM
    unfold BX1_askable_4 at hM
    refine lv_iload_n hx hb dX1_askable_4 rfl (lv_at hl 3 rfl) ?_
    refine lv_aload_n hx hb dX1_askable_5 rfl (lv_at hl 0 rfl) ?_
    refine va_get (D := D) (ci := 0) (v := .ref h_c) (C := RX1) (T := TX1) (N := 20) hx hb hts in_X1 hown hK.1 hP 0 rfl rfl 3 (by decide) (hts _ q361) (fun _ h9 => h9) rfl dX1_askable_6 ?_
    refine va_get (D := D) (ci := 6) (v := .int c_peopleMany) (C := RX8) (T := TX8) (N := 13) hx hb hts in_X8 hown hK.1 hP 1 rfl rfl 8 (by decide) (hts _ q484) (fun _ h9 => h9) rfl dX1_askable_9 ?_
    refine lv_icmp_ge (tgt := 43) hx hb dX1_askable_12 (by decide) (fun c1 => ?_) (fun c1 => ?_)
    · rw [if_pos c1] at hM
      have hM := Option.some.inj hM
      subst hM
      have hN := Option.some.inj hN
      subst hN
      exact kx0 _ _ _ hP hD hS (lv_sub hl [2] rfl)
    · rw [if_neg c1] at hM
      refine lv_iload_n hx hb dX1_askable_15 rfl (lv_at hl 2 rfl) ?_
      refine lv_aload_n hx hb dX1_askable_16 rfl (lv_at hl 0 rfl) ?_
      refine va_get (D := D) (ci := 0) (v := .ref h_o_town) (C := RX1) (T := TX1) (N := 20) hx hb hts in_X1 hown hK.1 hP 0 rfl rfl 9 (by decide) (hts _ q367) (fun _ h9 => h9) rfl dX1_askable_17 ?_
      refine lv_iload_n hx hb dX1_askable_20 rfl (lv_at hl 1 rfl) ?_
      refine lv_iload_n hx hb dX1_askable_21 rfl (lv_at hl 3 rfl) ?_
      obtain ⟨r2, er2, hM⟩ := b_inv hM
      refine k_ip [2, 1, 3] (va_runV (As := [.int p0, .int x3_4]) (rest := [.int x2_4]) ⟨hx, hb, hml, hown, hts⟩ (ctX4_canAsk l D dA _ h_o_town h_c h_c_people p0 x3_4 o_town_living o_town_hour o_town_cat o_town_nights o_town_seed c_hour c_gives c_peopleMany c_nearMany c_askedMany c_heardMany c_wentMany np pk pu pw pd pr ps pt (o_town_has) (o_town_hours) (c_hours) (c_heardBy) (c_heardOf) (c_heardAt) (c_heardGive) pa pn hpk r2 er2) (cwV 2 hts (lw_V q943 q944 q945 q119 q946) rfl rfl rfl (by decide +kernel) ⟨Nat.le_of_ble_eq_true rfl, Nat.le_of_ble_eq_true rfl⟩) (pre_V (hP.part [2, 1, 3] rfl) hK (hD.part [2, 1, 3] (by decide) rfl) (ci := 3) (q0 := 0) rfl rfl) rfl rfl hl.1 rfl (lv_room (Nat.le_of_ble_eq_true rfl)) dX1_askable_22 ⟨Nat.le_of_ble_eq_true rfl, Nat.le_of_ble_eq_true rfl⟩) hP hD hS hA rfl (fun _ => rfl) (fun u3 H locs hP hD hS => ?_)
      have hP : va_P D clG ([(h_o, .inr (0, [o_tape, .int o_taped, o_scanner, .ref h_c, .int o_trouble, .int o_fault, .int o_where, .int o_imageMany, .int o_undoMany, .ref h_o_town, o_was, o_trial, o_night, o_plans, o_undone, o_images, o_often, .int o_firstRest, o_next, .int o_catAt])), (h_c, .inr (6, [.ref h_c_people, c_hours, c_heardBy, c_heardOf, c_heardAt, c_heardGive, .int c_hour, .int c_gives, .int c_peopleMany, .int c_nearMany, .int c_askedMany, .int c_heardMany, .int c_wentMany])), (h_o_town, .inr (3, [o_town_has, o_town_hours, .ref h_c, .int o_town_living, .int o_town_hour, .int o_town_cat, .int o_town_nights, .int o_town_seed])), (h_c_people, .inl (dA 4, 6, .inr (.inr (.inr (.inr (pref np pa))))))] ++ ppool np pa pk pn pu pw pd pr ps pt) H := hP
      have hD : va_D A ([(h_o, .inr (0, [o_tape, .int o_taped, o_scanner, .ref h_c, .int o_trouble, .int o_fault, .int o_where, .int o_imageMany, .int o_undoMany, .ref h_o_town, o_was, o_trial, o_night, o_plans, o_undone, o_images, o_often, .int o_firstRest, o_next, .int o_catAt])), (h_c, .inr (6, [.ref h_c_people, c_hours, c_heardBy, c_heardOf, c_heardAt, c_heardGive, .int c_hour, .int c_gives, .int c_peopleMany, .int c_nearMany, .int c_askedMany, .int c_heardMany, .int c_wentMany])), (h_o_town, .inr (3, [o_town_has, o_town_hours, .ref h_c, .int o_town_living, .int o_town_hour, .int o_town_cat, .int o_town_nights, .int o_town_seed])), (h_c_people, .inl (dA 4, 6, .inr (.inr (.inr (.inr (pref np pa))))))] ++ ppool np pa pk pn pu pw pd pr ps pt) := hD
      refine lv_if_eq (tgt := 34) hx hb dX1_askable_25 (by decide) (fun c4 => ?_) (fun c4 => ?_)
      · rw [if_pos c4] at hM
        refine lv_iconst (v := (0 : Int32)) hx hb dX1_askable_34 (by decide) ?_
        refine lv_ior hx hb dX1_askable_35 ?_
        refine lv_istore_n (lv' := [(2, .int (x2_4 ||| (0 : Int32))), (0, .ref h_o), (1, .int p0), (3, .int x3_4)]) hx hb dX1_askable_36 rfl hl (by decide) rfl (fun ls hl => ?_)
        refine lv_iinc (v := (x3_4 + (1 : Int32))) (lv' := [(3, .int (x3_4 + (1 : Int32))), (2, .int (x2_4 ||| (0 : Int32))), (0, .ref h_o), (1, .int p0)]) hx hb dX1_askable_37 hl (k := 3) rfl (rfl) (by decide) rfl (fun ls hl => ?_)
        refine lv_goto (tgt := 4) hx hb dX1_askable_40 (by decide) ?_
        have hM := Option.some.inj hM
        subst hM
        exact ih (x2_4 ||| (0 : Int32)) (x3_4 + (1 : Int32)) _ _ _ _ hN hP hD hS (lv_sub hl [2, 3, 1, 0] rfl) kx0
      · rw [if_neg c4] at hM
        refine lv_iconst (v := (1 : Int32)) hx hb dX1_askable_28 (by decide) ?_
        refine lv_iload_n hx hb dX1_askable_29 rfl (lv_at hl 3 rfl) ?_
        refine lv_ishl hx hb dX1_askable_30 ?_
        refine lv_goto (tgt := 35) hx hb dX1_askable_31 (by decide) ?_
        refine lv_ior hx hb dX1_askable_35 ?_
        refine lv_istore_n (lv' := [(2, .int (x2_4 ||| ((1 : Int32) <<< (x3_4 &&& 31)))), (0, .ref h_o), (1, .int p0), (3, .int x3_4)]) hx hb dX1_askable_36 rfl hl (by decide) rfl (fun ls hl => ?_)
        refine lv_iinc (v := (x3_4 + (1 : Int32))) (lv' := [(3, .int (x3_4 + (1 : Int32))), (2, .int (x2_4 ||| ((1 : Int32) <<< (x3_4 &&& 31)))), (0, .ref h_o), (1, .int p0)]) hx hb dX1_askable_37 hl (k := 3) rfl (rfl) (by decide) rfl (fun ls hl => ?_)
        refine lv_goto (tgt := 4) hx hb dX1_askable_40 (by decide) ?_
        have hM := Option.some.inj hM
        subst hM
        exact ih (x2_4 ||| ((1 : Int32) <<< (x3_4 &&& 31))) (x3_4 + (1 : Int32)) _ _ _ _ hN hP hD hS (lv_sub hl [2, 3, 1, 0] rfl) kx0
set_option maxHeartbeats 40000000 in
set_option maxRecDepth 100000 in
theorem ctX1_askable (l : Launch) (D : va_G) (dA : Nat → ClassId) (sz : Nat) (h_o : Nat) (h_c : Nat) (h_o_town : Nat) (h_c_people : Nat) (p0 : Int32) (o_taped : Int32) (o_trouble : Int32) (o_fault : Int32) (o_where : Int32) (o_imageMany : Int32) (o_undoMany : Int32) (o_firstRest : Int32) (o_catAt : Int32) (c_hour : Int32) (c_gives : Int32) (c_peopleMany : Int32) (c_nearMany : Int32) (c_askedMany : Int32) (c_heardMany : Int32) (c_wentMany : Int32) (o_town_living : Int32) (o_town_hour : Int32) (o_town_cat : Int32) (o_town_nights : Int32) (o_town_seed : Int32) (np : Nat) (pk : Nat → Nat) (pu : AI) (pw : AI) (pd : AI) (pr : AI) (ps : AI) (pt : AI) (o_tape : Value) (o_scanner : Value) (o_was : Value) (o_trial : Value) (o_night : Value) (o_plans : Value) (o_undone : Value) (o_images : Value) (o_often : Value) (o_next : Value) (c_hours : Value) (c_heardBy : Value) (c_heardOf : Value) (c_heardAt : Value) (c_heardGive : Value) (o_town_has : Value) (o_town_hours : Value) (pa : Nat → Nat) (pn : Nat → Value) (hpk : ∀ k, k < np → pk k < 4) (res : Int32) (hM : MX1_askable p0 c_peopleMany o_town_living np pk pr = some res) : Met l yX1_askable (ws_ yX1_askable cX1_askable 4 (some .int)) ({ frames := 5, cells := 0, slots := 0, locals := 222 }) (pre_ D dA [.ref h_o, .int p0] ([(h_o, .inr (0, [o_tape, .int o_taped, o_scanner, .ref h_c, .int o_trouble, .int o_fault, .int o_where, .int o_imageMany, .int o_undoMany, .ref h_o_town, o_was, o_trial, o_night, o_plans, o_undone, o_images, o_often, .int o_firstRest, o_next, .int o_catAt])), (h_c, .inr (6, [.ref h_c_people, c_hours, c_heardBy, c_heardOf, c_heardAt, c_heardGive, .int c_hour, .int c_gives, .int c_peopleMany, .int c_nearMany, .int c_askedMany, .int c_heardMany, .int c_wentMany])), (h_o_town, .inr (3, [o_town_has, o_town_hours, .ref h_c, .int o_town_living, .int o_town_hour, .int o_town_cat, .int o_town_nights, .int o_town_seed])), (h_c_people, .inl (dA 4, 6, .inr (.inr (.inr (.inr (pref np pa))))))] ++ ppool np pa pk pn pu pw pd pr ps pt) sz) (qi_ D res (fun (u : Unit) => [(h_o, .inr (0, [o_tape, .int o_taped, o_scanner, .ref h_c, .int o_trouble, .int o_fault, .int o_where, .int o_imageMany, .int o_undoMany, .ref h_o_town, o_was, o_trial, o_night, o_plans, o_undone, o_images, o_often, .int o_firstRest, o_next, .int o_catAt])), (h_c, .inr (6, [.ref h_c_people, c_hours, c_heardBy, c_heardOf, c_heardAt, c_heardGive, .int c_hour, .int c_gives, .int c_peopleMany, .int c_nearMany, .int c_askedMany, .int c_heardMany, .int c_wentMany])), (h_o_town, .inr (3, [o_town_has, o_town_hours, .ref h_c, .int o_town_living, .int o_town_hour, .int o_town_cat, .int o_town_nights, .int o_town_seed])), (h_c_people, .inl (dA 4, 6, .inr (.inr (.inr (.inr (pref np pa))))))] ++ ppool np pa pk pn pu pw pd pr ps pt) (va_A ([(h_o, .inr (0, [o_tape, .int o_taped, o_scanner, .ref h_c, .int o_trouble, .int o_fault, .int o_where, .int o_imageMany, .int o_undoMany, .ref h_o_town, o_was, o_trial, o_night, o_plans, o_undone, o_images, o_often, .int o_firstRest, o_next, .int o_catAt])), (h_c, .inr (6, [.ref h_c_people, c_hours, c_heardBy, c_heardOf, c_heardAt, c_heardGive, .int c_hour, .int c_gives, .int c_peopleMany, .int c_nearMany, .int c_askedMany, .int c_heardMany, .int c_wentMany])), (h_o_town, .inr (3, [o_town_has, o_town_hours, .ref h_c, .int o_town_living, .int o_town_hour, .int o_town_cat, .int o_town_nights, .int o_town_seed])), (h_c_people, .inl (dA 4, 6, .inr (.inr (.inr (.inr (pref np pa))))))] ++ ppool np pa pk pn pu pw pd pr ps pt) sz)) 0 0 (va_A ([(h_o, .inr (0, [o_tape, .int o_taped, o_scanner, .ref h_c, .int o_trouble, .int o_fault, .int o_where, .int o_imageMany, .int o_undoMany, .ref h_o_town, o_was, o_trial, o_night, o_plans, o_undone, o_images, o_often, .int o_firstRest, o_next, .int o_catAt])), (h_c, .inr (6, [.ref h_c_people, c_hours, c_heardBy, c_heardOf, c_heardAt, c_heardGive, .int c_hour, .int c_gives, .int c_peopleMany, .int c_nearMany, .int c_askedMany, .int c_heardMany, .int c_wentMany])), (h_o_town, .inr (3, [o_town_has, o_town_hours, .ref h_c, .int o_town_living, .int o_town_hour, .int o_town_cat, .int o_town_nights, .int o_town_seed])), (h_c_people, .inl (dA 4, 6, .inr (.inr (.inr (.inr (pref np pa))))))] ++ ppool np pa pk pn pu pw pd pr ps pt) sz) := by
  refine Met.ofW (cc := cX1_askable) (maxL := 4) (ret := (some .int)) (by decide) rfl ?_
  intro p e s m args below meth c s₁ B hml hv
  obtain ⟨rfl, hsz, hP, hK, hD0⟩ := hv
  have hx := B.exec
  have hb := B.bytes
  have hr := B.returns
  have hts := atoms_spec (ws := (ws_ yX1_askable cX1_askable 4 (some .int))) B.pre
  have hts : ∀ w ∈ lw_all, w.before _ s = true := fun w h => hts w (List.mem_cons_of_mem _ h)
  have hown : s.vm.findClass RX1 = some m.cls := findClass_of_methodNamed B.named
  have hlocks := B.notSynchronized
  subst hsz
  have hD := hD0.self (sz := s.heap.size)
  generalize hAe : va_A ([(h_o, .inr (0, [o_tape, .int o_taped, o_scanner, .ref h_c, .int o_trouble, .int o_fault, .int o_where, .int o_imageMany, .int o_undoMany, .ref h_o_town, o_was, o_trial, o_night, o_plans, o_undone, o_images, o_often, .int o_firstRest, o_next, .int o_catAt])), (h_c, .inr (6, [.ref h_c_people, c_hours, c_heardBy, c_heardOf, c_heardAt, c_heardGive, .int c_hour, .int c_gives, .int c_peopleMany, .int c_nearMany, .int c_askedMany, .int c_heardMany, .int c_wentMany])), (h_o_town, .inr (3, [o_town_has, o_town_hours, .ref h_c, .int o_town_living, .int o_town_hour, .int o_town_cat, .int o_town_nights, .int o_town_seed])), (h_c_people, .inl (dA 4, 6, .inr (.inr (.inr (.inr (pref np pa))))))] ++ ppool np pa pk pn pu pw pd pr ps pt) s.heap.size = A at hD ⊢
  have hA : ∀ q : Nat, s.heap.size ≤ q → A q := fun q h => by rw [← hAe]; exact Or.inr h
  have hS : va_S A s.heap s.heap [] := va_S.rf
  have hP : va_P D clG ([(h_o, .inr (0, [o_tape, .int o_taped, o_scanner, .ref h_c, .int o_trouble, .int o_fault, .int o_where, .int o_imageMany, .int o_undoMany, .ref h_o_town, o_was, o_trial, o_night, o_plans, o_undone, o_images, o_often, .int o_firstRest, o_next, .int o_catAt])), (h_c, .inr (6, [.ref h_c_people, c_hours, c_heardBy, c_heardOf, c_heardAt, c_heardGive, .int c_hour, .int c_gives, .int c_peopleMany, .int c_nearMany, .int c_askedMany, .int c_heardMany, .int c_wentMany])), (h_o_town, .inr (3, [o_town_has, o_town_hours, .ref h_c, .int o_town_living, .int o_town_hour, .int o_town_cat, .int o_town_nights, .int o_town_seed])), (h_c_people, .inl (dA 4, 6, .inr (.inr (.inr (.inr (pref np pa))))))] ++ ppool np pa pk pn pu pw pd pr ps pt) s.heap := hP
  have hl := lv_entry ([.ref h_o, .int p0]) (n := 4) (Nat.le_of_ble_eq_true rfl)
  rw [lg_entry_eq]
  generalize (lg_sl ([.ref h_o, .int p0]) ++ List.replicate (4 - (lg_sl ([.ref h_o, .int p0])).length) Slot.unset).toArray = ls at hl ⊢
  have hl : lv_has ls 4 [(0, .ref h_o), (1, .int p0)] := hl
  unfold MX1_askable at hM
  refine lv_iconst (v := (0 : Int32)) hx hb dX1_askable_0 (by decide) ?_
  refine lv_istore_n (lv' := [(2, .int (0 : Int32)), (0, .ref h_o), (1, .int p0)]) hx hb dX1_askable_1 rfl hl (by decide) rfl (fun ls hl => ?_)
  refine lv_iconst (v := (0 : Int32)) hx hb dX1_askable_2 (by decide) ?_
  refine lv_istore_n (lv' := [(3, .int (0 : Int32)), (2, .int (0 : Int32)), (0, .ref h_o), (1, .int p0)]) hx hb dX1_askable_3 rfl hl (by decide) rfl (fun ls hl => ?_)
  obtain ⟨r5, er5, hM⟩ := b_inv hM
  refine wX1_askable_4 hx hb hml hown hts hK hA h_o h_c h_o_town h_c_people p0 o_taped o_trouble o_fault o_where o_imageMany o_undoMany o_firstRest o_catAt c_hour c_gives c_peopleMany c_nearMany c_askedMany c_heardMany c_wentMany o_town_living o_town_hour o_town_cat o_town_nights o_town_seed np pk pu pw pd pr ps pt o_tape o_scanner o_was o_trial o_night o_plans o_undone o_images o_often o_next c_hours c_heardBy c_heardOf c_heardAt c_heardGive o_town_has o_town_hours pa pn hpk _ (0 : Int32) (0 : Int32) _ _ _ _ er5 hP hD hS (lv_sub hl [2, 3, 1, 0] rfl) (fun H locs ls hP hD hS hl => ?_)
  refine lv_iload_n hx hb dX1_askable_43 rfl (lv_at hl 0 rfl) ?_
  have hM := Option.some.inj hM
  subst hM
  exact W.iret (v := r5) hx hb hr (fun t ht hW => ⟨⟨r5, (), rfl, rfl, by rw [ht]; exact hP, hD⟩, hS.F ht⟩) hS.2.2 dX1_askable_44

set_option maxHeartbeats 40000000 in
set_option maxRecDepth 100000 in
theorem wX1_askers_4 {p : Program} {l : Launch} {e : Env} {s : State} {m : MethodId} {args : Array Value} {below : List Frame} {meth : Method} {c : Code} {D : va_G} {dA : Nat → ClassId} {A : Nat → Prop} {Q : State → Prop} (hx : p.tables.exec = Jvm.exec) (hb : c.code = cX1_askers) (hml : c.maxLocals = 4) (hown : s.vm.findClass RX1 = some m.cls) (hts : ∀ w ∈ lw_all, w.before args s = true) (hK : KK D dA s) (hA : ∀ q : Nat, s.heap.size ≤ q → A q) (h_o : Nat) (h_c : Nat) (h_o_town : Nat) (h_c_people : Nat) (p0 : Int32) (o_taped : Int32) (o_trouble : Int32) (o_fault : Int32) (o_where : Int32) (o_imageMany : Int32) (o_undoMany : Int32) (o_firstRest : Int32) (o_catAt : Int32) (c_hour : Int32) (c_gives : Int32) (c_peopleMany : Int32) (c_nearMany : Int32) (c_askedMany : Int32) (c_heardMany : Int32) (c_wentMany : Int32) (o_town_living : Int32) (o_town_hour : Int32) (o_town_cat : Int32) (o_town_nights : Int32) (o_town_seed : Int32) (np : Nat) (pk : Nat → Nat) (pu : AI) (pw : AI) (pd : AI) (pr : AI) (ps : AI) (pt : AI) (o_tape : Value) (o_scanner : Value) (o_was : Value) (o_trial : Value) (o_night : Value) (o_plans : Value) (o_undone : Value) (o_images : Value) (o_often : Value) (o_next : Value) (c_hours : Value) (c_heardBy : Value) (c_heardOf : Value) (c_heardAt : Value) (c_heardGive : Value) (o_town_has : Value) (o_town_hours : Value) (pa : Nat → Nat) (pn : Nat → Value) (hpk : ∀ k, k < np → pk k < 4) :
    ∀ (k_ : Nat) (x2_4 : Int32) (x3_4 : Int32) (rx : Int32) (H : Heap) (locs : List Loc) (ls : Array Slot), loopN k_ (fun s_ => BX1_askers_4 p0 c_peopleMany o_town_living np pk pr s_.1 s_.2) (x2_4, x3_4) = some rx → va_P D clG ([(h_o, .inr (0, [o_tape, .int o_taped, o_scanner, .ref h_c, .int o_trouble, .int o_fault, .int o_where, .int o_imageMany, .int o_undoMany, .ref h_o_town, o_was, o_trial, o_night, o_plans, o_undone, o_images, o_often, .int o_firstRest, o_next, .int o_catAt])), (h_c, .inr (6, [.ref h_c_people, c_hours, c_heardBy, c_heardOf, c_heardAt, c_heardGive, .int c_hour, .int c_gives, .int c_peopleMany, .int c_nearMany, .int c_askedMany, .int c_heardMany, .int c_wentMany])), (h_o_town, .inr (3, [o_town_has, o_town_hours, .ref h_c, .int o_town_living, .int o_town_hour, .int o_town_cat, .int o_town_nights, .int o_town_seed])), (h_c_people, .inl (dA 4, 6, .inr (.inr (.inr (.inr (pref np pa))))))] ++ ppool np pa pk pn pu pw pd pr ps pt) H → va_D A ([(h_o, .inr (0, [o_tape, .int o_taped, o_scanner, .ref h_c, .int o_trouble, .int o_fault, .int o_where, .int o_imageMany, .int o_undoMany, .ref h_o_town, o_was, o_trial, o_night, o_plans, o_undone, o_images, o_often, .int o_firstRest, o_next, .int o_catAt])), (h_c, .inr (6, [.ref h_c_people, c_hours, c_heardBy, c_heardOf, c_heardAt, c_heardGive, .int c_hour, .int c_gives, .int c_peopleMany, .int c_nearMany, .int c_askedMany, .int c_heardMany, .int c_wentMany])), (h_o_town, .inr (3, [o_town_has, o_town_hours, .ref h_c, .int o_town_living, .int o_town_hour, .int o_town_cat, .int o_town_nights, .int o_town_seed])), (h_c_people, .inl (dA 4, 6, .inr (.inr (.inr (.inr (pref np pa))))))] ++ ppool np pa pk pn pu pw pd pr ps pt) → va_S A s.heap H locs → lv_has ls 4 [(0, .ref h_o), (1, .int p0), (2, .int x2_4), (3, .int x3_4)] → (∀ (H1 : Heap) (locs1 : List Loc) (ls1 : Array Slot), va_P D clG ([(h_o, .inr (0, [o_tape, .int o_taped, o_scanner, .ref h_c, .int o_trouble, .int o_fault, .int o_where, .int o_imageMany, .int o_undoMany, .ref h_o_town, o_was, o_trial, o_night, o_plans, o_undone, o_images, o_often, .int o_firstRest, o_next, .int o_catAt])), (h_c, .inr (6, [.ref h_c_people, c_hours, c_heardBy, c_heardOf, c_heardAt, c_heardGive, .int c_hour, .int c_gives, .int c_peopleMany, .int c_nearMany, .int c_askedMany, .int c_heardMany, .int c_wentMany])), (h_o_town, .inr (3, [o_town_has, o_town_hours, .ref h_c, .int o_town_living, .int o_town_hour, .int o_town_cat, .int o_town_nights, .int o_town_seed])), (h_c_people, .inl (dA 4, 6, .inr (.inr (.inr (.inr (pref np pa))))))] ++ ppool np pa pk pn pu pw pd pr ps pt) H1 → va_D A ([(h_o, .inr (0, [o_tape, .int o_taped, o_scanner, .ref h_c, .int o_trouble, .int o_fault, .int o_where, .int o_imageMany, .int o_undoMany, .ref h_o_town, o_was, o_trial, o_night, o_plans, o_undone, o_images, o_often, .int o_firstRest, o_next, .int o_catAt])), (h_c, .inr (6, [.ref h_c_people, c_hours, c_heardBy, c_heardOf, c_heardAt, c_heardGive, .int c_hour, .int c_gives, .int c_peopleMany, .int c_nearMany, .int c_askedMany, .int c_heardMany, .int c_wentMany])), (h_o_town, .inr (3, [o_town_has, o_town_hours, .ref h_c, .int o_town_living, .int o_town_hour, .int o_town_cat, .int o_town_nights, .int o_town_seed])), (h_c_people, .inl (dA 4, 6, .inr (.inr (.inr (.inr (pref np pa))))))] ++ ppool np pa pk pn pu pw pd pr ps pt) → va_S A s.heap H1 locs1 → lv_has ls1 4 [(2, .int rx)] → W p l e (headSpec (ws_ yX1_askers cX1_askers 4 (some .int)) ({ frames := 5, cells := 0, slots := 0, locals := 222 })).room s m args below meth c H1 locs1 0 0 Q (F0 m 43 ls1 [])) → W p l e (headSpec (ws_ yX1_askers cX1_askers 4 (some .int)) ({ frames := 5, cells := 0, slots := 0, locals := 222 })).room s m args below meth c H locs 0 0 Q (F0 m 4 ls []) := by
  intro k_
  induction k_ with
  | zero =>
    intro x2_4 x3_4 rx H locs ls hN
    cases hN
  | succ k_ ih =>
    intro x2_4 x3_4 rx H locs ls hN hP hD hS hl kx0
    obtain ⟨r_, hM, hN⟩ := b_inv hN
    replace hM : BX1_askers_4 p0 c_peopleMany o_town_living np pk pr x2_4 x3_4 = some r_ := hM
    unfold BX1_askers_4 at hM
    refine lv_iload_n hx hb dX1_askers_4 rfl (lv_at hl 3 rfl) ?_
    refine lv_aload_n hx hb dX1_askers_5 rfl (lv_at hl 0 rfl) ?_
    refine va_get (D := D) (ci := 0) (v := .ref h_c) (C := RX1) (T := TX1) (N := 20) hx hb hts in_X1 hown hK.1 hP 0 rfl rfl 3 (by decide) (hts _ q361) (fun _ h9 => h9) rfl dX1_askers_6 ?_
    refine va_get (D := D) (ci := 6) (v := .int c_peopleMany) (C := RX8) (T := TX8) (N := 13) hx hb hts in_X8 hown hK.1 hP 1 rfl rfl 8 (by decide) (hts _ q484) (fun _ h9 => h9) rfl dX1_askers_9 ?_
    refine lv_icmp_ge (tgt := 43) hx hb dX1_askers_12 (by decide) (fun c1 => ?_) (fun c1 => ?_)
    · rw [if_pos c1] at hM
      have hM := Option.some.inj hM
      subst hM
      have hN := Option.some.inj hN
      subst hN
      exact kx0 _ _ _ hP hD hS (lv_sub hl [2] rfl)
    · rw [if_neg c1] at hM
      refine lv_iload_n hx hb dX1_askers_15 rfl (lv_at hl 2 rfl) ?_
      refine lv_aload_n hx hb dX1_askers_16 rfl (lv_at hl 0 rfl) ?_
      refine va_get (D := D) (ci := 0) (v := .ref h_o_town) (C := RX1) (T := TX1) (N := 20) hx hb hts in_X1 hown hK.1 hP 0 rfl rfl 9 (by decide) (hts _ q367) (fun _ h9 => h9) rfl dX1_askers_17 ?_
      refine lv_iload_n hx hb dX1_askers_20 rfl (lv_at hl 3 rfl) ?_
      refine lv_iload_n hx hb dX1_askers_21 rfl (lv_at hl 1 rfl) ?_
      obtain ⟨r2, er2, hM⟩ := b_inv hM
      refine k_ip [2, 1, 3] (va_runV (As := [.int x3_4, .int p0]) (rest := [.int x2_4]) ⟨hx, hb, hml, hown, hts⟩ (ctX4_canAsk l D dA _ h_o_town h_c h_c_people x3_4 p0 o_town_living o_town_hour o_town_cat o_town_nights o_town_seed c_hour c_gives c_peopleMany c_nearMany c_askedMany c_heardMany c_wentMany np pk pu pw pd pr ps pt (o_town_has) (o_town_hours) (c_hours) (c_heardBy) (c_heardOf) (c_heardAt) (c_heardGive) pa pn hpk r2 er2) (cwV 2 hts (lw_V q943 q944 q945 q119 q946) rfl rfl rfl (by decide +kernel) ⟨Nat.le_of_ble_eq_true rfl, Nat.le_of_ble_eq_true rfl⟩) (pre_V (hP.part [2, 1, 3] rfl) hK (hD.part [2, 1, 3] (by decide) rfl) (ci := 3) (q0 := 0) rfl rfl) rfl rfl hl.1 rfl (lv_room (Nat.le_of_ble_eq_true rfl)) dX1_askers_22 ⟨Nat.le_of_ble_eq_true rfl, Nat.le_of_ble_eq_true rfl⟩) hP hD hS hA rfl (fun _ => rfl) (fun u3 H locs hP hD hS => ?_)
      have hP : va_P D clG ([(h_o, .inr (0, [o_tape, .int o_taped, o_scanner, .ref h_c, .int o_trouble, .int o_fault, .int o_where, .int o_imageMany, .int o_undoMany, .ref h_o_town, o_was, o_trial, o_night, o_plans, o_undone, o_images, o_often, .int o_firstRest, o_next, .int o_catAt])), (h_c, .inr (6, [.ref h_c_people, c_hours, c_heardBy, c_heardOf, c_heardAt, c_heardGive, .int c_hour, .int c_gives, .int c_peopleMany, .int c_nearMany, .int c_askedMany, .int c_heardMany, .int c_wentMany])), (h_o_town, .inr (3, [o_town_has, o_town_hours, .ref h_c, .int o_town_living, .int o_town_hour, .int o_town_cat, .int o_town_nights, .int o_town_seed])), (h_c_people, .inl (dA 4, 6, .inr (.inr (.inr (.inr (pref np pa))))))] ++ ppool np pa pk pn pu pw pd pr ps pt) H := hP
      have hD : va_D A ([(h_o, .inr (0, [o_tape, .int o_taped, o_scanner, .ref h_c, .int o_trouble, .int o_fault, .int o_where, .int o_imageMany, .int o_undoMany, .ref h_o_town, o_was, o_trial, o_night, o_plans, o_undone, o_images, o_often, .int o_firstRest, o_next, .int o_catAt])), (h_c, .inr (6, [.ref h_c_people, c_hours, c_heardBy, c_heardOf, c_heardAt, c_heardGive, .int c_hour, .int c_gives, .int c_peopleMany, .int c_nearMany, .int c_askedMany, .int c_heardMany, .int c_wentMany])), (h_o_town, .inr (3, [o_town_has, o_town_hours, .ref h_c, .int o_town_living, .int o_town_hour, .int o_town_cat, .int o_town_nights, .int o_town_seed])), (h_c_people, .inl (dA 4, 6, .inr (.inr (.inr (.inr (pref np pa))))))] ++ ppool np pa pk pn pu pw pd pr ps pt) := hD
      refine lv_if_eq (tgt := 34) hx hb dX1_askers_25 (by decide) (fun c4 => ?_) (fun c4 => ?_)
      · rw [if_pos c4] at hM
        refine lv_iconst (v := (0 : Int32)) hx hb dX1_askers_34 (by decide) ?_
        refine lv_ior hx hb dX1_askers_35 ?_
        refine lv_istore_n (lv' := [(2, .int (x2_4 ||| (0 : Int32))), (0, .ref h_o), (1, .int p0), (3, .int x3_4)]) hx hb dX1_askers_36 rfl hl (by decide) rfl (fun ls hl => ?_)
        refine lv_iinc (v := (x3_4 + (1 : Int32))) (lv' := [(3, .int (x3_4 + (1 : Int32))), (2, .int (x2_4 ||| (0 : Int32))), (0, .ref h_o), (1, .int p0)]) hx hb dX1_askers_37 hl (k := 3) rfl (rfl) (by decide) rfl (fun ls hl => ?_)
        refine lv_goto (tgt := 4) hx hb dX1_askers_40 (by decide) ?_
        have hM := Option.some.inj hM
        subst hM
        exact ih (x2_4 ||| (0 : Int32)) (x3_4 + (1 : Int32)) _ _ _ _ hN hP hD hS (lv_sub hl [2, 3, 1, 0] rfl) kx0
      · rw [if_neg c4] at hM
        refine lv_iconst (v := (1 : Int32)) hx hb dX1_askers_28 (by decide) ?_
        refine lv_iload_n hx hb dX1_askers_29 rfl (lv_at hl 3 rfl) ?_
        refine lv_ishl hx hb dX1_askers_30 ?_
        refine lv_goto (tgt := 35) hx hb dX1_askers_31 (by decide) ?_
        refine lv_ior hx hb dX1_askers_35 ?_
        refine lv_istore_n (lv' := [(2, .int (x2_4 ||| ((1 : Int32) <<< (x3_4 &&& 31)))), (0, .ref h_o), (1, .int p0), (3, .int x3_4)]) hx hb dX1_askers_36 rfl hl (by decide) rfl (fun ls hl => ?_)
        refine lv_iinc (v := (x3_4 + (1 : Int32))) (lv' := [(3, .int (x3_4 + (1 : Int32))), (2, .int (x2_4 ||| ((1 : Int32) <<< (x3_4 &&& 31)))), (0, .ref h_o), (1, .int p0)]) hx hb dX1_askers_37 hl (k := 3) rfl (rfl) (by decide) rfl (fun ls hl => ?_)
        refine lv_goto (tgt := 4) hx hb dX1_askers_40 (by decide) ?_
        have hM := Option.some.inj hM
        subst hM
        exact ih (x2_4 ||| ((1 : Int32) <<< (x3_4 &&& 31))) (x3_4 + (1 : Int32)) _ _ _ _ hN hP hD hS (lv_sub hl [2, 3, 1, 0] rfl) kx0
set_option maxHeartbeats 40000000 in
set_option maxRecDepth 100000 in
theorem ctX1_askers (l : Launch) (D : va_G) (dA : Nat → ClassId) (sz : Nat) (h_o : Nat) (h_c : Nat) (h_o_town : Nat) (h_c_people : Nat) (p0 : Int32) (o_taped : Int32) (o_trouble : Int32) (o_fault : Int32) (o_where : Int32) (o_imageMany : Int32) (o_undoMany : Int32) (o_firstRest : Int32) (o_catAt : Int32) (c_hour : Int32) (c_gives : Int32) (c_peopleMany : Int32) (c_nearMany : Int32) (c_askedMany : Int32) (c_heardMany : Int32) (c_wentMany : Int32) (o_town_living : Int32) (o_town_hour : Int32) (o_town_cat : Int32) (o_town_nights : Int32) (o_town_seed : Int32) (np : Nat) (pk : Nat → Nat) (pu : AI) (pw : AI) (pd : AI) (pr : AI) (ps : AI) (pt : AI) (o_tape : Value) (o_scanner : Value) (o_was : Value) (o_trial : Value) (o_night : Value) (o_plans : Value) (o_undone : Value) (o_images : Value) (o_often : Value) (o_next : Value) (c_hours : Value) (c_heardBy : Value) (c_heardOf : Value) (c_heardAt : Value) (c_heardGive : Value) (o_town_has : Value) (o_town_hours : Value) (pa : Nat → Nat) (pn : Nat → Value) (hpk : ∀ k, k < np → pk k < 4) (res : Int32) (hM : MX1_askers p0 c_peopleMany o_town_living np pk pr = some res) : Met l yX1_askers (ws_ yX1_askers cX1_askers 4 (some .int)) ({ frames := 5, cells := 0, slots := 0, locals := 222 }) (pre_ D dA [.ref h_o, .int p0] ([(h_o, .inr (0, [o_tape, .int o_taped, o_scanner, .ref h_c, .int o_trouble, .int o_fault, .int o_where, .int o_imageMany, .int o_undoMany, .ref h_o_town, o_was, o_trial, o_night, o_plans, o_undone, o_images, o_often, .int o_firstRest, o_next, .int o_catAt])), (h_c, .inr (6, [.ref h_c_people, c_hours, c_heardBy, c_heardOf, c_heardAt, c_heardGive, .int c_hour, .int c_gives, .int c_peopleMany, .int c_nearMany, .int c_askedMany, .int c_heardMany, .int c_wentMany])), (h_o_town, .inr (3, [o_town_has, o_town_hours, .ref h_c, .int o_town_living, .int o_town_hour, .int o_town_cat, .int o_town_nights, .int o_town_seed])), (h_c_people, .inl (dA 4, 6, .inr (.inr (.inr (.inr (pref np pa))))))] ++ ppool np pa pk pn pu pw pd pr ps pt) sz) (qi_ D res (fun (u : Unit) => [(h_o, .inr (0, [o_tape, .int o_taped, o_scanner, .ref h_c, .int o_trouble, .int o_fault, .int o_where, .int o_imageMany, .int o_undoMany, .ref h_o_town, o_was, o_trial, o_night, o_plans, o_undone, o_images, o_often, .int o_firstRest, o_next, .int o_catAt])), (h_c, .inr (6, [.ref h_c_people, c_hours, c_heardBy, c_heardOf, c_heardAt, c_heardGive, .int c_hour, .int c_gives, .int c_peopleMany, .int c_nearMany, .int c_askedMany, .int c_heardMany, .int c_wentMany])), (h_o_town, .inr (3, [o_town_has, o_town_hours, .ref h_c, .int o_town_living, .int o_town_hour, .int o_town_cat, .int o_town_nights, .int o_town_seed])), (h_c_people, .inl (dA 4, 6, .inr (.inr (.inr (.inr (pref np pa))))))] ++ ppool np pa pk pn pu pw pd pr ps pt) (va_A ([(h_o, .inr (0, [o_tape, .int o_taped, o_scanner, .ref h_c, .int o_trouble, .int o_fault, .int o_where, .int o_imageMany, .int o_undoMany, .ref h_o_town, o_was, o_trial, o_night, o_plans, o_undone, o_images, o_often, .int o_firstRest, o_next, .int o_catAt])), (h_c, .inr (6, [.ref h_c_people, c_hours, c_heardBy, c_heardOf, c_heardAt, c_heardGive, .int c_hour, .int c_gives, .int c_peopleMany, .int c_nearMany, .int c_askedMany, .int c_heardMany, .int c_wentMany])), (h_o_town, .inr (3, [o_town_has, o_town_hours, .ref h_c, .int o_town_living, .int o_town_hour, .int o_town_cat, .int o_town_nights, .int o_town_seed])), (h_c_people, .inl (dA 4, 6, .inr (.inr (.inr (.inr (pref np pa))))))] ++ ppool np pa pk pn pu pw pd pr ps pt) sz)) 0 0 (va_A ([(h_o, .inr (0, [o_tape, .int o_taped, o_scanner, .ref h_c, .int o_trouble, .int o_fault, .int o_where, .int o_imageMany, .int o_undoMany, .ref h_o_town, o_was, o_trial, o_night, o_plans, o_undone, o_images, o_often, .int o_firstRest, o_next, .int o_catAt])), (h_c, .inr (6, [.ref h_c_people, c_hours, c_heardBy, c_heardOf, c_heardAt, c_heardGive, .int c_hour, .int c_gives, .int c_peopleMany, .int c_nearMany, .int c_askedMany, .int c_heardMany, .int c_wentMany])), (h_o_town, .inr (3, [o_town_has, o_town_hours, .ref h_c, .int o_town_living, .int o_town_hour, .int o_town_cat, .int o_town_nights, .int o_town_seed])), (h_c_people, .inl (dA 4, 6, .inr (.inr (.inr (.inr (pref np pa))))))] ++ ppool np pa pk pn pu pw pd pr ps pt) sz) := by
  refine Met.ofW (cc := cX1_askers) (maxL := 4) (ret := (some .int)) (by decide) rfl ?_
  intro p e s m args below meth c s₁ B hml hv
  obtain ⟨rfl, hsz, hP, hK, hD0⟩ := hv
  have hx := B.exec
  have hb := B.bytes
  have hr := B.returns
  have hts := atoms_spec (ws := (ws_ yX1_askers cX1_askers 4 (some .int))) B.pre
  have hts : ∀ w ∈ lw_all, w.before _ s = true := fun w h => hts w (List.mem_cons_of_mem _ h)
  have hown : s.vm.findClass RX1 = some m.cls := findClass_of_methodNamed B.named
  have hlocks := B.notSynchronized
  subst hsz
  have hD := hD0.self (sz := s.heap.size)
  generalize hAe : va_A ([(h_o, .inr (0, [o_tape, .int o_taped, o_scanner, .ref h_c, .int o_trouble, .int o_fault, .int o_where, .int o_imageMany, .int o_undoMany, .ref h_o_town, o_was, o_trial, o_night, o_plans, o_undone, o_images, o_often, .int o_firstRest, o_next, .int o_catAt])), (h_c, .inr (6, [.ref h_c_people, c_hours, c_heardBy, c_heardOf, c_heardAt, c_heardGive, .int c_hour, .int c_gives, .int c_peopleMany, .int c_nearMany, .int c_askedMany, .int c_heardMany, .int c_wentMany])), (h_o_town, .inr (3, [o_town_has, o_town_hours, .ref h_c, .int o_town_living, .int o_town_hour, .int o_town_cat, .int o_town_nights, .int o_town_seed])), (h_c_people, .inl (dA 4, 6, .inr (.inr (.inr (.inr (pref np pa))))))] ++ ppool np pa pk pn pu pw pd pr ps pt) s.heap.size = A at hD ⊢
  have hA : ∀ q : Nat, s.heap.size ≤ q → A q := fun q h => by rw [← hAe]; exact Or.inr h
  have hS : va_S A s.heap s.heap [] := va_S.rf
  have hP : va_P D clG ([(h_o, .inr (0, [o_tape, .int o_taped, o_scanner, .ref h_c, .int o_trouble, .int o_fault, .int o_where, .int o_imageMany, .int o_undoMany, .ref h_o_town, o_was, o_trial, o_night, o_plans, o_undone, o_images, o_often, .int o_firstRest, o_next, .int o_catAt])), (h_c, .inr (6, [.ref h_c_people, c_hours, c_heardBy, c_heardOf, c_heardAt, c_heardGive, .int c_hour, .int c_gives, .int c_peopleMany, .int c_nearMany, .int c_askedMany, .int c_heardMany, .int c_wentMany])), (h_o_town, .inr (3, [o_town_has, o_town_hours, .ref h_c, .int o_town_living, .int o_town_hour, .int o_town_cat, .int o_town_nights, .int o_town_seed])), (h_c_people, .inl (dA 4, 6, .inr (.inr (.inr (.inr (pref np pa))))))] ++ ppool np pa pk pn pu pw pd pr ps pt) s.heap := hP
  have hl := lv_entry ([.ref h_o, .int p0]) (n := 4) (Nat.le_of_ble_eq_true rfl)
  rw [lg_entry_eq]
  generalize (lg_sl ([.ref h_o, .int p0]) ++ List.replicate (4 - (lg_sl ([.ref h_o, .int p0])).length) Slot.unset).toArray = ls at hl ⊢
  have hl : lv_has ls 4 [(0, .ref h_o), (1, .int p0)] := hl
  unfold MX1_askers at hM
  refine lv_iconst (v := (0 : Int32)) hx hb dX1_askers_0 (by decide) ?_
  refine lv_istore_n (lv' := [(2, .int (0 : Int32)), (0, .ref h_o), (1, .int p0)]) hx hb dX1_askers_1 rfl hl (by decide) rfl (fun ls hl => ?_)
  refine lv_iconst (v := (0 : Int32)) hx hb dX1_askers_2 (by decide) ?_
  refine lv_istore_n (lv' := [(3, .int (0 : Int32)), (2, .int (0 : Int32)), (0, .ref h_o), (1, .int p0)]) hx hb dX1_askers_3 rfl hl (by decide) rfl (fun ls hl => ?_)
  obtain ⟨r5, er5, hM⟩ := b_inv hM
  refine wX1_askers_4 hx hb hml hown hts hK hA h_o h_c h_o_town h_c_people p0 o_taped o_trouble o_fault o_where o_imageMany o_undoMany o_firstRest o_catAt c_hour c_gives c_peopleMany c_nearMany c_askedMany c_heardMany c_wentMany o_town_living o_town_hour o_town_cat o_town_nights o_town_seed np pk pu pw pd pr ps pt o_tape o_scanner o_was o_trial o_night o_plans o_undone o_images o_often o_next c_hours c_heardBy c_heardOf c_heardAt c_heardGive o_town_has o_town_hours pa pn hpk _ (0 : Int32) (0 : Int32) _ _ _ _ er5 hP hD hS (lv_sub hl [2, 3, 1, 0] rfl) (fun H locs ls hP hD hS hl => ?_)
  refine lv_iload_n hx hb dX1_askers_43 rfl (lv_at hl 0 rfl) ?_
  have hM := Option.some.inj hM
  subst hM
  exact W.iret (v := r5) hx hb hr (fun t ht hW => ⟨⟨r5, (), rfl, rfl, by rw [ht]; exact hP, hD⟩, hS.F ht⟩) hS.2.2 dX1_askers_44

set_option maxHeartbeats 40000000 in
set_option maxRecDepth 100000 in
theorem ctX1_person (l : Launch) (D : va_G) (dA : Nat → ClassId) (sz : Nat) (h_o : Nat) (h_c : Nat) (h_c_people : Nat) (h_o_town : Nat) (h_o_town_has : Nat) (p0 : Int32) (p1 : Int32) (o_taped : Int32) (o_trouble : Int32) (o_fault : Int32) (o_where : Int32) (o_imageMany : Int32) (o_undoMany : Int32) (o_firstRest : Int32) (o_catAt : Int32) (c_hour : Int32) (c_gives : Int32) (c_peopleMany : Int32) (c_nearMany : Int32) (c_askedMany : Int32) (c_heardMany : Int32) (c_wentMany : Int32) (o_town_living : Int32) (o_town_hour : Int32) (o_town_cat : Int32) (o_town_nights : Int32) (o_town_seed : Int32) (o_town_has_ : AI) (np : Nat) (pk : Nat → Nat) (pu : AI) (pw : AI) (pd : AI) (pr : AI) (ps : AI) (pt : AI) (o_tape : Value) (o_scanner : Value) (o_was : Value) (o_trial : Value) (o_night : Value) (o_plans : Value) (o_undone : Value) (o_images : Value) (o_often : Value) (o_next : Value) (c_hours : Value) (c_heardBy : Value) (c_heardOf : Value) (c_heardAt : Value) (c_heardGive : Value) (o_town_hours : Value) (pa : Nat → Nat) (pn : Nat → Value) (hpk : ∀ k, k < np → pk k < 4) (res : (Int32 × Int32 × Int32)) (hM : MX1_person p0 p1 c_peopleMany o_town_living o_town_has_ np pk pd pr = some res) : Met l yX1_person (ws_ yX1_person cX1_person 3 (some .int)) ({ frames := 6, cells := 0, slots := 0, locals := 245 }) (pre_ D dA [.ref h_o, .int p0, .int p1] ([(h_o, .inr (0, [o_tape, .int o_taped, o_scanner, .ref h_c, .int o_trouble, .int o_fault, .int o_where, .int o_imageMany, .int o_undoMany, .ref h_o_town, o_was, o_trial, o_night, o_plans, o_undone, o_images, o_often, .int o_firstRest, o_next, .int o_catAt])), (h_c, .inr (6, [.ref h_c_people, c_hours, c_heardBy, c_heardOf, c_heardAt, c_heardGive, .int c_hour, .int c_gives, .int c_peopleMany, .int c_nearMany, .int c_askedMany, .int c_heardMany, .int c_wentMany])), (h_c_people, .inl (dA 4, 6, .inr (.inr (.inr (.inr (pref np pa)))))), (h_o_town, .inr (3, [.ref h_o_town_has, o_town_hours, .ref h_c, .int o_town_living, .int o_town_hour, .int o_town_cat, .int o_town_nights, .int o_town_seed])), (h_o_town_has, .inl (dA 0, 6, .inl (o_town_has_)))] ++ ppool np pa pk pn pu pw pd pr ps pt) sz) (qi_ D res.1 (fun (u : Unit) => [(h_o, .inr (0, [o_tape, .int o_taped, o_scanner, .ref h_c, .int res.2.1, .int o_fault, .int res.2.2, .int o_imageMany, .int o_undoMany, .ref h_o_town, o_was, o_trial, o_night, o_plans, o_undone, o_images, o_often, .int o_firstRest, o_next, .int o_catAt])), (h_c, .inr (6, [.ref h_c_people, c_hours, c_heardBy, c_heardOf, c_heardAt, c_heardGive, .int c_hour, .int c_gives, .int c_peopleMany, .int c_nearMany, .int c_askedMany, .int c_heardMany, .int c_wentMany])), (h_c_people, .inl (dA 4, 6, .inr (.inr (.inr (.inr (pref np pa)))))), (h_o_town, .inr (3, [.ref h_o_town_has, o_town_hours, .ref h_c, .int o_town_living, .int o_town_hour, .int o_town_cat, .int o_town_nights, .int o_town_seed])), (h_o_town_has, .inl (dA 0, 6, .inl (o_town_has_)))] ++ ppool np pa pk pn pu pw pd pr ps pt) (va_A ([(h_o, .inr (0, [o_tape, .int o_taped, o_scanner, .ref h_c, .int o_trouble, .int o_fault, .int o_where, .int o_imageMany, .int o_undoMany, .ref h_o_town, o_was, o_trial, o_night, o_plans, o_undone, o_images, o_often, .int o_firstRest, o_next, .int o_catAt])), (h_c, .inr (6, [.ref h_c_people, c_hours, c_heardBy, c_heardOf, c_heardAt, c_heardGive, .int c_hour, .int c_gives, .int c_peopleMany, .int c_nearMany, .int c_askedMany, .int c_heardMany, .int c_wentMany])), (h_c_people, .inl (dA 4, 6, .inr (.inr (.inr (.inr (pref np pa)))))), (h_o_town, .inr (3, [.ref h_o_town_has, o_town_hours, .ref h_c, .int o_town_living, .int o_town_hour, .int o_town_cat, .int o_town_nights, .int o_town_seed])), (h_o_town_has, .inl (dA 0, 6, .inl (o_town_has_)))] ++ ppool np pa pk pn pu pw pd pr ps pt) sz)) 0 0 (va_A ([(h_o, .inr (0, [o_tape, .int o_taped, o_scanner, .ref h_c, .int o_trouble, .int o_fault, .int o_where, .int o_imageMany, .int o_undoMany, .ref h_o_town, o_was, o_trial, o_night, o_plans, o_undone, o_images, o_often, .int o_firstRest, o_next, .int o_catAt])), (h_c, .inr (6, [.ref h_c_people, c_hours, c_heardBy, c_heardOf, c_heardAt, c_heardGive, .int c_hour, .int c_gives, .int c_peopleMany, .int c_nearMany, .int c_askedMany, .int c_heardMany, .int c_wentMany])), (h_c_people, .inl (dA 4, 6, .inr (.inr (.inr (.inr (pref np pa)))))), (h_o_town, .inr (3, [.ref h_o_town_has, o_town_hours, .ref h_c, .int o_town_living, .int o_town_hour, .int o_town_cat, .int o_town_nights, .int o_town_seed])), (h_o_town_has, .inl (dA 0, 6, .inl (o_town_has_)))] ++ ppool np pa pk pn pu pw pd pr ps pt) sz) := by
  refine Met.ofW (cc := cX1_person) (maxL := 3) (ret := (some .int)) (by decide) rfl ?_
  intro p e s m args below meth c s₁ B hml hv
  obtain ⟨rfl, hsz, hP, hK, hD0⟩ := hv
  have hx := B.exec
  have hb := B.bytes
  have hr := B.returns
  have hts := atoms_spec (ws := (ws_ yX1_person cX1_person 3 (some .int))) B.pre
  have hts : ∀ w ∈ lw_all, w.before _ s = true := fun w h => hts w (List.mem_cons_of_mem _ h)
  have hown : s.vm.findClass RX1 = some m.cls := findClass_of_methodNamed B.named
  have hlocks := B.notSynchronized
  subst hsz
  have hD := hD0.self (sz := s.heap.size)
  generalize hAe : va_A ([(h_o, .inr (0, [o_tape, .int o_taped, o_scanner, .ref h_c, .int o_trouble, .int o_fault, .int o_where, .int o_imageMany, .int o_undoMany, .ref h_o_town, o_was, o_trial, o_night, o_plans, o_undone, o_images, o_often, .int o_firstRest, o_next, .int o_catAt])), (h_c, .inr (6, [.ref h_c_people, c_hours, c_heardBy, c_heardOf, c_heardAt, c_heardGive, .int c_hour, .int c_gives, .int c_peopleMany, .int c_nearMany, .int c_askedMany, .int c_heardMany, .int c_wentMany])), (h_c_people, .inl (dA 4, 6, .inr (.inr (.inr (.inr (pref np pa)))))), (h_o_town, .inr (3, [.ref h_o_town_has, o_town_hours, .ref h_c, .int o_town_living, .int o_town_hour, .int o_town_cat, .int o_town_nights, .int o_town_seed])), (h_o_town_has, .inl (dA 0, 6, .inl (o_town_has_)))] ++ ppool np pa pk pn pu pw pd pr ps pt) s.heap.size = A at hD ⊢
  have hA : ∀ q : Nat, s.heap.size ≤ q → A q := fun q h => by rw [← hAe]; exact Or.inr h
  have hS : va_S A s.heap s.heap [] := va_S.rf
  have hP : va_P D clG ([(h_o, .inr (0, [o_tape, .int o_taped, o_scanner, .ref h_c, .int o_trouble, .int o_fault, .int o_where, .int o_imageMany, .int o_undoMany, .ref h_o_town, o_was, o_trial, o_night, o_plans, o_undone, o_images, o_often, .int o_firstRest, o_next, .int o_catAt])), (h_c, .inr (6, [.ref h_c_people, c_hours, c_heardBy, c_heardOf, c_heardAt, c_heardGive, .int c_hour, .int c_gives, .int c_peopleMany, .int c_nearMany, .int c_askedMany, .int c_heardMany, .int c_wentMany])), (h_c_people, .inl (dA 4, 6, .inr (.inr (.inr (.inr (pref np pa)))))), (h_o_town, .inr (3, [.ref h_o_town_has, o_town_hours, .ref h_c, .int o_town_living, .int o_town_hour, .int o_town_cat, .int o_town_nights, .int o_town_seed])), (h_o_town_has, .inl (dA 0, 6, .inl (o_town_has_)))] ++ ppool np pa pk pn pu pw pd pr ps pt) s.heap := hP
  have hl := lv_entry ([.ref h_o, .int p0, .int p1]) (n := 3) (Nat.le_of_ble_eq_true rfl)
  rw [lg_entry_eq]
  generalize (lg_sl ([.ref h_o, .int p0, .int p1]) ++ List.replicate (3 - (lg_sl ([.ref h_o, .int p0, .int p1])).length) Slot.unset).toArray = ls at hl ⊢
  have hl : lv_has ls 3 [(0, .ref h_o), (1, .int p0), (2, .int p1)] := hl
  unfold MX1_person at hM
  refine lv_aload_n hx hb dX1_person_0 rfl (lv_at hl 0 rfl) ?_
  obtain ⟨r1, er1, hM⟩ := b_inv hM
  refine k_v0 [0] (va_runV (As := []) (rest := []) ⟨hx, hb, hml, hown, hts⟩ (ctX1_anew l D dA _ h_o o_taped o_trouble o_fault o_where o_imageMany o_undoMany o_firstRest o_catAt (o_tape) (o_scanner) (.ref h_c) (.ref h_o_town) (o_was) (o_trial) (o_night) (o_plans) (o_undone) (o_images) (o_often) (o_next) r1 er1) (cwV 0 hts (lw_V q432 q434 qs2 q113 q435) rfl rfl rfl (by decide +kernel) ⟨Nat.le_of_ble_eq_true rfl, Nat.le_of_ble_eq_true rfl⟩) (pre_V (hP.sub [0] rfl) hK (hD.sub [0] (by decide) rfl) (ci := 0) (q0 := 0) rfl rfl) rfl rfl hl.1 rfl (lv_room (Nat.le_of_ble_eq_true rfl)) dX1_person_1 ⟨Nat.le_of_ble_eq_true rfl, Nat.le_of_ble_eq_true rfl⟩) hP hD hS hA rfl (fun _ => rfl) (fun u2 H locs hP hD hS => ?_)
  have hP : va_P D clG ([(h_o, .inr (0, [o_tape, .int o_taped, o_scanner, .ref h_c, .int r1.1, .int o_fault, .int r1.2, .int o_imageMany, .int o_undoMany, .ref h_o_town, o_was, o_trial, o_night, o_plans, o_undone, o_images, o_often, .int o_firstRest, o_next, .int o_catAt])), (h_c, .inr (6, [.ref h_c_people, c_hours, c_heardBy, c_heardOf, c_heardAt, c_heardGive, .int c_hour, .int c_gives, .int c_peopleMany, .int c_nearMany, .int c_askedMany, .int c_heardMany, .int c_wentMany])), (h_c_people, .inl (dA 4, 6, .inr (.inr (.inr (.inr (pref np pa)))))), (h_o_town, .inr (3, [.ref h_o_town_has, o_town_hours, .ref h_c, .int o_town_living, .int o_town_hour, .int o_town_cat, .int o_town_nights, .int o_town_seed])), (h_o_town_has, .inl (dA 0, 6, .inl (o_town_has_)))] ++ ppool np pa pk pn pu pw pd pr ps pt) H := hP
  have hD : va_D A ([(h_o, .inr (0, [o_tape, .int o_taped, o_scanner, .ref h_c, .int r1.1, .int o_fault, .int r1.2, .int o_imageMany, .int o_undoMany, .ref h_o_town, o_was, o_trial, o_night, o_plans, o_undone, o_images, o_often, .int o_firstRest, o_next, .int o_catAt])), (h_c, .inr (6, [.ref h_c_people, c_hours, c_heardBy, c_heardOf, c_heardAt, c_heardGive, .int c_hour, .int c_gives, .int c_peopleMany, .int c_nearMany, .int c_askedMany, .int c_heardMany, .int c_wentMany])), (h_c_people, .inl (dA 4, 6, .inr (.inr (.inr (.inr (pref np pa)))))), (h_o_town, .inr (3, [.ref h_o_town_has, o_town_hours, .ref h_c, .int o_town_living, .int o_town_hour, .int o_town_cat, .int o_town_nights, .int o_town_seed])), (h_o_town_has, .inl (dA 0, 6, .inl (o_town_has_)))] ++ ppool np pa pk pn pu pw pd pr ps pt) := hD
  refine lv_aload_n hx hb dX1_person_4 rfl (lv_at hl 0 rfl) ?_
  refine lv_iload_n hx hb dX1_person_5 rfl (lv_at hl 1 rfl) ?_
  obtain ⟨r3, er3, hM⟩ := b_inv hM
  refine k_i0 [0, 1] (va_runV (As := [.int p0]) (rest := []) ⟨hx, hb, hml, hown, hts⟩ (ctX1_isPerson l D dA _ h_o h_c p0 o_taped r1.1 o_fault r1.2 o_imageMany o_undoMany o_firstRest o_catAt c_hour c_gives c_peopleMany c_nearMany c_askedMany c_heardMany c_wentMany (o_tape) (o_scanner) (.ref h_o_town) (o_was) (o_trial) (o_night) (o_plans) (o_undone) (o_images) (o_often) (o_next) (.ref h_c_people) (c_hours) (c_heardBy) (c_heardOf) (c_heardAt) (c_heardGive) r3 er3) (cwV 1 hts (lw_V q913 q915 qs24 q113 q916) rfl rfl rfl (by decide +kernel) ⟨Nat.le_of_ble_eq_true rfl, Nat.le_of_ble_eq_true rfl⟩) (pre_V (hP.sub [0, 1] rfl) hK (hD.sub [0, 1] (by decide) rfl) (ci := 0) (q0 := 0) rfl rfl) rfl rfl hl.1 rfl (lv_room (Nat.le_of_ble_eq_true rfl)) dX1_person_6 ⟨Nat.le_of_ble_eq_true rfl, Nat.le_of_ble_eq_true rfl⟩) hP hD hS hA rfl (fun _ => rfl) (fun u4 H locs hP hD hS => ?_)
  have hP : va_P D clG ([(h_o, .inr (0, [o_tape, .int o_taped, o_scanner, .ref h_c, .int r1.1, .int o_fault, .int r1.2, .int o_imageMany, .int o_undoMany, .ref h_o_town, o_was, o_trial, o_night, o_plans, o_undone, o_images, o_often, .int o_firstRest, o_next, .int o_catAt])), (h_c, .inr (6, [.ref h_c_people, c_hours, c_heardBy, c_heardOf, c_heardAt, c_heardGive, .int c_hour, .int c_gives, .int c_peopleMany, .int c_nearMany, .int c_askedMany, .int c_heardMany, .int c_wentMany])), (h_c_people, .inl (dA 4, 6, .inr (.inr (.inr (.inr (pref np pa)))))), (h_o_town, .inr (3, [.ref h_o_town_has, o_town_hours, .ref h_c, .int o_town_living, .int o_town_hour, .int o_town_cat, .int o_town_nights, .int o_town_seed])), (h_o_town_has, .inl (dA 0, 6, .inl (o_town_has_)))] ++ ppool np pa pk pn pu pw pd pr ps pt) H := hP
  have hD : va_D A ([(h_o, .inr (0, [o_tape, .int o_taped, o_scanner, .ref h_c, .int r1.1, .int o_fault, .int r1.2, .int o_imageMany, .int o_undoMany, .ref h_o_town, o_was, o_trial, o_night, o_plans, o_undone, o_images, o_often, .int o_firstRest, o_next, .int o_catAt])), (h_c, .inr (6, [.ref h_c_people, c_hours, c_heardBy, c_heardOf, c_heardAt, c_heardGive, .int c_hour, .int c_gives, .int c_peopleMany, .int c_nearMany, .int c_askedMany, .int c_heardMany, .int c_wentMany])), (h_c_people, .inl (dA 4, 6, .inr (.inr (.inr (.inr (pref np pa)))))), (h_o_town, .inr (3, [.ref h_o_town_has, o_town_hours, .ref h_c, .int o_town_living, .int o_town_hour, .int o_town_cat, .int o_town_nights, .int o_town_seed])), (h_o_town_has, .inl (dA 0, 6, .inl (o_town_has_)))] ++ ppool np pa pk pn pu pw pd pr ps pt) := hD
  refine lv_if_ne (tgt := 18) hx hb dX1_person_9 (by decide) (fun c5 => ?_) (fun c5 => ?_)
  · rw [if_neg c5] at hM
    refine lv_iload_n hx hb dX1_person_18 rfl (lv_at hl 2 rfl) ?_
    by_cases c6 : p1 = (0 : Int32)
    · rw [if_pos c6] at hM
      have t_c6 : (p1).toInt = 0 := by rw [c6]; decide
      refine lv_tableIn (off := 41) (tgt := 60) hx hb dX1_person_19 (by rw [t_c6]; decide) (by rw [t_c6]; decide) (by rw [t_c6]; rfl) (by decide) ?_
      refine lv_aload_n hx hb dX1_person_60 rfl (lv_at hl 0 rfl) ?_
      refine va_get (D := D) (ci := 0) (v := .ref h_c) (C := RX1) (T := TX1) (N := 20) hx hb hts in_X1 hown hK.1 hP 0 rfl rfl 3 (by decide) (hts _ q361) (fun _ h9 => h9) rfl dX1_person_61 ?_
      refine va_get (D := D) (ci := 6) (v := .ref h_c_people) (C := RX8) (T := TX8) (N := 13) hx hb hts in_X8 hown hK.1 hP 1 rfl rfl 0 (by decide) (hts _ q460) (fun _ h9 => h9) rfl dX1_person_64 ?_
      refine lv_iload_n hx hb dX1_person_67 rfl (lv_at hl 1 rfl) ?_
      obtain ⟨h7, hM⟩ := gi_inv hM
      obtain ⟨h8, hM⟩ := gn_inv hM
      refine va_aldq hx hb hK.1 hP 2 4 rfl rfl h7 dX1_person_68 ?_
      refine lv_tor (v := .ref (pa (Int32.toNatClampNeg p0))) (pp_ref h8) ?_
      refine pp_kind (n := 5) (rest := []) ⟨hx, hb, hml, hown, hts⟩ hK hP hD hS hA rfl h8 (hpk _ h8) q917 hl.1 (lv_room (Nat.le_of_ble_eq_true rfl)) (Nat.le_of_ble_eq_true rfl) (Nat.le_of_ble_eq_true rfl) (Nat.le_of_ble_eq_true rfl) (Nat.le_of_ble_eq_true rfl) dX1_person_69 (fun H locs hP hD hS => ?_)
      have hP : va_P D clG ([(h_o, .inr (0, [o_tape, .int o_taped, o_scanner, .ref h_c, .int r1.1, .int o_fault, .int r1.2, .int o_imageMany, .int o_undoMany, .ref h_o_town, o_was, o_trial, o_night, o_plans, o_undone, o_images, o_often, .int o_firstRest, o_next, .int o_catAt])), (h_c, .inr (6, [.ref h_c_people, c_hours, c_heardBy, c_heardOf, c_heardAt, c_heardGive, .int c_hour, .int c_gives, .int c_peopleMany, .int c_nearMany, .int c_askedMany, .int c_heardMany, .int c_wentMany])), (h_c_people, .inl (dA 4, 6, .inr (.inr (.inr (.inr (pref np pa)))))), (h_o_town, .inr (3, [.ref h_o_town_has, o_town_hours, .ref h_c, .int o_town_living, .int o_town_hour, .int o_town_cat, .int o_town_nights, .int o_town_seed])), (h_o_town_has, .inl (dA 0, 6, .inl (o_town_has_)))] ++ ppool np pa pk pn pu pw pd pr ps pt) H := hP
      have hD : va_D A ([(h_o, .inr (0, [o_tape, .int o_taped, o_scanner, .ref h_c, .int r1.1, .int o_fault, .int r1.2, .int o_imageMany, .int o_undoMany, .ref h_o_town, o_was, o_trial, o_night, o_plans, o_undone, o_images, o_often, .int o_firstRest, o_next, .int o_catAt])), (h_c, .inr (6, [.ref h_c_people, c_hours, c_heardBy, c_heardOf, c_heardAt, c_heardGive, .int c_hour, .int c_gives, .int c_peopleMany, .int c_nearMany, .int c_askedMany, .int c_heardMany, .int c_wentMany])), (h_c_people, .inl (dA 4, 6, .inr (.inr (.inr (.inr (pref np pa)))))), (h_o_town, .inr (3, [.ref h_o_town_has, o_town_hours, .ref h_c, .int o_town_living, .int o_town_hour, .int o_town_cat, .int o_town_nights, .int o_town_seed])), (h_o_town_has, .inl (dA 0, 6, .inl (o_town_has_)))] ++ ppool np pa pk pn pu pw pd pr ps pt) := hD
      have hM := Option.some.inj hM
      subst hM
      exact W.iret (v := (kindK (pk (Int32.toNatClampNeg p0)))) hx hb hr (fun t ht hW => ⟨⟨(kindK (pk (Int32.toNatClampNeg p0))), (), rfl, rfl, by rw [ht]; exact hP, hD⟩, hS.F ht⟩) hS.2.2 dX1_person_72
    · rw [if_neg c6] at hM
      by_cases c9 : p1 = (1 : Int32)
      · rw [if_pos c9] at hM
        have t_c9 : (p1).toInt = 1 := by rw [c9]; decide
        refine lv_tableIn (off := 54) (tgt := 73) hx hb dX1_person_19 (by rw [t_c9]; decide) (by rw [t_c9]; decide) (by rw [t_c9]; rfl) (by decide) ?_
        refine lv_aload_n hx hb dX1_person_73 rfl (lv_at hl 0 rfl) ?_
        refine va_get (D := D) (ci := 0) (v := .ref h_o_town) (C := RX1) (T := TX1) (N := 20) hx hb hts in_X1 hown hK.1 hP 0 rfl rfl 9 (by decide) (hts _ q367) (fun _ h9 => h9) rfl dX1_person_74 ?_
        refine va_get (D := D) (ci := 3) (v := .ref h_o_town_has) (C := RX4) (T := TX4) (N := 8) hx hb hts in_X4 hown hK.1 hP 3 rfl rfl 0 (by decide) (hts _ q269) (fun _ h9 => h9) rfl dX1_person_77 ?_
        refine lv_iload_n hx hb dX1_person_80 rfl (lv_at hl 1 rfl) ?_
        obtain ⟨h10, hM⟩ := gi_inv hM
        refine va_iald hx hb hK.1 hP 4 0 rfl rfl h10 dX1_person_81 ?_
        have hM := Option.some.inj hM
        subst hM
        exact W.iret (v := (o_town_has_ (Int32.toNatClampNeg p0))) hx hb hr (fun t ht hW => ⟨⟨(o_town_has_ (Int32.toNatClampNeg p0)), (), rfl, rfl, by rw [ht]; exact hP, hD⟩, hS.F ht⟩) hS.2.2 dX1_person_82
      · rw [if_neg c9] at hM
        by_cases c11 : p1 = (2 : Int32)
        · rw [if_pos c11] at hM
          have t_c11 : (p1).toInt = 2 := by rw [c11]; decide
          refine lv_tableIn (off := 64) (tgt := 83) hx hb dX1_person_19 (by rw [t_c11]; decide) (by rw [t_c11]; decide) (by rw [t_c11]; rfl) (by decide) ?_
          refine lv_aload_n hx hb dX1_person_83 rfl (lv_at hl 0 rfl) ?_
          refine va_get (D := D) (ci := 0) (v := .ref h_c) (C := RX1) (T := TX1) (N := 20) hx hb hts in_X1 hown hK.1 hP 0 rfl rfl 3 (by decide) (hts _ q361) (fun _ h9 => h9) rfl dX1_person_84 ?_
          refine va_get (D := D) (ci := 6) (v := .ref h_c_people) (C := RX8) (T := TX8) (N := 13) hx hb hts in_X8 hown hK.1 hP 1 rfl rfl 0 (by decide) (hts _ q460) (fun _ h9 => h9) rfl dX1_person_87 ?_
          refine lv_iload_n hx hb dX1_person_90 rfl (lv_at hl 1 rfl) ?_
          obtain ⟨h12, hM⟩ := gi_inv hM
          obtain ⟨h13, hM⟩ := gn_inv hM
          refine va_aldq hx hb hK.1 hP 2 4 rfl rfl h12 dX1_person_91 ?_
          refine lv_tor (v := .ref (pa (Int32.toNatClampNeg p0))) (pp_ref h13) ?_
          refine pp_getf (n := 5) hx hb hts hown hK hP rfl h13 (hpk _ h13) 3 (by decide) (hts _ q757) (fun _ h9 => h9) (v := .int (pd (Int32.toNatClampNeg p0))) rfl dX1_person_92 ?_
          have hM := Option.some.inj hM
          subst hM
          exact W.iret (v := (pd (Int32.toNatClampNeg p0))) hx hb hr (fun t ht hW => ⟨⟨(pd (Int32.toNatClampNeg p0)), (), rfl, rfl, by rw [ht]; exact hP, hD⟩, hS.F ht⟩) hS.2.2 dX1_person_95
        · rw [if_neg c11] at hM
          by_cases c14 : p1 = (3 : Int32)
          · rw [if_pos c14] at hM
            have t_c14 : (p1).toInt = 3 := by rw [c14]; decide
            refine lv_tableIn (off := 77) (tgt := 96) hx hb dX1_person_19 (by rw [t_c14]; decide) (by rw [t_c14]; decide) (by rw [t_c14]; rfl) (by decide) ?_
            refine lv_aload_n hx hb dX1_person_96 rfl (lv_at hl 0 rfl) ?_
            refine va_get (D := D) (ci := 0) (v := .ref h_o_town) (C := RX1) (T := TX1) (N := 20) hx hb hts in_X1 hown hK.1 hP 0 rfl rfl 9 (by decide) (hts _ q367) (fun _ h9 => h9) rfl dX1_person_97 ?_
            refine lv_iload_n hx hb dX1_person_100 rfl (lv_at hl 1 rfl) ?_
            obtain ⟨r15, er15, hM⟩ := b_inv hM
            refine k_i0 [3] (va_runV (As := [.int p0]) (rest := []) ⟨hx, hb, hml, hown, hts⟩ (ctX4_isLiving l D dA _ h_o_town p0 o_town_living o_town_hour o_town_cat o_town_nights o_town_seed (.ref h_o_town_has) (o_town_hours) (.ref h_c) r15 er15) (cwV 1 hts (lw_V q934 q935 q936 q119 q937) rfl rfl rfl (by decide +kernel) ⟨Nat.le_of_ble_eq_true rfl, Nat.le_of_ble_eq_true rfl⟩) (pre_V (hP.sub [3] rfl) hK (hD.sub [3] (by decide) rfl) (ci := 3) (q0 := 0) rfl rfl) rfl rfl hl.1 rfl (lv_room (Nat.le_of_ble_eq_true rfl)) dX1_person_101 ⟨Nat.le_of_ble_eq_true rfl, Nat.le_of_ble_eq_true rfl⟩) hP hD hS hA rfl (fun _ => rfl) (fun u16 H locs hP hD hS => ?_)
            have hP : va_P D clG ([(h_o, .inr (0, [o_tape, .int o_taped, o_scanner, .ref h_c, .int r1.1, .int o_fault, .int r1.2, .int o_imageMany, .int o_undoMany, .ref h_o_town, o_was, o_trial, o_night, o_plans, o_undone, o_images, o_often, .int o_firstRest, o_next, .int o_catAt])), (h_c, .inr (6, [.ref h_c_people, c_hours, c_heardBy, c_heardOf, c_heardAt, c_heardGive, .int c_hour, .int c_gives, .int c_peopleMany, .int c_nearMany, .int c_askedMany, .int c_heardMany, .int c_wentMany])), (h_c_people, .inl (dA 4, 6, .inr (.inr (.inr (.inr (pref np pa)))))), (h_o_town, .inr (3, [.ref h_o_town_has, o_town_hours, .ref h_c, .int o_town_living, .int o_town_hour, .int o_town_cat, .int o_town_nights, .int o_town_seed])), (h_o_town_has, .inl (dA 0, 6, .inl (o_town_has_)))] ++ ppool np pa pk pn pu pw pd pr ps pt) H := hP
            have hD : va_D A ([(h_o, .inr (0, [o_tape, .int o_taped, o_scanner, .ref h_c, .int r1.1, .int o_fault, .int r1.2, .int o_imageMany, .int o_undoMany, .ref h_o_town, o_was, o_trial, o_night, o_plans, o_undone, o_images, o_often, .int o_firstRest, o_next, .int o_catAt])), (h_c, .inr (6, [.ref h_c_people, c_hours, c_heardBy, c_heardOf, c_heardAt, c_heardGive, .int c_hour, .int c_gives, .int c_peopleMany, .int c_nearMany, .int c_askedMany, .int c_heardMany, .int c_wentMany])), (h_c_people, .inl (dA 4, 6, .inr (.inr (.inr (.inr (pref np pa)))))), (h_o_town, .inr (3, [.ref h_o_town_has, o_town_hours, .ref h_c, .int o_town_living, .int o_town_hour, .int o_town_cat, .int o_town_nights, .int o_town_seed])), (h_o_town_has, .inl (dA 0, 6, .inl (o_town_has_)))] ++ ppool np pa pk pn pu pw pd pr ps pt) := hD
            refine lv_if_eq (tgt := 111) hx hb dX1_person_104 (by decide) (fun c17 => ?_) (fun c17 => ?_)
            · rw [if_pos c17] at hM
              refine lv_iconst (v := (0 : Int32)) hx hb dX1_person_111 (by decide) ?_
              have hM := Option.some.inj hM
              subst hM
              exact W.iret (v := (0 : Int32)) hx hb hr (fun t ht hW => ⟨⟨(0 : Int32), (), rfl, rfl, by rw [ht]; exact hP, hD⟩, hS.F ht⟩) hS.2.2 dX1_person_112
            · rw [if_neg c17] at hM
              refine lv_iconst (v := (1 : Int32)) hx hb dX1_person_107 (by decide) ?_
              refine lv_goto (tgt := 112) hx hb dX1_person_108 (by decide) ?_
              have hM := Option.some.inj hM
              subst hM
              exact W.iret (v := (1 : Int32)) hx hb hr (fun t ht hW => ⟨⟨(1 : Int32), (), rfl, rfl, by rw [ht]; exact hP, hD⟩, hS.F ht⟩) hS.2.2 dX1_person_112
          · rw [if_neg c14] at hM
            by_cases c18 : p1 = (4 : Int32)
            · rw [if_pos c18] at hM
              have t_c18 : (p1).toInt = 4 := by rw [c18]; decide
              refine lv_tableIn (off := 94) (tgt := 113) hx hb dX1_person_19 (by rw [t_c18]; decide) (by rw [t_c18]; decide) (by rw [t_c18]; rfl) (by decide) ?_
              refine lv_aload_n hx hb dX1_person_113 rfl (lv_at hl 0 rfl) ?_
              refine va_get (D := D) (ci := 0) (v := .ref h_c) (C := RX1) (T := TX1) (N := 20) hx hb hts in_X1 hown hK.1 hP 0 rfl rfl 3 (by decide) (hts _ q361) (fun _ h9 => h9) rfl dX1_person_114 ?_
              refine va_get (D := D) (ci := 6) (v := .ref h_c_people) (C := RX8) (T := TX8) (N := 13) hx hb hts in_X8 hown hK.1 hP 1 rfl rfl 0 (by decide) (hts _ q460) (fun _ h9 => h9) rfl dX1_person_117 ?_
              refine lv_iload_n hx hb dX1_person_120 rfl (lv_at hl 1 rfl) ?_
              obtain ⟨h19, hM⟩ := gi_inv hM
              obtain ⟨h20, hM⟩ := gn_inv hM
              refine va_aldq hx hb hK.1 hP 2 4 rfl rfl h19 dX1_person_121 ?_
              refine lv_tor (v := .ref (pa (Int32.toNatClampNeg p0))) (pp_ref h20) ?_
              refine pp_getf (n := 5) hx hb hts hown hK hP rfl h20 (hpk _ h20) 4 (by decide) (hts _ q762) (fun _ h9 => h9) (v := .int (pr (Int32.toNatClampNeg p0))) rfl dX1_person_122 ?_
              have hM := Option.some.inj hM
              subst hM
              exact W.iret (v := (pr (Int32.toNatClampNeg p0))) hx hb hr (fun t ht hW => ⟨⟨(pr (Int32.toNatClampNeg p0)), (), rfl, rfl, by rw [ht]; exact hP, hD⟩, hS.F ht⟩) hS.2.2 dX1_person_125
            · rw [if_neg c18] at hM
              by_cases c21 : p1 = (5 : Int32)
              · rw [if_pos c21] at hM
                have t_c21 : (p1).toInt = 5 := by rw [c21]; decide
                refine lv_tableIn (off := 107) (tgt := 126) hx hb dX1_person_19 (by rw [t_c21]; decide) (by rw [t_c21]; decide) (by rw [t_c21]; rfl) (by decide) ?_
                refine lv_aload_n hx hb dX1_person_126 rfl (lv_at hl 0 rfl) ?_
                refine lv_iload_n hx hb dX1_person_127 rfl (lv_at hl 1 rfl) ?_
                obtain ⟨r22, er22, hM⟩ := b_inv hM
                refine k_ip [0, 1, 3, 2] (va_runV (As := [.int p0]) (rest := []) ⟨hx, hb, hml, hown, hts⟩ (ctX1_askable l D dA _ h_o h_c h_o_town h_c_people p0 o_taped r1.1 o_fault r1.2 o_imageMany o_undoMany o_firstRest o_catAt c_hour c_gives c_peopleMany c_nearMany c_askedMany c_heardMany c_wentMany o_town_living o_town_hour o_town_cat o_town_nights o_town_seed np pk pu pw pd pr ps pt (o_tape) (o_scanner) (o_was) (o_trial) (o_night) (o_plans) (o_undone) (o_images) (o_often) (o_next) (c_hours) (c_heardBy) (c_heardOf) (c_heardAt) (c_heardGive) (.ref h_o_town_has) (o_town_hours) pa pn hpk r22 er22) (cwV 1 hts (lw_V q939 q941 qs25 q113 q942) rfl rfl rfl (by decide +kernel) ⟨Nat.le_of_ble_eq_true rfl, Nat.le_of_ble_eq_true rfl⟩) (pre_V (hP.part [0, 1, 3, 2] rfl) hK (hD.part [0, 1, 3, 2] (by decide) rfl) (ci := 0) (q0 := 0) rfl rfl) rfl rfl hl.1 rfl (lv_room (Nat.le_of_ble_eq_true rfl)) dX1_person_128 ⟨Nat.le_of_ble_eq_true rfl, Nat.le_of_ble_eq_true rfl⟩) hP hD hS hA rfl (fun _ => rfl) (fun u23 H locs hP hD hS => ?_)
                have hP : va_P D clG ([(h_o, .inr (0, [o_tape, .int o_taped, o_scanner, .ref h_c, .int r1.1, .int o_fault, .int r1.2, .int o_imageMany, .int o_undoMany, .ref h_o_town, o_was, o_trial, o_night, o_plans, o_undone, o_images, o_often, .int o_firstRest, o_next, .int o_catAt])), (h_c, .inr (6, [.ref h_c_people, c_hours, c_heardBy, c_heardOf, c_heardAt, c_heardGive, .int c_hour, .int c_gives, .int c_peopleMany, .int c_nearMany, .int c_askedMany, .int c_heardMany, .int c_wentMany])), (h_c_people, .inl (dA 4, 6, .inr (.inr (.inr (.inr (pref np pa)))))), (h_o_town, .inr (3, [.ref h_o_town_has, o_town_hours, .ref h_c, .int o_town_living, .int o_town_hour, .int o_town_cat, .int o_town_nights, .int o_town_seed])), (h_o_town_has, .inl (dA 0, 6, .inl (o_town_has_)))] ++ ppool np pa pk pn pu pw pd pr ps pt) H := hP
                have hD : va_D A ([(h_o, .inr (0, [o_tape, .int o_taped, o_scanner, .ref h_c, .int r1.1, .int o_fault, .int r1.2, .int o_imageMany, .int o_undoMany, .ref h_o_town, o_was, o_trial, o_night, o_plans, o_undone, o_images, o_often, .int o_firstRest, o_next, .int o_catAt])), (h_c, .inr (6, [.ref h_c_people, c_hours, c_heardBy, c_heardOf, c_heardAt, c_heardGive, .int c_hour, .int c_gives, .int c_peopleMany, .int c_nearMany, .int c_askedMany, .int c_heardMany, .int c_wentMany])), (h_c_people, .inl (dA 4, 6, .inr (.inr (.inr (.inr (pref np pa)))))), (h_o_town, .inr (3, [.ref h_o_town_has, o_town_hours, .ref h_c, .int o_town_living, .int o_town_hour, .int o_town_cat, .int o_town_nights, .int o_town_seed])), (h_o_town_has, .inl (dA 0, 6, .inl (o_town_has_)))] ++ ppool np pa pk pn pu pw pd pr ps pt) := hD
                have hM := Option.some.inj hM
                subst hM
                exact W.iret (v := r22) hx hb hr (fun t ht hW => ⟨⟨r22, (), rfl, rfl, by rw [ht]; exact hP, hD⟩, hS.F ht⟩) hS.2.2 dX1_person_131
              · rw [if_neg c21] at hM
                by_cases c24 : p1 = (6 : Int32)
                · rw [if_pos c24] at hM
                  have t_c24 : (p1).toInt = 6 := by rw [c24]; decide
                  refine lv_tableIn (off := 113) (tgt := 132) hx hb dX1_person_19 (by rw [t_c24]; decide) (by rw [t_c24]; decide) (by rw [t_c24]; rfl) (by decide) ?_
                  refine lv_aload_n hx hb dX1_person_132 rfl (lv_at hl 0 rfl) ?_
                  refine lv_iload_n hx hb dX1_person_133 rfl (lv_at hl 1 rfl) ?_
                  obtain ⟨r25, er25, hM⟩ := b_inv hM
                  refine k_ip [0, 1, 3, 2] (va_runV (As := [.int p0]) (rest := []) ⟨hx, hb, hml, hown, hts⟩ (ctX1_askers l D dA _ h_o h_c h_o_town h_c_people p0 o_taped r1.1 o_fault r1.2 o_imageMany o_undoMany o_firstRest o_catAt c_hour c_gives c_peopleMany c_nearMany c_askedMany c_heardMany c_wentMany o_town_living o_town_hour o_town_cat o_town_nights o_town_seed np pk pu pw pd pr ps pt (o_tape) (o_scanner) (o_was) (o_trial) (o_night) (o_plans) (o_undone) (o_images) (o_often) (o_next) (c_hours) (c_heardBy) (c_heardOf) (c_heardAt) (c_heardGive) (.ref h_o_town_has) (o_town_hours) pa pn hpk r25 er25) (cwV 1 hts (lw_V q950 q952 qs26 q113 q953) rfl rfl rfl (by decide +kernel) ⟨Nat.le_of_ble_eq_true rfl, Nat.le_of_ble_eq_true rfl⟩) (pre_V (hP.part [0, 1, 3, 2] rfl) hK (hD.part [0, 1, 3, 2] (by decide) rfl) (ci := 0) (q0 := 0) rfl rfl) rfl rfl hl.1 rfl (lv_room (Nat.le_of_ble_eq_true rfl)) dX1_person_134 ⟨Nat.le_of_ble_eq_true rfl, Nat.le_of_ble_eq_true rfl⟩) hP hD hS hA rfl (fun _ => rfl) (fun u26 H locs hP hD hS => ?_)
                  have hP : va_P D clG ([(h_o, .inr (0, [o_tape, .int o_taped, o_scanner, .ref h_c, .int r1.1, .int o_fault, .int r1.2, .int o_imageMany, .int o_undoMany, .ref h_o_town, o_was, o_trial, o_night, o_plans, o_undone, o_images, o_often, .int o_firstRest, o_next, .int o_catAt])), (h_c, .inr (6, [.ref h_c_people, c_hours, c_heardBy, c_heardOf, c_heardAt, c_heardGive, .int c_hour, .int c_gives, .int c_peopleMany, .int c_nearMany, .int c_askedMany, .int c_heardMany, .int c_wentMany])), (h_c_people, .inl (dA 4, 6, .inr (.inr (.inr (.inr (pref np pa)))))), (h_o_town, .inr (3, [.ref h_o_town_has, o_town_hours, .ref h_c, .int o_town_living, .int o_town_hour, .int o_town_cat, .int o_town_nights, .int o_town_seed])), (h_o_town_has, .inl (dA 0, 6, .inl (o_town_has_)))] ++ ppool np pa pk pn pu pw pd pr ps pt) H := hP
                  have hD : va_D A ([(h_o, .inr (0, [o_tape, .int o_taped, o_scanner, .ref h_c, .int r1.1, .int o_fault, .int r1.2, .int o_imageMany, .int o_undoMany, .ref h_o_town, o_was, o_trial, o_night, o_plans, o_undone, o_images, o_often, .int o_firstRest, o_next, .int o_catAt])), (h_c, .inr (6, [.ref h_c_people, c_hours, c_heardBy, c_heardOf, c_heardAt, c_heardGive, .int c_hour, .int c_gives, .int c_peopleMany, .int c_nearMany, .int c_askedMany, .int c_heardMany, .int c_wentMany])), (h_c_people, .inl (dA 4, 6, .inr (.inr (.inr (.inr (pref np pa)))))), (h_o_town, .inr (3, [.ref h_o_town_has, o_town_hours, .ref h_c, .int o_town_living, .int o_town_hour, .int o_town_cat, .int o_town_nights, .int o_town_seed])), (h_o_town_has, .inl (dA 0, 6, .inl (o_town_has_)))] ++ ppool np pa pk pn pu pw pd pr ps pt) := hD
                  have hM := Option.some.inj hM
                  subst hM
                  exact W.iret (v := r25) hx hb hr (fun t ht hW => ⟨⟨r25, (), rfl, rfl, by rw [ht]; exact hP, hD⟩, hS.F ht⟩) hS.2.2 dX1_person_137
                · rw [if_neg c24] at hM
                  have n0 := lv_neT c6 (show ((0 : Int32)).toInt = 0 from by decide)
                  have n1 := lv_neT c9 (show ((1 : Int32)).toInt = 1 from by decide)
                  have n2 := lv_neT c11 (show ((2 : Int32)).toInt = 2 from by decide)
                  have n3 := lv_neT c14 (show ((3 : Int32)).toInt = 3 from by decide)
                  have n4 := lv_neT c18 (show ((4 : Int32)).toInt = 4 from by decide)
                  have n5 := lv_neT c21 (show ((5 : Int32)).toInt = 5 from by decide)
                  have n6 := lv_neT c24 (show ((6 : Int32)).toInt = 6 from by decide)
                  refine lv_tableOut (tgt := 138) hx hb dX1_person_19 (by omega) (by decide) ?_
                  refine lv_aload_n hx hb dX1_person_138 rfl (lv_at hl 0 rfl) ?_
                  refine lv_iconst (v := (1 : Int32)) hx hb dX1_person_139 (by decide) ?_
                  obtain ⟨r27, er27, hM⟩ := b_inv hM
                  refine k_i0 [0] (va_runV (As := [.int (1 : Int32)]) (rest := []) ⟨hx, hb, hml, hown, hts⟩ (ctX1_no l D dA _ h_o (1 : Int32) o_taped r1.1 o_fault r1.2 o_imageMany o_undoMany o_firstRest o_catAt (o_tape) (o_scanner) (.ref h_c) (.ref h_o_town) (o_was) (o_trial) (o_night) (o_plans) (o_undone) (o_images) (o_often) (o_next) r27 er27) (cwV 1 hts (lw_V q439 q441 qs3 q113 q442) rfl rfl rfl (by decide +kernel) ⟨Nat.le_of_ble_eq_true rfl, Nat.le_of_ble_eq_true rfl⟩) (pre_V (hP.sub [0] rfl) hK (hD.sub [0] (by decide) rfl) (ci := 0) (q0 := 0) rfl rfl) rfl rfl hl.1 rfl (lv_room (Nat.le_of_ble_eq_true rfl)) dX1_person_140 ⟨Nat.le_of_ble_eq_true rfl, Nat.le_of_ble_eq_true rfl⟩) hP hD hS hA rfl (fun _ => rfl) (fun u28 H locs hP hD hS => ?_)
                  have hP : va_P D clG ([(h_o, .inr (0, [o_tape, .int o_taped, o_scanner, .ref h_c, .int r27.2, .int o_fault, .int r1.2, .int o_imageMany, .int o_undoMany, .ref h_o_town, o_was, o_trial, o_night, o_plans, o_undone, o_images, o_often, .int o_firstRest, o_next, .int o_catAt])), (h_c, .inr (6, [.ref h_c_people, c_hours, c_heardBy, c_heardOf, c_heardAt, c_heardGive, .int c_hour, .int c_gives, .int c_peopleMany, .int c_nearMany, .int c_askedMany, .int c_heardMany, .int c_wentMany])), (h_c_people, .inl (dA 4, 6, .inr (.inr (.inr (.inr (pref np pa)))))), (h_o_town, .inr (3, [.ref h_o_town_has, o_town_hours, .ref h_c, .int o_town_living, .int o_town_hour, .int o_town_cat, .int o_town_nights, .int o_town_seed])), (h_o_town_has, .inl (dA 0, 6, .inl (o_town_has_)))] ++ ppool np pa pk pn pu pw pd pr ps pt) H := hP
                  have hD : va_D A ([(h_o, .inr (0, [o_tape, .int o_taped, o_scanner, .ref h_c, .int r27.2, .int o_fault, .int r1.2, .int o_imageMany, .int o_undoMany, .ref h_o_town, o_was, o_trial, o_night, o_plans, o_undone, o_images, o_often, .int o_firstRest, o_next, .int o_catAt])), (h_c, .inr (6, [.ref h_c_people, c_hours, c_heardBy, c_heardOf, c_heardAt, c_heardGive, .int c_hour, .int c_gives, .int c_peopleMany, .int c_nearMany, .int c_askedMany, .int c_heardMany, .int c_wentMany])), (h_c_people, .inl (dA 4, 6, .inr (.inr (.inr (.inr (pref np pa)))))), (h_o_town, .inr (3, [.ref h_o_town_has, o_town_hours, .ref h_c, .int o_town_living, .int o_town_hour, .int o_town_cat, .int o_town_nights, .int o_town_seed])), (h_o_town_has, .inl (dA 0, 6, .inl (o_town_has_)))] ++ ppool np pa pk pn pu pw pd pr ps pt) := hD
                  have hM := Option.some.inj hM
                  subst hM
                  exact W.iret (v := r27.1) hx hb hr (fun t ht hW => ⟨⟨r27.1, (), rfl, rfl, by rw [ht]; exact hP, hD⟩, hS.F ht⟩) hS.2.2 dX1_person_143
  · rw [if_pos c5] at hM
    refine lv_aload_n hx hb dX1_person_12 rfl (lv_at hl 0 rfl) ?_
    refine lv_iconst (v := (1 : Int32)) hx hb dX1_person_13 (by decide) ?_
    obtain ⟨r29, er29, hM⟩ := b_inv hM
    refine k_i0 [0] (va_runV (As := [.int (1 : Int32)]) (rest := []) ⟨hx, hb, hml, hown, hts⟩ (ctX1_no l D dA _ h_o (1 : Int32) o_taped r1.1 o_fault r1.2 o_imageMany o_undoMany o_firstRest o_catAt (o_tape) (o_scanner) (.ref h_c) (.ref h_o_town) (o_was) (o_trial) (o_night) (o_plans) (o_undone) (o_images) (o_often) (o_next) r29 er29) (cwV 1 hts (lw_V q439 q441 qs3 q113 q442) rfl rfl rfl (by decide +kernel) ⟨Nat.le_of_ble_eq_true rfl, Nat.le_of_ble_eq_true rfl⟩) (pre_V (hP.sub [0] rfl) hK (hD.sub [0] (by decide) rfl) (ci := 0) (q0 := 0) rfl rfl) rfl rfl hl.1 rfl (lv_room (Nat.le_of_ble_eq_true rfl)) dX1_person_14 ⟨Nat.le_of_ble_eq_true rfl, Nat.le_of_ble_eq_true rfl⟩) hP hD hS hA rfl (fun _ => rfl) (fun u30 H locs hP hD hS => ?_)
    have hP : va_P D clG ([(h_o, .inr (0, [o_tape, .int o_taped, o_scanner, .ref h_c, .int r29.2, .int o_fault, .int r1.2, .int o_imageMany, .int o_undoMany, .ref h_o_town, o_was, o_trial, o_night, o_plans, o_undone, o_images, o_often, .int o_firstRest, o_next, .int o_catAt])), (h_c, .inr (6, [.ref h_c_people, c_hours, c_heardBy, c_heardOf, c_heardAt, c_heardGive, .int c_hour, .int c_gives, .int c_peopleMany, .int c_nearMany, .int c_askedMany, .int c_heardMany, .int c_wentMany])), (h_c_people, .inl (dA 4, 6, .inr (.inr (.inr (.inr (pref np pa)))))), (h_o_town, .inr (3, [.ref h_o_town_has, o_town_hours, .ref h_c, .int o_town_living, .int o_town_hour, .int o_town_cat, .int o_town_nights, .int o_town_seed])), (h_o_town_has, .inl (dA 0, 6, .inl (o_town_has_)))] ++ ppool np pa pk pn pu pw pd pr ps pt) H := hP
    have hD : va_D A ([(h_o, .inr (0, [o_tape, .int o_taped, o_scanner, .ref h_c, .int r29.2, .int o_fault, .int r1.2, .int o_imageMany, .int o_undoMany, .ref h_o_town, o_was, o_trial, o_night, o_plans, o_undone, o_images, o_often, .int o_firstRest, o_next, .int o_catAt])), (h_c, .inr (6, [.ref h_c_people, c_hours, c_heardBy, c_heardOf, c_heardAt, c_heardGive, .int c_hour, .int c_gives, .int c_peopleMany, .int c_nearMany, .int c_askedMany, .int c_heardMany, .int c_wentMany])), (h_c_people, .inl (dA 4, 6, .inr (.inr (.inr (.inr (pref np pa)))))), (h_o_town, .inr (3, [.ref h_o_town_has, o_town_hours, .ref h_c, .int o_town_living, .int o_town_hour, .int o_town_cat, .int o_town_nights, .int o_town_seed])), (h_o_town_has, .inl (dA 0, 6, .inl (o_town_has_)))] ++ ppool np pa pk pn pu pw pd pr ps pt) := hD
    have hM := Option.some.inj hM
    subst hM
    exact W.iret (v := r29.1) hx hb hr (fun t ht hW => ⟨⟨r29.1, (), rfl, rfl, by rw [ht]; exact hP, hD⟩, hS.F ht⟩) hS.2.2 dX1_person_17
