set_option maxRecDepth 100000
def MX9_initt0 (p1 : Int32) : Option (Int32 × Int32) :=
  some (p1, (-1 : Int32))
set_option maxHeartbeats 40000000 in
set_option maxRecDepth 100000 in
theorem ctX9_initt0 (l : Launch) (D : va_G) (dA : Nat → ClassId) (sz : Nat) (n_s : Nat) (h_o : Nat) (p1 : Int32) (o_number : Int32) (o_wealth : Int32) (o_dies : Int32) (o_near : Int32) (o_asks : Int32) (o_went : Int32) (o_name : Value) (res : (Int32 × Int32)) (hM : MX9_initt0 p1 = some res) : Met l yX9_init (ws_ yX9_init cX9_init 3 none) ({ frames := 1, cells := 0, slots := 0, locals := 20 }) (pre_ D dA [.ref h_o, (.ref n_s), .int p1] [(h_o, .inr (7, [o_name, .int o_number, .int o_wealth, .int o_dies, .int o_near, .int o_asks, .int o_went]))] sz) (qv_ D (fun (u : Unit) => [(h_o, .inr (7, [(.ref n_s), .int res.1, .int o_wealth, .int o_dies, .int o_near, .int o_asks, .int res.2]))]) (va_A [(h_o, .inr (7, [o_name, .int o_number, .int o_wealth, .int o_dies, .int o_near, .int o_asks, .int o_went]))] sz)) 0 0 (va_A [(h_o, .inr (7, [o_name, .int o_number, .int o_wealth, .int o_dies, .int o_near, .int o_asks, .int o_went]))] sz) := by
  refine Met.ofW (cc := cX9_init) (maxL := 3) (ret := none) (by decide) rfl ?_
  intro p e s m args below meth c s₁ B hml hv
  obtain ⟨rfl, hsz, hP, hK, hD0⟩ := hv
  have hx := B.exec
  have hb := B.bytes
  have hr := B.returns
  have hts := atoms_spec (ws := (ws_ yX9_init cX9_init 3 none)) B.pre
  have hts : ∀ w ∈ lw_all, w.before _ s = true := fun w h => hts w (List.mem_cons_of_mem _ h)
  have hown : s.vm.findClass RX9 = some m.cls := findClass_of_methodNamed B.named
  have hlocks := B.notSynchronized
  have hin : meth.name = "<init>" := (name_of_methodNamed B.named B.method).1
  subst hsz
  have hD := hD0.self (sz := s.heap.size)
  generalize hAe : va_A [(h_o, .inr (7, [o_name, .int o_number, .int o_wealth, .int o_dies, .int o_near, .int o_asks, .int o_went]))] s.heap.size = A at hD ⊢
  have hA : ∀ q : Nat, s.heap.size ≤ q → A q := fun q h => by rw [← hAe]; exact Or.inr h
  have hS : va_S A s.heap s.heap [] := va_S.rf
  have hP : va_P D clG [(h_o, .inr (7, [o_name, .int o_number, .int o_wealth, .int o_dies, .int o_near, .int o_asks, .int o_went]))] s.heap := hP
  have hl := lv_entry ([.ref h_o, (.ref n_s), .int p1]) (n := 3) (Nat.le_of_ble_eq_true rfl)
  rw [lg_entry_eq]
  generalize (lg_sl ([.ref h_o, (.ref n_s), .int p1]) ++ List.replicate (3 - (lg_sl ([.ref h_o, (.ref n_s), .int p1])).length) Slot.unset).toArray = ls at hl ⊢
  have hl : lv_has ls 3 [(0, .ref h_o), (1, (.ref n_s)), (2, .int p1)] := hl
  unfold MX9_initt0 at hM
  refine lv_aload_n hx hb dX9_init_0 rfl (lv_at hl 0 rfl) ?_
  refine W.objInit hx hb hown (hts _ q747) (hts _ q144) (hts _ q145) rfl (by rw [hml]; exact hl.1) rfl dX9_init_1 (Nat.le_of_ble_eq_true rfl) (Nat.le_of_ble_eq_true rfl) ?_
  refine W.eq (g2 := F0 m 4 ls []) rfl ?_
  refine lv_aload_n hx hb dX9_init_4 rfl (lv_at hl 0 rfl) ?_
  refine lv_iconst (v := (-1 : Int32)) hx hb dX9_init_5 (by decide) ?_
  refine va_put (D := D) (ci := 7) (v := .int (-1 : Int32)) (ty := .int) (C := RX10) (T := TX10) (N := 7) hx hb hts in_X10 tyX10 tyX10_ok nmX10 hown hK.1 hP hD hS 0 rfl rfl 6 (by decide) (hts _ q764) (fun _ h9 => h9) rfl (by decide +kernel) rfl rfl (Nat.le_of_ble_eq_true rfl) dX9_init_6 (fun H locs hP hD hS => ?_)
  have hP : va_P D clG [(h_o, .inr (7, [o_name, .int o_number, .int o_wealth, .int o_dies, .int o_near, .int o_asks, .int (-1 : Int32)]))] H := hP
  have hD : va_D A [(h_o, .inr (7, [o_name, .int o_number, .int o_wealth, .int o_dies, .int o_near, .int o_asks, .int (-1 : Int32)]))] := hD
  refine lv_aload_n hx hb dX9_init_9 rfl (lv_at hl 0 rfl) ?_
  refine lv_aload_n hx hb dX9_init_10 rfl (lv_at hl 1 rfl) ?_
  refine va_putF (D := D) (ci := 7) (v := (.ref n_s)) (ty := (.object "java/lang/String")) (C := RX10) (T := TX10) (N := 7) hx hb hts in_X10 tyX10 tyX10_ok nmX10 hown hK.1 hP hD hS 0 rfl rfl 0 (by decide) (hts _ q748) (fun _ h9 => h9) rfl hin rfl (by decide +kernel) rfl rfl (Nat.le_of_ble_eq_true rfl) dX9_init_11 (fun H locs hP hD hS => ?_)
  have hP : va_P D clG [(h_o, .inr (7, [(.ref n_s), .int o_number, .int o_wealth, .int o_dies, .int o_near, .int o_asks, .int (-1 : Int32)]))] H := hP
  have hD : va_D A [(h_o, .inr (7, [(.ref n_s), .int o_number, .int o_wealth, .int o_dies, .int o_near, .int o_asks, .int (-1 : Int32)]))] := hD
  refine lv_aload_n hx hb dX9_init_14 rfl (lv_at hl 0 rfl) ?_
  refine lv_iload_n hx hb dX9_init_15 rfl (lv_at hl 2 rfl) ?_
  refine va_putF (D := D) (ci := 7) (v := .int p1) (ty := .int) (C := RX10) (T := TX10) (N := 7) hx hb hts in_X10 tyX10 tyX10_ok nmX10 hown hK.1 hP hD hS 0 rfl rfl 1 (by decide) (hts _ q750) (fun _ h9 => h9) rfl hin rfl (by decide +kernel) rfl rfl (Nat.le_of_ble_eq_true rfl) dX9_init_16 (fun H locs hP hD hS => ?_)
  have hP : va_P D clG [(h_o, .inr (7, [(.ref n_s), .int p1, .int o_wealth, .int o_dies, .int o_near, .int o_asks, .int (-1 : Int32)]))] H := hP
  have hD : va_D A [(h_o, .inr (7, [(.ref n_s), .int p1, .int o_wealth, .int o_dies, .int o_near, .int o_asks, .int (-1 : Int32)]))] := hD
  have hM := Option.some.inj hM
  subst hM
  exact W.vret hx hb hr (fun t ht hW => ⟨⟨(), rfl, trivial, by rw [ht]; exact hP, hD⟩, hS.F ht⟩) hS.2.2 dX9_init_19
def MX10_init (p1 : Int32) : Option (Int32 × Int32) :=
  (MX9_initt0 p1).bind fun r1 =>
  some (r1.1, r1.2)
set_option maxHeartbeats 40000000 in
set_option maxRecDepth 100000 in
theorem ctX10_init (l : Launch) (D : va_G) (dA : Nat → ClassId) (sz : Nat) (n_s : Nat) (h_o : Nat) (p1 : Int32) (o_number : Int32) (o_wealth : Int32) (o_dies : Int32) (o_near : Int32) (o_asks : Int32) (o_went : Int32) (o_name : Value) (res : (Int32 × Int32)) (hM : MX10_init p1 = some res) : Met l yX10_init (ws_ yX10_init cX10_init 3 none) ({ frames := 2, cells := 0, slots := 0, locals := 42 }) (pre_ D dA [.ref h_o, (.ref n_s), .int p1] [(h_o, .inr (7, [o_name, .int o_number, .int o_wealth, .int o_dies, .int o_near, .int o_asks, .int o_went]))] sz) (qv_ D (fun (u : Unit) => [(h_o, .inr (7, [(.ref n_s), .int res.1, .int o_wealth, .int o_dies, .int o_near, .int o_asks, .int res.2]))]) (va_A [(h_o, .inr (7, [o_name, .int o_number, .int o_wealth, .int o_dies, .int o_near, .int o_asks, .int o_went]))] sz)) 0 0 (va_A [(h_o, .inr (7, [o_name, .int o_number, .int o_wealth, .int o_dies, .int o_near, .int o_asks, .int o_went]))] sz) := by
  refine Met.ofW (cc := cX10_init) (maxL := 3) (ret := none) (by decide) rfl ?_
  intro p e s m args below meth c s₁ B hml hv
  obtain ⟨rfl, hsz, hP, hK, hD0⟩ := hv
  have hx := B.exec
  have hb := B.bytes
  have hr := B.returns
  have hts := atoms_spec (ws := (ws_ yX10_init cX10_init 3 none)) B.pre
  have hts : ∀ w ∈ lw_all, w.before _ s = true := fun w h => hts w (List.mem_cons_of_mem _ h)
  have hown : s.vm.findClass RX10 = some m.cls := findClass_of_methodNamed B.named
  have hlocks := B.notSynchronized
  have hin : meth.name = "<init>" := (name_of_methodNamed B.named B.method).1
  subst hsz
  have hD := hD0.self (sz := s.heap.size)
  generalize hAe : va_A [(h_o, .inr (7, [o_name, .int o_number, .int o_wealth, .int o_dies, .int o_near, .int o_asks, .int o_went]))] s.heap.size = A at hD ⊢
  have hA : ∀ q : Nat, s.heap.size ≤ q → A q := fun q h => by rw [← hAe]; exact Or.inr h
  have hS : va_S A s.heap s.heap [] := va_S.rf
  have hP : va_P D clG [(h_o, .inr (7, [o_name, .int o_number, .int o_wealth, .int o_dies, .int o_near, .int o_asks, .int o_went]))] s.heap := hP
  have hl := lv_entry ([.ref h_o, (.ref n_s), .int p1]) (n := 3) (Nat.le_of_ble_eq_true rfl)
  rw [lg_entry_eq]
  generalize (lg_sl ([.ref h_o, (.ref n_s), .int p1]) ++ List.replicate (3 - (lg_sl ([.ref h_o, (.ref n_s), .int p1])).length) Slot.unset).toArray = ls at hl ⊢
  have hl : lv_has ls 3 [(0, .ref h_o), (1, (.ref n_s)), (2, .int p1)] := hl
  unfold MX10_init at hM
  refine lv_aload_n hx hb dX10_init_0 rfl (lv_at hl 0 rfl) ?_
  refine lv_aload_n hx hb dX10_init_1 rfl (lv_at hl 1 rfl) ?_
  refine lv_iload_n hx hb dX10_init_2 rfl (lv_at hl 2 rfl) ?_
  obtain ⟨r1, er1, hM⟩ := b_inv hM
  refine k_v0 [0] (va_runI (As := [(.ref n_s), .int p1]) (rest := []) ⟨hx, hb, hml, hown, hts⟩ (ctX9_initt0 l D dA _ n_s h_o p1 o_number o_wealth o_dies o_near o_asks o_went (o_name) r1 er1) (cwI 2 hts (lw_meth q746) rfl rfl rfl (hts _ q129) (hts _ q744) (hts _ q745) rfl (by decide +kernel) ⟨Nat.le_of_ble_eq_true rfl, Nat.le_of_ble_eq_true rfl⟩) (pre_S (hP.sub [0] rfl) hK (hD.sub [0] (by decide) rfl)) rfl rfl hl.1 rfl (lv_room (Nat.le_of_ble_eq_true rfl)) dX10_init_3 ⟨Nat.le_of_ble_eq_true rfl, Nat.le_of_ble_eq_true rfl⟩) hP hD hS hA rfl (fun _ => rfl) (fun u2 H locs hP hD hS => ?_)
  have hP : va_P D clG [(h_o, .inr (7, [(.ref n_s), .int r1.1, .int o_wealth, .int o_dies, .int o_near, .int o_asks, .int r1.2]))] H := hP
  have hD : va_D A [(h_o, .inr (7, [(.ref n_s), .int r1.1, .int o_wealth, .int o_dies, .int o_near, .int o_asks, .int r1.2]))] := hD
  have hM := Option.some.inj hM
  subst hM
  exact W.vret hx hb hr (fun t ht hW => ⟨⟨(), rfl, trivial, by rw [ht]; exact hP, hD⟩, hS.F ht⟩) hS.2.2 dX10_init_6
def MX9_initt1 (p1 : Int32) : Option (Int32 × Int32) :=
  some (p1, (-1 : Int32))
set_option maxHeartbeats 40000000 in
set_option maxRecDepth 100000 in
theorem ctX9_initt1 (l : Launch) (D : va_G) (dA : Nat → ClassId) (sz : Nat) (n_s : Nat) (h_o : Nat) (p1 : Int32) (o_number : Int32) (o_wealth : Int32) (o_dies : Int32) (o_near : Int32) (o_asks : Int32) (o_went : Int32) (o_name : Value) (res : (Int32 × Int32)) (hM : MX9_initt1 p1 = some res) : Met l yX9_init (ws_ yX9_init cX9_init 3 none) ({ frames := 1, cells := 0, slots := 0, locals := 20 }) (pre_ D dA [.ref h_o, (.ref n_s), .int p1] [(h_o, .inr (8, [o_name, .int o_number, .int o_wealth, .int o_dies, .int o_near, .int o_asks, .int o_went]))] sz) (qv_ D (fun (u : Unit) => [(h_o, .inr (8, [(.ref n_s), .int res.1, .int o_wealth, .int o_dies, .int o_near, .int o_asks, .int res.2]))]) (va_A [(h_o, .inr (8, [o_name, .int o_number, .int o_wealth, .int o_dies, .int o_near, .int o_asks, .int o_went]))] sz)) 0 0 (va_A [(h_o, .inr (8, [o_name, .int o_number, .int o_wealth, .int o_dies, .int o_near, .int o_asks, .int o_went]))] sz) := by
  refine Met.ofW (cc := cX9_init) (maxL := 3) (ret := none) (by decide) rfl ?_
  intro p e s m args below meth c s₁ B hml hv
  obtain ⟨rfl, hsz, hP, hK, hD0⟩ := hv
  have hx := B.exec
  have hb := B.bytes
  have hr := B.returns
  have hts := atoms_spec (ws := (ws_ yX9_init cX9_init 3 none)) B.pre
  have hts : ∀ w ∈ lw_all, w.before _ s = true := fun w h => hts w (List.mem_cons_of_mem _ h)
  have hown : s.vm.findClass RX9 = some m.cls := findClass_of_methodNamed B.named
  have hlocks := B.notSynchronized
  have hin : meth.name = "<init>" := (name_of_methodNamed B.named B.method).1
  subst hsz
  have hD := hD0.self (sz := s.heap.size)
  generalize hAe : va_A [(h_o, .inr (8, [o_name, .int o_number, .int o_wealth, .int o_dies, .int o_near, .int o_asks, .int o_went]))] s.heap.size = A at hD ⊢
  have hA : ∀ q : Nat, s.heap.size ≤ q → A q := fun q h => by rw [← hAe]; exact Or.inr h
  have hS : va_S A s.heap s.heap [] := va_S.rf
  have hP : va_P D clG [(h_o, .inr (8, [o_name, .int o_number, .int o_wealth, .int o_dies, .int o_near, .int o_asks, .int o_went]))] s.heap := hP
  have hl := lv_entry ([.ref h_o, (.ref n_s), .int p1]) (n := 3) (Nat.le_of_ble_eq_true rfl)
  rw [lg_entry_eq]
  generalize (lg_sl ([.ref h_o, (.ref n_s), .int p1]) ++ List.replicate (3 - (lg_sl ([.ref h_o, (.ref n_s), .int p1])).length) Slot.unset).toArray = ls at hl ⊢
  have hl : lv_has ls 3 [(0, .ref h_o), (1, (.ref n_s)), (2, .int p1)] := hl
  unfold MX9_initt1 at hM
  refine lv_aload_n hx hb dX9_init_0 rfl (lv_at hl 0 rfl) ?_
  refine W.objInit hx hb hown (hts _ q747) (hts _ q144) (hts _ q145) rfl (by rw [hml]; exact hl.1) rfl dX9_init_1 (Nat.le_of_ble_eq_true rfl) (Nat.le_of_ble_eq_true rfl) ?_
  refine W.eq (g2 := F0 m 4 ls []) rfl ?_
  refine lv_aload_n hx hb dX9_init_4 rfl (lv_at hl 0 rfl) ?_
  refine lv_iconst (v := (-1 : Int32)) hx hb dX9_init_5 (by decide) ?_
  refine va_put (D := D) (ci := 8) (v := .int (-1 : Int32)) (ty := .int) (C := RX11) (T := TX11) (N := 7) hx hb hts in_X11 tyX11 tyX11_ok nmX11 hown hK.1 hP hD hS 0 rfl rfl 6 (by decide) (hts _ q764) (fun _ h9 => h9) rfl (by decide +kernel) rfl rfl (Nat.le_of_ble_eq_true rfl) dX9_init_6 (fun H locs hP hD hS => ?_)
  have hP : va_P D clG [(h_o, .inr (8, [o_name, .int o_number, .int o_wealth, .int o_dies, .int o_near, .int o_asks, .int (-1 : Int32)]))] H := hP
  have hD : va_D A [(h_o, .inr (8, [o_name, .int o_number, .int o_wealth, .int o_dies, .int o_near, .int o_asks, .int (-1 : Int32)]))] := hD
  refine lv_aload_n hx hb dX9_init_9 rfl (lv_at hl 0 rfl) ?_
  refine lv_aload_n hx hb dX9_init_10 rfl (lv_at hl 1 rfl) ?_
  refine va_putF (D := D) (ci := 8) (v := (.ref n_s)) (ty := (.object "java/lang/String")) (C := RX11) (T := TX11) (N := 7) hx hb hts in_X11 tyX11 tyX11_ok nmX11 hown hK.1 hP hD hS 0 rfl rfl 0 (by decide) (hts _ q748) (fun _ h9 => h9) rfl hin rfl (by decide +kernel) rfl rfl (Nat.le_of_ble_eq_true rfl) dX9_init_11 (fun H locs hP hD hS => ?_)
  have hP : va_P D clG [(h_o, .inr (8, [(.ref n_s), .int o_number, .int o_wealth, .int o_dies, .int o_near, .int o_asks, .int (-1 : Int32)]))] H := hP
  have hD : va_D A [(h_o, .inr (8, [(.ref n_s), .int o_number, .int o_wealth, .int o_dies, .int o_near, .int o_asks, .int (-1 : Int32)]))] := hD
  refine lv_aload_n hx hb dX9_init_14 rfl (lv_at hl 0 rfl) ?_
  refine lv_iload_n hx hb dX9_init_15 rfl (lv_at hl 2 rfl) ?_
  refine va_putF (D := D) (ci := 8) (v := .int p1) (ty := .int) (C := RX11) (T := TX11) (N := 7) hx hb hts in_X11 tyX11 tyX11_ok nmX11 hown hK.1 hP hD hS 0 rfl rfl 1 (by decide) (hts _ q750) (fun _ h9 => h9) rfl hin rfl (by decide +kernel) rfl rfl (Nat.le_of_ble_eq_true rfl) dX9_init_16 (fun H locs hP hD hS => ?_)
  have hP : va_P D clG [(h_o, .inr (8, [(.ref n_s), .int p1, .int o_wealth, .int o_dies, .int o_near, .int o_asks, .int (-1 : Int32)]))] H := hP
  have hD : va_D A [(h_o, .inr (8, [(.ref n_s), .int p1, .int o_wealth, .int o_dies, .int o_near, .int o_asks, .int (-1 : Int32)]))] := hD
  have hM := Option.some.inj hM
  subst hM
  exact W.vret hx hb hr (fun t ht hW => ⟨⟨(), rfl, trivial, by rw [ht]; exact hP, hD⟩, hS.F ht⟩) hS.2.2 dX9_init_19
def MX10_initt1 (p1 : Int32) : Option (Int32 × Int32) :=
  (MX9_initt1 p1).bind fun r1 =>
  some (r1.1, r1.2)
set_option maxHeartbeats 40000000 in
set_option maxRecDepth 100000 in
theorem ctX10_initt1 (l : Launch) (D : va_G) (dA : Nat → ClassId) (sz : Nat) (n_s : Nat) (h_o : Nat) (p1 : Int32) (o_number : Int32) (o_wealth : Int32) (o_dies : Int32) (o_near : Int32) (o_asks : Int32) (o_went : Int32) (o_name : Value) (res : (Int32 × Int32)) (hM : MX10_initt1 p1 = some res) : Met l yX10_init (ws_ yX10_init cX10_init 3 none) ({ frames := 2, cells := 0, slots := 0, locals := 42 }) (pre_ D dA [.ref h_o, (.ref n_s), .int p1] [(h_o, .inr (8, [o_name, .int o_number, .int o_wealth, .int o_dies, .int o_near, .int o_asks, .int o_went]))] sz) (qv_ D (fun (u : Unit) => [(h_o, .inr (8, [(.ref n_s), .int res.1, .int o_wealth, .int o_dies, .int o_near, .int o_asks, .int res.2]))]) (va_A [(h_o, .inr (8, [o_name, .int o_number, .int o_wealth, .int o_dies, .int o_near, .int o_asks, .int o_went]))] sz)) 0 0 (va_A [(h_o, .inr (8, [o_name, .int o_number, .int o_wealth, .int o_dies, .int o_near, .int o_asks, .int o_went]))] sz) := by
  refine Met.ofW (cc := cX10_init) (maxL := 3) (ret := none) (by decide) rfl ?_
  intro p e s m args below meth c s₁ B hml hv
  obtain ⟨rfl, hsz, hP, hK, hD0⟩ := hv
  have hx := B.exec
  have hb := B.bytes
  have hr := B.returns
  have hts := atoms_spec (ws := (ws_ yX10_init cX10_init 3 none)) B.pre
  have hts : ∀ w ∈ lw_all, w.before _ s = true := fun w h => hts w (List.mem_cons_of_mem _ h)
  have hown : s.vm.findClass RX10 = some m.cls := findClass_of_methodNamed B.named
  have hlocks := B.notSynchronized
  have hin : meth.name = "<init>" := (name_of_methodNamed B.named B.method).1
  subst hsz
  have hD := hD0.self (sz := s.heap.size)
  generalize hAe : va_A [(h_o, .inr (8, [o_name, .int o_number, .int o_wealth, .int o_dies, .int o_near, .int o_asks, .int o_went]))] s.heap.size = A at hD ⊢
  have hA : ∀ q : Nat, s.heap.size ≤ q → A q := fun q h => by rw [← hAe]; exact Or.inr h
  have hS : va_S A s.heap s.heap [] := va_S.rf
  have hP : va_P D clG [(h_o, .inr (8, [o_name, .int o_number, .int o_wealth, .int o_dies, .int o_near, .int o_asks, .int o_went]))] s.heap := hP
  have hl := lv_entry ([.ref h_o, (.ref n_s), .int p1]) (n := 3) (Nat.le_of_ble_eq_true rfl)
  rw [lg_entry_eq]
  generalize (lg_sl ([.ref h_o, (.ref n_s), .int p1]) ++ List.replicate (3 - (lg_sl ([.ref h_o, (.ref n_s), .int p1])).length) Slot.unset).toArray = ls at hl ⊢
  have hl : lv_has ls 3 [(0, .ref h_o), (1, (.ref n_s)), (2, .int p1)] := hl
  unfold MX10_initt1 at hM
  refine lv_aload_n hx hb dX10_init_0 rfl (lv_at hl 0 rfl) ?_
  refine lv_aload_n hx hb dX10_init_1 rfl (lv_at hl 1 rfl) ?_
  refine lv_iload_n hx hb dX10_init_2 rfl (lv_at hl 2 rfl) ?_
  obtain ⟨r1, er1, hM⟩ := b_inv hM
  refine k_v0 [0] (va_runI (As := [(.ref n_s), .int p1]) (rest := []) ⟨hx, hb, hml, hown, hts⟩ (ctX9_initt1 l D dA _ n_s h_o p1 o_number o_wealth o_dies o_near o_asks o_went (o_name) r1 er1) (cwI 2 hts (lw_meth q746) rfl rfl rfl (hts _ q129) (hts _ q744) (hts _ q745) rfl (by decide +kernel) ⟨Nat.le_of_ble_eq_true rfl, Nat.le_of_ble_eq_true rfl⟩) (pre_S (hP.sub [0] rfl) hK (hD.sub [0] (by decide) rfl)) rfl rfl hl.1 rfl (lv_room (Nat.le_of_ble_eq_true rfl)) dX10_init_3 ⟨Nat.le_of_ble_eq_true rfl, Nat.le_of_ble_eq_true rfl⟩) hP hD hS hA rfl (fun _ => rfl) (fun u2 H locs hP hD hS => ?_)
  have hP : va_P D clG [(h_o, .inr (8, [(.ref n_s), .int r1.1, .int o_wealth, .int o_dies, .int o_near, .int o_asks, .int r1.2]))] H := hP
  have hD : va_D A [(h_o, .inr (8, [(.ref n_s), .int r1.1, .int o_wealth, .int o_dies, .int o_near, .int o_asks, .int r1.2]))] := hD
  have hM := Option.some.inj hM
  subst hM
  exact W.vret hx hb hr (fun t ht hW => ⟨⟨(), rfl, trivial, by rw [ht]; exact hP, hD⟩, hS.F ht⟩) hS.2.2 dX10_init_6
def MX11_init (p1 : Int32) : Option (Int32 × Int32) :=
  (MX10_initt1 p1).bind fun r1 =>
  some (r1.1, r1.2)
set_option maxHeartbeats 40000000 in
set_option maxRecDepth 100000 in
theorem ctX11_init (l : Launch) (D : va_G) (dA : Nat → ClassId) (sz : Nat) (n_s : Nat) (h_o : Nat) (p1 : Int32) (o_number : Int32) (o_wealth : Int32) (o_dies : Int32) (o_near : Int32) (o_asks : Int32) (o_went : Int32) (o_name : Value) (res : (Int32 × Int32)) (hM : MX11_init p1 = some res) : Met l yX11_init (ws_ yX11_init cX11_init 3 none) ({ frames := 3, cells := 0, slots := 0, locals := 64 }) (pre_ D dA [.ref h_o, (.ref n_s), .int p1] [(h_o, .inr (8, [o_name, .int o_number, .int o_wealth, .int o_dies, .int o_near, .int o_asks, .int o_went]))] sz) (qv_ D (fun (u : Unit) => [(h_o, .inr (8, [(.ref n_s), .int res.1, .int o_wealth, .int o_dies, .int o_near, .int o_asks, .int res.2]))]) (va_A [(h_o, .inr (8, [o_name, .int o_number, .int o_wealth, .int o_dies, .int o_near, .int o_asks, .int o_went]))] sz)) 0 0 (va_A [(h_o, .inr (8, [o_name, .int o_number, .int o_wealth, .int o_dies, .int o_near, .int o_asks, .int o_went]))] sz) := by
  refine Met.ofW (cc := cX11_init) (maxL := 3) (ret := none) (by decide) rfl ?_
  intro p e s m args below meth c s₁ B hml hv
  obtain ⟨rfl, hsz, hP, hK, hD0⟩ := hv
  have hx := B.exec
  have hb := B.bytes
  have hr := B.returns
  have hts := atoms_spec (ws := (ws_ yX11_init cX11_init 3 none)) B.pre
  have hts : ∀ w ∈ lw_all, w.before _ s = true := fun w h => hts w (List.mem_cons_of_mem _ h)
  have hown : s.vm.findClass RX11 = some m.cls := findClass_of_methodNamed B.named
  have hlocks := B.notSynchronized
  have hin : meth.name = "<init>" := (name_of_methodNamed B.named B.method).1
  subst hsz
  have hD := hD0.self (sz := s.heap.size)
  generalize hAe : va_A [(h_o, .inr (8, [o_name, .int o_number, .int o_wealth, .int o_dies, .int o_near, .int o_asks, .int o_went]))] s.heap.size = A at hD ⊢
  have hA : ∀ q : Nat, s.heap.size ≤ q → A q := fun q h => by rw [← hAe]; exact Or.inr h
  have hS : va_S A s.heap s.heap [] := va_S.rf
  have hP : va_P D clG [(h_o, .inr (8, [o_name, .int o_number, .int o_wealth, .int o_dies, .int o_near, .int o_asks, .int o_went]))] s.heap := hP
  have hl := lv_entry ([.ref h_o, (.ref n_s), .int p1]) (n := 3) (Nat.le_of_ble_eq_true rfl)
  rw [lg_entry_eq]
  generalize (lg_sl ([.ref h_o, (.ref n_s), .int p1]) ++ List.replicate (3 - (lg_sl ([.ref h_o, (.ref n_s), .int p1])).length) Slot.unset).toArray = ls at hl ⊢
  have hl : lv_has ls 3 [(0, .ref h_o), (1, (.ref n_s)), (2, .int p1)] := hl
  unfold MX11_init at hM
  refine lv_aload_n hx hb dX11_init_0 rfl (lv_at hl 0 rfl) ?_
  refine lv_aload_n hx hb dX11_init_1 rfl (lv_at hl 1 rfl) ?_
  refine lv_iload_n hx hb dX11_init_2 rfl (lv_at hl 2 rfl) ?_
  obtain ⟨r1, er1, hM⟩ := b_inv hM
  refine k_v0 [0] (va_runI (As := [(.ref n_s), .int p1]) (rest := []) ⟨hx, hb, hml, hown, hts⟩ (ctX10_initt1 l D dA _ n_s h_o p1 o_number o_wealth o_dies o_near o_asks o_went (o_name) r1 er1) (cwI 2 hts (lw_meth q743) rfl rfl rfl (hts _ q130) (hts _ q788) (hts _ q742) rfl (by decide +kernel) ⟨Nat.le_of_ble_eq_true rfl, Nat.le_of_ble_eq_true rfl⟩) (pre_S (hP.sub [0] rfl) hK (hD.sub [0] (by decide) rfl)) rfl rfl hl.1 rfl (lv_room (Nat.le_of_ble_eq_true rfl)) dX11_init_3 ⟨Nat.le_of_ble_eq_true rfl, Nat.le_of_ble_eq_true rfl⟩) hP hD hS hA rfl (fun _ => rfl) (fun u2 H locs hP hD hS => ?_)
  have hP : va_P D clG [(h_o, .inr (8, [(.ref n_s), .int r1.1, .int o_wealth, .int o_dies, .int o_near, .int o_asks, .int r1.2]))] H := hP
  have hD : va_D A [(h_o, .inr (8, [(.ref n_s), .int r1.1, .int o_wealth, .int o_dies, .int o_near, .int o_asks, .int r1.2]))] := hD
  have hM := Option.some.inj hM
  subst hM
  exact W.vret hx hb hr (fun t ht hW => ⟨⟨(), rfl, trivial, by rw [ht]; exact hP, hD⟩, hS.F ht⟩) hS.2.2 dX11_init_6
def MX9_initt2 (p1 : Int32) : Option (Int32 × Int32) :=
  some (p1, (-1 : Int32))
set_option maxHeartbeats 40000000 in
set_option maxRecDepth 100000 in
theorem ctX9_initt2 (l : Launch) (D : va_G) (dA : Nat → ClassId) (sz : Nat) (n_s : Nat) (h_o : Nat) (p1 : Int32) (o_number : Int32) (o_wealth : Int32) (o_dies : Int32) (o_near : Int32) (o_asks : Int32) (o_went : Int32) (o_name : Value) (res : (Int32 × Int32)) (hM : MX9_initt2 p1 = some res) : Met l yX9_init (ws_ yX9_init cX9_init 3 none) ({ frames := 1, cells := 0, slots := 0, locals := 20 }) (pre_ D dA [.ref h_o, (.ref n_s), .int p1] [(h_o, .inr (9, [o_name, .int o_number, .int o_wealth, .int o_dies, .int o_near, .int o_asks, .int o_went]))] sz) (qv_ D (fun (u : Unit) => [(h_o, .inr (9, [(.ref n_s), .int res.1, .int o_wealth, .int o_dies, .int o_near, .int o_asks, .int res.2]))]) (va_A [(h_o, .inr (9, [o_name, .int o_number, .int o_wealth, .int o_dies, .int o_near, .int o_asks, .int o_went]))] sz)) 0 0 (va_A [(h_o, .inr (9, [o_name, .int o_number, .int o_wealth, .int o_dies, .int o_near, .int o_asks, .int o_went]))] sz) := by
  refine Met.ofW (cc := cX9_init) (maxL := 3) (ret := none) (by decide) rfl ?_
  intro p e s m args below meth c s₁ B hml hv
  obtain ⟨rfl, hsz, hP, hK, hD0⟩ := hv
  have hx := B.exec
  have hb := B.bytes
  have hr := B.returns
  have hts := atoms_spec (ws := (ws_ yX9_init cX9_init 3 none)) B.pre
  have hts : ∀ w ∈ lw_all, w.before _ s = true := fun w h => hts w (List.mem_cons_of_mem _ h)
  have hown : s.vm.findClass RX9 = some m.cls := findClass_of_methodNamed B.named
  have hlocks := B.notSynchronized
  have hin : meth.name = "<init>" := (name_of_methodNamed B.named B.method).1
  subst hsz
  have hD := hD0.self (sz := s.heap.size)
  generalize hAe : va_A [(h_o, .inr (9, [o_name, .int o_number, .int o_wealth, .int o_dies, .int o_near, .int o_asks, .int o_went]))] s.heap.size = A at hD ⊢
  have hA : ∀ q : Nat, s.heap.size ≤ q → A q := fun q h => by rw [← hAe]; exact Or.inr h
  have hS : va_S A s.heap s.heap [] := va_S.rf
  have hP : va_P D clG [(h_o, .inr (9, [o_name, .int o_number, .int o_wealth, .int o_dies, .int o_near, .int o_asks, .int o_went]))] s.heap := hP
  have hl := lv_entry ([.ref h_o, (.ref n_s), .int p1]) (n := 3) (Nat.le_of_ble_eq_true rfl)
  rw [lg_entry_eq]
  generalize (lg_sl ([.ref h_o, (.ref n_s), .int p1]) ++ List.replicate (3 - (lg_sl ([.ref h_o, (.ref n_s), .int p1])).length) Slot.unset).toArray = ls at hl ⊢
  have hl : lv_has ls 3 [(0, .ref h_o), (1, (.ref n_s)), (2, .int p1)] := hl
  unfold MX9_initt2 at hM
  refine lv_aload_n hx hb dX9_init_0 rfl (lv_at hl 0 rfl) ?_
  refine W.objInit hx hb hown (hts _ q747) (hts _ q144) (hts _ q145) rfl (by rw [hml]; exact hl.1) rfl dX9_init_1 (Nat.le_of_ble_eq_true rfl) (Nat.le_of_ble_eq_true rfl) ?_
  refine W.eq (g2 := F0 m 4 ls []) rfl ?_
  refine lv_aload_n hx hb dX9_init_4 rfl (lv_at hl 0 rfl) ?_
  refine lv_iconst (v := (-1 : Int32)) hx hb dX9_init_5 (by decide) ?_
  refine va_put (D := D) (ci := 9) (v := .int (-1 : Int32)) (ty := .int) (C := RX12) (T := TX12) (N := 7) hx hb hts in_X12 tyX12 tyX12_ok nmX12 hown hK.1 hP hD hS 0 rfl rfl 6 (by decide) (hts _ q764) (fun _ h9 => h9) rfl (by decide +kernel) rfl rfl (Nat.le_of_ble_eq_true rfl) dX9_init_6 (fun H locs hP hD hS => ?_)
  have hP : va_P D clG [(h_o, .inr (9, [o_name, .int o_number, .int o_wealth, .int o_dies, .int o_near, .int o_asks, .int (-1 : Int32)]))] H := hP
  have hD : va_D A [(h_o, .inr (9, [o_name, .int o_number, .int o_wealth, .int o_dies, .int o_near, .int o_asks, .int (-1 : Int32)]))] := hD
  refine lv_aload_n hx hb dX9_init_9 rfl (lv_at hl 0 rfl) ?_
  refine lv_aload_n hx hb dX9_init_10 rfl (lv_at hl 1 rfl) ?_
  refine va_putF (D := D) (ci := 9) (v := (.ref n_s)) (ty := (.object "java/lang/String")) (C := RX12) (T := TX12) (N := 7) hx hb hts in_X12 tyX12 tyX12_ok nmX12 hown hK.1 hP hD hS 0 rfl rfl 0 (by decide) (hts _ q748) (fun _ h9 => h9) rfl hin rfl (by decide +kernel) rfl rfl (Nat.le_of_ble_eq_true rfl) dX9_init_11 (fun H locs hP hD hS => ?_)
  have hP : va_P D clG [(h_o, .inr (9, [(.ref n_s), .int o_number, .int o_wealth, .int o_dies, .int o_near, .int o_asks, .int (-1 : Int32)]))] H := hP
  have hD : va_D A [(h_o, .inr (9, [(.ref n_s), .int o_number, .int o_wealth, .int o_dies, .int o_near, .int o_asks, .int (-1 : Int32)]))] := hD
  refine lv_aload_n hx hb dX9_init_14 rfl (lv_at hl 0 rfl) ?_
  refine lv_iload_n hx hb dX9_init_15 rfl (lv_at hl 2 rfl) ?_
  refine va_putF (D := D) (ci := 9) (v := .int p1) (ty := .int) (C := RX12) (T := TX12) (N := 7) hx hb hts in_X12 tyX12 tyX12_ok nmX12 hown hK.1 hP hD hS 0 rfl rfl 1 (by decide) (hts _ q750) (fun _ h9 => h9) rfl hin rfl (by decide +kernel) rfl rfl (Nat.le_of_ble_eq_true rfl) dX9_init_16 (fun H locs hP hD hS => ?_)
  have hP : va_P D clG [(h_o, .inr (9, [(.ref n_s), .int p1, .int o_wealth, .int o_dies, .int o_near, .int o_asks, .int (-1 : Int32)]))] H := hP
  have hD : va_D A [(h_o, .inr (9, [(.ref n_s), .int p1, .int o_wealth, .int o_dies, .int o_near, .int o_asks, .int (-1 : Int32)]))] := hD
  have hM := Option.some.inj hM
  subst hM
  exact W.vret hx hb hr (fun t ht hW => ⟨⟨(), rfl, trivial, by rw [ht]; exact hP, hD⟩, hS.F ht⟩) hS.2.2 dX9_init_19
def MX10_initt2 (p1 : Int32) : Option (Int32 × Int32) :=
  (MX9_initt2 p1).bind fun r1 =>
  some (r1.1, r1.2)
set_option maxHeartbeats 40000000 in
set_option maxRecDepth 100000 in
theorem ctX10_initt2 (l : Launch) (D : va_G) (dA : Nat → ClassId) (sz : Nat) (n_s : Nat) (h_o : Nat) (p1 : Int32) (o_number : Int32) (o_wealth : Int32) (o_dies : Int32) (o_near : Int32) (o_asks : Int32) (o_went : Int32) (o_name : Value) (res : (Int32 × Int32)) (hM : MX10_initt2 p1 = some res) : Met l yX10_init (ws_ yX10_init cX10_init 3 none) ({ frames := 2, cells := 0, slots := 0, locals := 42 }) (pre_ D dA [.ref h_o, (.ref n_s), .int p1] [(h_o, .inr (9, [o_name, .int o_number, .int o_wealth, .int o_dies, .int o_near, .int o_asks, .int o_went]))] sz) (qv_ D (fun (u : Unit) => [(h_o, .inr (9, [(.ref n_s), .int res.1, .int o_wealth, .int o_dies, .int o_near, .int o_asks, .int res.2]))]) (va_A [(h_o, .inr (9, [o_name, .int o_number, .int o_wealth, .int o_dies, .int o_near, .int o_asks, .int o_went]))] sz)) 0 0 (va_A [(h_o, .inr (9, [o_name, .int o_number, .int o_wealth, .int o_dies, .int o_near, .int o_asks, .int o_went]))] sz) := by
  refine Met.ofW (cc := cX10_init) (maxL := 3) (ret := none) (by decide) rfl ?_
  intro p e s m args below meth c s₁ B hml hv
  obtain ⟨rfl, hsz, hP, hK, hD0⟩ := hv
  have hx := B.exec
  have hb := B.bytes
  have hr := B.returns
  have hts := atoms_spec (ws := (ws_ yX10_init cX10_init 3 none)) B.pre
  have hts : ∀ w ∈ lw_all, w.before _ s = true := fun w h => hts w (List.mem_cons_of_mem _ h)
  have hown : s.vm.findClass RX10 = some m.cls := findClass_of_methodNamed B.named
  have hlocks := B.notSynchronized
  have hin : meth.name = "<init>" := (name_of_methodNamed B.named B.method).1
  subst hsz
  have hD := hD0.self (sz := s.heap.size)
  generalize hAe : va_A [(h_o, .inr (9, [o_name, .int o_number, .int o_wealth, .int o_dies, .int o_near, .int o_asks, .int o_went]))] s.heap.size = A at hD ⊢
  have hA : ∀ q : Nat, s.heap.size ≤ q → A q := fun q h => by rw [← hAe]; exact Or.inr h
  have hS : va_S A s.heap s.heap [] := va_S.rf
  have hP : va_P D clG [(h_o, .inr (9, [o_name, .int o_number, .int o_wealth, .int o_dies, .int o_near, .int o_asks, .int o_went]))] s.heap := hP
  have hl := lv_entry ([.ref h_o, (.ref n_s), .int p1]) (n := 3) (Nat.le_of_ble_eq_true rfl)
  rw [lg_entry_eq]
  generalize (lg_sl ([.ref h_o, (.ref n_s), .int p1]) ++ List.replicate (3 - (lg_sl ([.ref h_o, (.ref n_s), .int p1])).length) Slot.unset).toArray = ls at hl ⊢
  have hl : lv_has ls 3 [(0, .ref h_o), (1, (.ref n_s)), (2, .int p1)] := hl
  unfold MX10_initt2 at hM
  refine lv_aload_n hx hb dX10_init_0 rfl (lv_at hl 0 rfl) ?_
  refine lv_aload_n hx hb dX10_init_1 rfl (lv_at hl 1 rfl) ?_
  refine lv_iload_n hx hb dX10_init_2 rfl (lv_at hl 2 rfl) ?_
  obtain ⟨r1, er1, hM⟩ := b_inv hM
  refine k_v0 [0] (va_runI (As := [(.ref n_s), .int p1]) (rest := []) ⟨hx, hb, hml, hown, hts⟩ (ctX9_initt2 l D dA _ n_s h_o p1 o_number o_wealth o_dies o_near o_asks o_went (o_name) r1 er1) (cwI 2 hts (lw_meth q746) rfl rfl rfl (hts _ q129) (hts _ q744) (hts _ q745) rfl (by decide +kernel) ⟨Nat.le_of_ble_eq_true rfl, Nat.le_of_ble_eq_true rfl⟩) (pre_S (hP.sub [0] rfl) hK (hD.sub [0] (by decide) rfl)) rfl rfl hl.1 rfl (lv_room (Nat.le_of_ble_eq_true rfl)) dX10_init_3 ⟨Nat.le_of_ble_eq_true rfl, Nat.le_of_ble_eq_true rfl⟩) hP hD hS hA rfl (fun _ => rfl) (fun u2 H locs hP hD hS => ?_)
  have hP : va_P D clG [(h_o, .inr (9, [(.ref n_s), .int r1.1, .int o_wealth, .int o_dies, .int o_near, .int o_asks, .int r1.2]))] H := hP
  have hD : va_D A [(h_o, .inr (9, [(.ref n_s), .int r1.1, .int o_wealth, .int o_dies, .int o_near, .int o_asks, .int r1.2]))] := hD
  have hM := Option.some.inj hM
  subst hM
  exact W.vret hx hb hr (fun t ht hW => ⟨⟨(), rfl, trivial, by rw [ht]; exact hP, hD⟩, hS.F ht⟩) hS.2.2 dX10_init_6
def MX12_init (p1 : Int32) : Option (Int32 × Int32) :=
  (MX10_initt2 p1).bind fun r1 =>
  some (r1.1, r1.2)
set_option maxHeartbeats 40000000 in
set_option maxRecDepth 100000 in
theorem ctX12_init (l : Launch) (D : va_G) (dA : Nat → ClassId) (sz : Nat) (n_s : Nat) (h_o : Nat) (p1 : Int32) (o_number : Int32) (o_wealth : Int32) (o_dies : Int32) (o_near : Int32) (o_asks : Int32) (o_went : Int32) (o_name : Value) (res : (Int32 × Int32)) (hM : MX12_init p1 = some res) : Met l yX12_init (ws_ yX12_init cX12_init 3 none) ({ frames := 3, cells := 0, slots := 0, locals := 64 }) (pre_ D dA [.ref h_o, (.ref n_s), .int p1] [(h_o, .inr (9, [o_name, .int o_number, .int o_wealth, .int o_dies, .int o_near, .int o_asks, .int o_went]))] sz) (qv_ D (fun (u : Unit) => [(h_o, .inr (9, [(.ref n_s), .int res.1, .int o_wealth, .int o_dies, .int o_near, .int o_asks, .int res.2]))]) (va_A [(h_o, .inr (9, [o_name, .int o_number, .int o_wealth, .int o_dies, .int o_near, .int o_asks, .int o_went]))] sz)) 0 0 (va_A [(h_o, .inr (9, [o_name, .int o_number, .int o_wealth, .int o_dies, .int o_near, .int o_asks, .int o_went]))] sz) := by
  refine Met.ofW (cc := cX12_init) (maxL := 3) (ret := none) (by decide) rfl ?_
  intro p e s m args below meth c s₁ B hml hv
  obtain ⟨rfl, hsz, hP, hK, hD0⟩ := hv
  have hx := B.exec
  have hb := B.bytes
  have hr := B.returns
  have hts := atoms_spec (ws := (ws_ yX12_init cX12_init 3 none)) B.pre
  have hts : ∀ w ∈ lw_all, w.before _ s = true := fun w h => hts w (List.mem_cons_of_mem _ h)
  have hown : s.vm.findClass RX12 = some m.cls := findClass_of_methodNamed B.named
  have hlocks := B.notSynchronized
  have hin : meth.name = "<init>" := (name_of_methodNamed B.named B.method).1
  subst hsz
  have hD := hD0.self (sz := s.heap.size)
  generalize hAe : va_A [(h_o, .inr (9, [o_name, .int o_number, .int o_wealth, .int o_dies, .int o_near, .int o_asks, .int o_went]))] s.heap.size = A at hD ⊢
  have hA : ∀ q : Nat, s.heap.size ≤ q → A q := fun q h => by rw [← hAe]; exact Or.inr h
  have hS : va_S A s.heap s.heap [] := va_S.rf
  have hP : va_P D clG [(h_o, .inr (9, [o_name, .int o_number, .int o_wealth, .int o_dies, .int o_near, .int o_asks, .int o_went]))] s.heap := hP
  have hl := lv_entry ([.ref h_o, (.ref n_s), .int p1]) (n := 3) (Nat.le_of_ble_eq_true rfl)
  rw [lg_entry_eq]
  generalize (lg_sl ([.ref h_o, (.ref n_s), .int p1]) ++ List.replicate (3 - (lg_sl ([.ref h_o, (.ref n_s), .int p1])).length) Slot.unset).toArray = ls at hl ⊢
  have hl : lv_has ls 3 [(0, .ref h_o), (1, (.ref n_s)), (2, .int p1)] := hl
  unfold MX12_init at hM
  refine lv_aload_n hx hb dX12_init_0 rfl (lv_at hl 0 rfl) ?_
  refine lv_aload_n hx hb dX12_init_1 rfl (lv_at hl 1 rfl) ?_
  refine lv_iload_n hx hb dX12_init_2 rfl (lv_at hl 2 rfl) ?_
  obtain ⟨r1, er1, hM⟩ := b_inv hM
  refine k_v0 [0] (va_runI (As := [(.ref n_s), .int p1]) (rest := []) ⟨hx, hb, hml, hown, hts⟩ (ctX10_initt2 l D dA _ n_s h_o p1 o_number o_wealth o_dies o_near o_asks o_went (o_name) r1 er1) (cwI 2 hts (lw_meth q743) rfl rfl rfl (hts _ q130) (hts _ q803) (hts _ q742) rfl (by decide +kernel) ⟨Nat.le_of_ble_eq_true rfl, Nat.le_of_ble_eq_true rfl⟩) (pre_S (hP.sub [0] rfl) hK (hD.sub [0] (by decide) rfl)) rfl rfl hl.1 rfl (lv_room (Nat.le_of_ble_eq_true rfl)) dX12_init_3 ⟨Nat.le_of_ble_eq_true rfl, Nat.le_of_ble_eq_true rfl⟩) hP hD hS hA rfl (fun _ => rfl) (fun u2 H locs hP hD hS => ?_)
  have hP : va_P D clG [(h_o, .inr (9, [(.ref n_s), .int r1.1, .int o_wealth, .int o_dies, .int o_near, .int o_asks, .int r1.2]))] H := hP
  have hD : va_D A [(h_o, .inr (9, [(.ref n_s), .int r1.1, .int o_wealth, .int o_dies, .int o_near, .int o_asks, .int r1.2]))] := hD
  have hM := Option.some.inj hM
  subst hM
  exact W.vret hx hb hr (fun t ht hW => ⟨⟨(), rfl, trivial, by rw [ht]; exact hP, hD⟩, hS.F ht⟩) hS.2.2 dX12_init_6
def MX9_initt3 (p1 : Int32) : Option (Int32 × Int32) :=
  some (p1, (-1 : Int32))
set_option maxHeartbeats 40000000 in
set_option maxRecDepth 100000 in
theorem ctX9_initt3 (l : Launch) (D : va_G) (dA : Nat → ClassId) (sz : Nat) (n_s : Nat) (h_o : Nat) (p1 : Int32) (o_number : Int32) (o_wealth : Int32) (o_dies : Int32) (o_near : Int32) (o_asks : Int32) (o_went : Int32) (o_name : Value) (res : (Int32 × Int32)) (hM : MX9_initt3 p1 = some res) : Met l yX9_init (ws_ yX9_init cX9_init 3 none) ({ frames := 1, cells := 0, slots := 0, locals := 20 }) (pre_ D dA [.ref h_o, (.ref n_s), .int p1] [(h_o, .inr (10, [o_name, .int o_number, .int o_wealth, .int o_dies, .int o_near, .int o_asks, .int o_went]))] sz) (qv_ D (fun (u : Unit) => [(h_o, .inr (10, [(.ref n_s), .int res.1, .int o_wealth, .int o_dies, .int o_near, .int o_asks, .int res.2]))]) (va_A [(h_o, .inr (10, [o_name, .int o_number, .int o_wealth, .int o_dies, .int o_near, .int o_asks, .int o_went]))] sz)) 0 0 (va_A [(h_o, .inr (10, [o_name, .int o_number, .int o_wealth, .int o_dies, .int o_near, .int o_asks, .int o_went]))] sz) := by
  refine Met.ofW (cc := cX9_init) (maxL := 3) (ret := none) (by decide) rfl ?_
  intro p e s m args below meth c s₁ B hml hv
  obtain ⟨rfl, hsz, hP, hK, hD0⟩ := hv
  have hx := B.exec
  have hb := B.bytes
  have hr := B.returns
  have hts := atoms_spec (ws := (ws_ yX9_init cX9_init 3 none)) B.pre
  have hts : ∀ w ∈ lw_all, w.before _ s = true := fun w h => hts w (List.mem_cons_of_mem _ h)
  have hown : s.vm.findClass RX9 = some m.cls := findClass_of_methodNamed B.named
  have hlocks := B.notSynchronized
  have hin : meth.name = "<init>" := (name_of_methodNamed B.named B.method).1
  subst hsz
  have hD := hD0.self (sz := s.heap.size)
  generalize hAe : va_A [(h_o, .inr (10, [o_name, .int o_number, .int o_wealth, .int o_dies, .int o_near, .int o_asks, .int o_went]))] s.heap.size = A at hD ⊢
  have hA : ∀ q : Nat, s.heap.size ≤ q → A q := fun q h => by rw [← hAe]; exact Or.inr h
  have hS : va_S A s.heap s.heap [] := va_S.rf
  have hP : va_P D clG [(h_o, .inr (10, [o_name, .int o_number, .int o_wealth, .int o_dies, .int o_near, .int o_asks, .int o_went]))] s.heap := hP
  have hl := lv_entry ([.ref h_o, (.ref n_s), .int p1]) (n := 3) (Nat.le_of_ble_eq_true rfl)
  rw [lg_entry_eq]
  generalize (lg_sl ([.ref h_o, (.ref n_s), .int p1]) ++ List.replicate (3 - (lg_sl ([.ref h_o, (.ref n_s), .int p1])).length) Slot.unset).toArray = ls at hl ⊢
  have hl : lv_has ls 3 [(0, .ref h_o), (1, (.ref n_s)), (2, .int p1)] := hl
  unfold MX9_initt3 at hM
  refine lv_aload_n hx hb dX9_init_0 rfl (lv_at hl 0 rfl) ?_
  refine W.objInit hx hb hown (hts _ q747) (hts _ q144) (hts _ q145) rfl (by rw [hml]; exact hl.1) rfl dX9_init_1 (Nat.le_of_ble_eq_true rfl) (Nat.le_of_ble_eq_true rfl) ?_
  refine W.eq (g2 := F0 m 4 ls []) rfl ?_
  refine lv_aload_n hx hb dX9_init_4 rfl (lv_at hl 0 rfl) ?_
  refine lv_iconst (v := (-1 : Int32)) hx hb dX9_init_5 (by decide) ?_
  refine va_put (D := D) (ci := 10) (v := .int (-1 : Int32)) (ty := .int) (C := RX13) (T := TX13) (N := 7) hx hb hts in_X13 tyX13 tyX13_ok nmX13 hown hK.1 hP hD hS 0 rfl rfl 6 (by decide) (hts _ q764) (fun _ h9 => h9) rfl (by decide +kernel) rfl rfl (Nat.le_of_ble_eq_true rfl) dX9_init_6 (fun H locs hP hD hS => ?_)
  have hP : va_P D clG [(h_o, .inr (10, [o_name, .int o_number, .int o_wealth, .int o_dies, .int o_near, .int o_asks, .int (-1 : Int32)]))] H := hP
  have hD : va_D A [(h_o, .inr (10, [o_name, .int o_number, .int o_wealth, .int o_dies, .int o_near, .int o_asks, .int (-1 : Int32)]))] := hD
  refine lv_aload_n hx hb dX9_init_9 rfl (lv_at hl 0 rfl) ?_
  refine lv_aload_n hx hb dX9_init_10 rfl (lv_at hl 1 rfl) ?_
  refine va_putF (D := D) (ci := 10) (v := (.ref n_s)) (ty := (.object "java/lang/String")) (C := RX13) (T := TX13) (N := 7) hx hb hts in_X13 tyX13 tyX13_ok nmX13 hown hK.1 hP hD hS 0 rfl rfl 0 (by decide) (hts _ q748) (fun _ h9 => h9) rfl hin rfl (by decide +kernel) rfl rfl (Nat.le_of_ble_eq_true rfl) dX9_init_11 (fun H locs hP hD hS => ?_)
  have hP : va_P D clG [(h_o, .inr (10, [(.ref n_s), .int o_number, .int o_wealth, .int o_dies, .int o_near, .int o_asks, .int (-1 : Int32)]))] H := hP
  have hD : va_D A [(h_o, .inr (10, [(.ref n_s), .int o_number, .int o_wealth, .int o_dies, .int o_near, .int o_asks, .int (-1 : Int32)]))] := hD
  refine lv_aload_n hx hb dX9_init_14 rfl (lv_at hl 0 rfl) ?_
  refine lv_iload_n hx hb dX9_init_15 rfl (lv_at hl 2 rfl) ?_
  refine va_putF (D := D) (ci := 10) (v := .int p1) (ty := .int) (C := RX13) (T := TX13) (N := 7) hx hb hts in_X13 tyX13 tyX13_ok nmX13 hown hK.1 hP hD hS 0 rfl rfl 1 (by decide) (hts _ q750) (fun _ h9 => h9) rfl hin rfl (by decide +kernel) rfl rfl (Nat.le_of_ble_eq_true rfl) dX9_init_16 (fun H locs hP hD hS => ?_)
  have hP : va_P D clG [(h_o, .inr (10, [(.ref n_s), .int p1, .int o_wealth, .int o_dies, .int o_near, .int o_asks, .int (-1 : Int32)]))] H := hP
  have hD : va_D A [(h_o, .inr (10, [(.ref n_s), .int p1, .int o_wealth, .int o_dies, .int o_near, .int o_asks, .int (-1 : Int32)]))] := hD
  have hM := Option.some.inj hM
  subst hM
  exact W.vret hx hb hr (fun t ht hW => ⟨⟨(), rfl, trivial, by rw [ht]; exact hP, hD⟩, hS.F ht⟩) hS.2.2 dX9_init_19
def MX13_init (p1 : Int32) : Option (Int32 × Int32) :=
  (MX9_initt3 p1).bind fun r1 =>
  some (r1.1, r1.2)
set_option maxHeartbeats 40000000 in
set_option maxRecDepth 100000 in
theorem ctX13_init (l : Launch) (D : va_G) (dA : Nat → ClassId) (sz : Nat) (n_s : Nat) (h_o : Nat) (p1 : Int32) (o_number : Int32) (o_wealth : Int32) (o_dies : Int32) (o_near : Int32) (o_asks : Int32) (o_went : Int32) (o_name : Value) (res : (Int32 × Int32)) (hM : MX13_init p1 = some res) : Met l yX13_init (ws_ yX13_init cX13_init 3 none) ({ frames := 2, cells := 0, slots := 0, locals := 42 }) (pre_ D dA [.ref h_o, (.ref n_s), .int p1] [(h_o, .inr (10, [o_name, .int o_number, .int o_wealth, .int o_dies, .int o_near, .int o_asks, .int o_went]))] sz) (qv_ D (fun (u : Unit) => [(h_o, .inr (10, [(.ref n_s), .int res.1, .int o_wealth, .int o_dies, .int o_near, .int o_asks, .int res.2]))]) (va_A [(h_o, .inr (10, [o_name, .int o_number, .int o_wealth, .int o_dies, .int o_near, .int o_asks, .int o_went]))] sz)) 0 0 (va_A [(h_o, .inr (10, [o_name, .int o_number, .int o_wealth, .int o_dies, .int o_near, .int o_asks, .int o_went]))] sz) := by
  refine Met.ofW (cc := cX13_init) (maxL := 3) (ret := none) (by decide) rfl ?_
  intro p e s m args below meth c s₁ B hml hv
  obtain ⟨rfl, hsz, hP, hK, hD0⟩ := hv
  have hx := B.exec
  have hb := B.bytes
  have hr := B.returns
  have hts := atoms_spec (ws := (ws_ yX13_init cX13_init 3 none)) B.pre
  have hts : ∀ w ∈ lw_all, w.before _ s = true := fun w h => hts w (List.mem_cons_of_mem _ h)
  have hown : s.vm.findClass RX13 = some m.cls := findClass_of_methodNamed B.named
  have hlocks := B.notSynchronized
  have hin : meth.name = "<init>" := (name_of_methodNamed B.named B.method).1
  subst hsz
  have hD := hD0.self (sz := s.heap.size)
  generalize hAe : va_A [(h_o, .inr (10, [o_name, .int o_number, .int o_wealth, .int o_dies, .int o_near, .int o_asks, .int o_went]))] s.heap.size = A at hD ⊢
  have hA : ∀ q : Nat, s.heap.size ≤ q → A q := fun q h => by rw [← hAe]; exact Or.inr h
  have hS : va_S A s.heap s.heap [] := va_S.rf
  have hP : va_P D clG [(h_o, .inr (10, [o_name, .int o_number, .int o_wealth, .int o_dies, .int o_near, .int o_asks, .int o_went]))] s.heap := hP
  have hl := lv_entry ([.ref h_o, (.ref n_s), .int p1]) (n := 3) (Nat.le_of_ble_eq_true rfl)
  rw [lg_entry_eq]
  generalize (lg_sl ([.ref h_o, (.ref n_s), .int p1]) ++ List.replicate (3 - (lg_sl ([.ref h_o, (.ref n_s), .int p1])).length) Slot.unset).toArray = ls at hl ⊢
  have hl : lv_has ls 3 [(0, .ref h_o), (1, (.ref n_s)), (2, .int p1)] := hl
  unfold MX13_init at hM
  refine lv_aload_n hx hb dX13_init_0 rfl (lv_at hl 0 rfl) ?_
  refine lv_aload_n hx hb dX13_init_1 rfl (lv_at hl 1 rfl) ?_
  refine lv_iload_n hx hb dX13_init_2 rfl (lv_at hl 2 rfl) ?_
  obtain ⟨r1, er1, hM⟩ := b_inv hM
  refine k_v0 [0] (va_runI (As := [(.ref n_s), .int p1]) (rest := []) ⟨hx, hb, hml, hown, hts⟩ (ctX9_initt3 l D dA _ n_s h_o p1 o_number o_wealth o_dies o_near o_asks o_went (o_name) r1 er1) (cwI 2 hts (lw_meth q746) rfl rfl rfl (hts _ q129) (hts _ q818) (hts _ q745) rfl (by decide +kernel) ⟨Nat.le_of_ble_eq_true rfl, Nat.le_of_ble_eq_true rfl⟩) (pre_S (hP.sub [0] rfl) hK (hD.sub [0] (by decide) rfl)) rfl rfl hl.1 rfl (lv_room (Nat.le_of_ble_eq_true rfl)) dX13_init_3 ⟨Nat.le_of_ble_eq_true rfl, Nat.le_of_ble_eq_true rfl⟩) hP hD hS hA rfl (fun _ => rfl) (fun u2 H locs hP hD hS => ?_)
  have hP : va_P D clG [(h_o, .inr (10, [(.ref n_s), .int r1.1, .int o_wealth, .int o_dies, .int o_near, .int o_asks, .int r1.2]))] H := hP
  have hD : va_D A [(h_o, .inr (10, [(.ref n_s), .int r1.1, .int o_wealth, .int o_dies, .int o_near, .int o_asks, .int r1.2]))] := hD
  have hM := Option.some.inj hM
  subst hM
  exact W.vret hx hb hr (fun t ht hW => ⟨⟨(), rfl, trivial, by rw [ht]; exact hP, hD⟩, hS.F ht⟩) hS.2.2 dX13_init_6
