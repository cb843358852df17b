set_option maxRecDepth 100000
set_option maxHeartbeats 40000000 in
set_option maxRecDepth 100000 in
theorem ctX1_in (l : Launch) (D : va_G) (dA : Nat → ClassId) (sz : Nat) (p0 : Int32) (p1 : Int32) (p2 : Int32) (res : Bool) (hM : MX1_in p0 p1 p2 = some res) : Met l yX1_in (ws_ yX1_in cX1_in 3 (some .boolean)) ({ frames := 0, cells := 0, slots := 0, locals := 0 }) (pre_ D dA [.int p0, .int p1, .int p2] [] sz) (qi_ D (b2i res) (fun (u : Unit) => []) (va_A [] sz)) 0 0 (va_A [] sz) := by
  refine Met.ofW (cc := cX1_in) (maxL := 3) (ret := (some .boolean)) (by decide) rfl ?_
  intro p e s m args below meth c s₁ B hml hv
  obtain ⟨rfl, hsz, hP, hK, hD0⟩ := hv
  have hx := B.exec
  have hb := B.bytes
  have hr := B.returns
  have hts := atoms_spec (ws := (ws_ yX1_in cX1_in 3 (some .boolean))) B.pre
  have hts : ∀ w ∈ lw_all, w.before _ s = true := fun w h => hts w (List.mem_cons_of_mem _ h)
  have hown : s.vm.findClass RX1 = some m.cls := findClass_of_methodNamed B.named
  have hlocks := B.notSynchronized
  subst hsz
  have hD := hD0.self (sz := s.heap.size)
  generalize hAe : va_A [] s.heap.size = A at hD ⊢
  have hA : ∀ q : Nat, s.heap.size ≤ q → A q := fun q h => by rw [← hAe]; exact Or.inr h
  have hS : va_S A s.heap s.heap [] := va_S.rf
  have hP : va_P D clG [] s.heap := hP
  have hl := lv_entry ([.int p0, .int p1, .int p2]) (n := 3) (Nat.le_of_ble_eq_true rfl)
  rw [lg_entry_eq]
  generalize (lg_sl ([.int p0, .int p1, .int p2]) ++ List.replicate (3 - (lg_sl ([.int p0, .int p1, .int p2])).length) Slot.unset).toArray = ls at hl ⊢
  have hl : lv_has ls 3 [(0, .int p0), (1, .int p1), (2, .int p2)] := hl
  unfold MX1_in at hM
  refine lv_iload_n hx hb dX1_in_0 rfl (lv_at hl 0 rfl) ?_
  refine lv_iload_n hx hb dX1_in_1 rfl (lv_at hl 1 rfl) ?_
  refine lv_icmp_lt (tgt := 14) hx hb dX1_in_2 (by decide) (fun c1 => ?_) (fun c1 => ?_)
  · rw [if_pos c1] at hM
    refine lv_iconst (v := (0 : Int32)) hx hb dX1_in_14 (by decide) ?_
    have hM := Option.some.inj hM
    subst hM
    exact W.zret (v := b2i false) hx hb hr (nar_b _) (fun t ht hW => ⟨⟨b2i false, (), rfl, rfl, by rw [ht]; exact hP, hD⟩, hS.F ht⟩) hS.2.2 dX1_in_15
  · rw [if_neg c1] at hM
    refine lv_iload_n hx hb dX1_in_5 rfl (lv_at hl 0 rfl) ?_
    refine lv_iload_n hx hb dX1_in_6 rfl (lv_at hl 2 rfl) ?_
    refine lv_icmp_gt (tgt := 14) hx hb dX1_in_7 (by decide) (fun c2 => ?_) (fun c2 => ?_)
    · rw [if_pos c2] at hM
      refine lv_iconst (v := (0 : Int32)) hx hb dX1_in_14 (by decide) ?_
      have hM := Option.some.inj hM
      subst hM
      exact W.zret (v := b2i false) hx hb hr (nar_b _) (fun t ht hW => ⟨⟨b2i false, (), rfl, rfl, by rw [ht]; exact hP, hD⟩, hS.F ht⟩) hS.2.2 dX1_in_15
    · rw [if_neg c2] at hM
      refine lv_iconst (v := (1 : Int32)) hx hb dX1_in_10 (by decide) ?_
      refine lv_goto (tgt := 15) hx hb dX1_in_11 (by decide) ?_
      have hM := Option.some.inj hM
      subst hM
      exact W.zret (v := b2i true) hx hb hr (nar_b _) (fun t ht hW => ⟨⟨b2i true, (), rfl, rfl, by rw [ht]; exact hP, hD⟩, hS.F ht⟩) hS.2.2 dX1_in_15

set_option maxHeartbeats 40000000 in
set_option maxRecDepth 100000 in
theorem ctX1_has (l : Launch) (D : va_G) (dA : Nat → ClassId) (sz : Nat) (p0 : Int32) (p1 : Int32) (res : Bool) (hM : MX1_has p0 p1 = some res) : Met l yX1_has (ws_ yX1_has cX1_has 2 (some .boolean)) ({ frames := 0, cells := 0, slots := 0, locals := 0 }) (pre_ D dA [.int p0, .int p1] [] sz) (qi_ D (b2i res) (fun (u : Unit) => []) (va_A [] sz)) 0 0 (va_A [] sz) := by
  refine Met.ofW (cc := cX1_has) (maxL := 2) (ret := (some .boolean)) (by decide) rfl ?_
  intro p e s m args below meth c s₁ B hml hv
  obtain ⟨rfl, hsz, hP, hK, hD0⟩ := hv
  have hx := B.exec
  have hb := B.bytes
  have hr := B.returns
  have hts := atoms_spec (ws := (ws_ yX1_has cX1_has 2 (some .boolean))) B.pre
  have hts : ∀ w ∈ lw_all, w.before _ s = true := fun w h => hts w (List.mem_cons_of_mem _ h)
  have hown : s.vm.findClass RX1 = some m.cls := findClass_of_methodNamed B.named
  have hlocks := B.notSynchronized
  subst hsz
  have hD := hD0.self (sz := s.heap.size)
  generalize hAe : va_A [] s.heap.size = A at hD ⊢
  have hA : ∀ q : Nat, s.heap.size ≤ q → A q := fun q h => by rw [← hAe]; exact Or.inr h
  have hS : va_S A s.heap s.heap [] := va_S.rf
  have hP : va_P D clG [] s.heap := hP
  have hl := lv_entry ([.int p0, .int p1]) (n := 2) (Nat.le_of_ble_eq_true rfl)
  rw [lg_entry_eq]
  generalize (lg_sl ([.int p0, .int p1]) ++ List.replicate (2 - (lg_sl ([.int p0, .int p1])).length) Slot.unset).toArray = ls at hl ⊢
  have hl : lv_has ls 2 [(0, .int p0), (1, .int p1)] := hl
  unfold MX1_has at hM
  refine lv_iload_n hx hb dX1_has_0 rfl (lv_at hl 0 rfl) ?_
  refine lv_iload_n hx hb dX1_has_1 rfl (lv_at hl 1 rfl) ?_
  refine lv_ishr hx hb dX1_has_2 ?_
  refine lv_iconst (v := (1 : Int32)) hx hb dX1_has_3 (by decide) ?_
  refine lv_iand hx hb dX1_has_4 ?_
  refine lv_iconst (v := (1 : Int32)) hx hb dX1_has_5 (by decide) ?_
  refine lv_icmp_ne (tgt := 13) hx hb dX1_has_6 (by decide) (fun c1 => ?_) (fun c1 => ?_)
  · rw [if_neg c1] at hM
    refine lv_iconst (v := (0 : Int32)) hx hb dX1_has_13 (by decide) ?_
    have hM := Option.some.inj hM
    subst hM
    exact W.zret (v := b2i false) hx hb hr (nar_b _) (fun t ht hW => ⟨⟨b2i false, (), rfl, rfl, by rw [ht]; exact hP, hD⟩, hS.F ht⟩) hS.2.2 dX1_has_14
  · rw [if_pos c1] at hM
    refine lv_iconst (v := (1 : Int32)) hx hb dX1_has_9 (by decide) ?_
    refine lv_goto (tgt := 14) hx hb dX1_has_10 (by decide) ?_
    have hM := Option.some.inj hM
    subst hM
    exact W.zret (v := b2i true) hx hb hr (nar_b _) (fun t ht hW => ⟨⟨b2i true, (), rfl, rfl, by rw [ht]; exact hP, hD⟩, hS.F ht⟩) hS.2.2 dX1_has_14

set_option maxHeartbeats 40000000 in
set_option maxRecDepth 100000 in
theorem ctX9_mayAsk (l : Launch) (D : va_G) (dA : Nat → ClassId) (sz : Nat) (h_o : Nat) (res : Bool) (hM : MX9_mayAsk  = some res) : Met l yX9_mayAsk (ws_ yX9_mayAsk cX9_mayAsk 1 (some .boolean)) ({ frames := 0, cells := 0, slots := 0, locals := 0 }) (pre_ D dA [(.ref h_o)] [] sz) (qi_ D (b2i res) (fun (u : Unit) => []) (va_A [] sz)) 0 0 (va_A [] sz) := by
  refine Met.ofW (cc := cX9_mayAsk) (maxL := 1) (ret := (some .boolean)) (by decide) rfl ?_
  intro p e s m args below meth c s₁ B hml hv
  obtain ⟨rfl, hsz, hP, hK, hD0⟩ := hv
  have hx := B.exec
  have hb := B.bytes
  have hr := B.returns
  have hts := atoms_spec (ws := (ws_ yX9_mayAsk cX9_mayAsk 1 (some .boolean))) B.pre
  have hts : ∀ w ∈ lw_all, w.before _ s = true := fun w h => hts w (List.mem_cons_of_mem _ h)
  have hown : s.vm.findClass RX9 = some m.cls := findClass_of_methodNamed B.named
  have hlocks := B.notSynchronized
  subst hsz
  have hD := hD0.self (sz := s.heap.size)
  generalize hAe : va_A [] s.heap.size = A at hD ⊢
  have hA : ∀ q : Nat, s.heap.size ≤ q → A q := fun q h => by rw [← hAe]; exact Or.inr h
  have hS : va_S A s.heap s.heap [] := va_S.rf
  have hP : va_P D clG [] s.heap := hP
  have hl := lv_entry ([(.ref h_o)]) (n := 1) (Nat.le_of_ble_eq_true rfl)
  rw [lg_entry_eq]
  generalize (lg_sl ([(.ref h_o)]) ++ List.replicate (1 - (lg_sl ([(.ref h_o)])).length) Slot.unset).toArray = ls at hl ⊢
  have hl : lv_has ls 1 [(0, (.ref h_o))] := hl
  unfold MX9_mayAsk at hM
  refine lv_iconst (v := (1 : Int32)) hx hb dX9_mayAsk_0 (by decide) ?_
  have hM := Option.some.inj hM
  subst hM
  exact W.zret (v := b2i true) hx hb hr (nar_b _) (fun t ht hW => ⟨⟨b2i true, (), rfl, rfl, by rw [ht]; exact hP, hD⟩, hS.F ht⟩) hS.2.2 dX9_mayAsk_1

set_option maxHeartbeats 40000000 in
set_option maxRecDepth 100000 in
theorem ctX9_mayBeAskedBy (l : Launch) (D : va_G) (dA : Nat → ClassId) (sz : Nat) (h_o : Nat) (p0 : Int32) (res : Bool) (hM : MX9_mayBeAskedBy  = some res) : Met l yX9_mayBeAskedBy (ws_ yX9_mayBeAskedBy cX9_mayBeAskedBy 2 (some .boolean)) ({ frames := 0, cells := 0, slots := 0, locals := 0 }) (pre_ D dA [(.ref h_o), .int p0] [] sz) (qi_ D (b2i res) (fun (u : Unit) => []) (va_A [] sz)) 0 0 (va_A [] sz) := by
  refine Met.ofW (cc := cX9_mayBeAskedBy) (maxL := 2) (ret := (some .boolean)) (by decide) rfl ?_
  intro p e s m args below meth c s₁ B hml hv
  obtain ⟨rfl, hsz, hP, hK, hD0⟩ := hv
  have hx := B.exec
  have hb := B.bytes
  have hr := B.returns
  have hts := atoms_spec (ws := (ws_ yX9_mayBeAskedBy cX9_mayBeAskedBy 2 (some .boolean))) B.pre
  have hts : ∀ w ∈ lw_all, w.before _ s = true := fun w h => hts w (List.mem_cons_of_mem _ h)
  have hown : s.vm.findClass RX9 = some m.cls := findClass_of_methodNamed B.named
  have hlocks := B.notSynchronized
  subst hsz
  have hD := hD0.self (sz := s.heap.size)
  generalize hAe : va_A [] s.heap.size = A at hD ⊢
  have hA : ∀ q : Nat, s.heap.size ≤ q → A q := fun q h => by rw [← hAe]; exact Or.inr h
  have hS : va_S A s.heap s.heap [] := va_S.rf
  have hP : va_P D clG [] s.heap := hP
  have hl := lv_entry ([(.ref h_o), .int p0]) (n := 2) (Nat.le_of_ble_eq_true rfl)
  rw [lg_entry_eq]
  generalize (lg_sl ([(.ref h_o), .int p0]) ++ List.replicate (2 - (lg_sl ([(.ref h_o), .int p0])).length) Slot.unset).toArray = ls at hl ⊢
  have hl : lv_has ls 2 [(0, (.ref h_o)), (1, .int p0)] := hl
  unfold MX9_mayBeAskedBy at hM
  refine lv_iconst (v := (1 : Int32)) hx hb dX9_mayBeAskedBy_0 (by decide) ?_
  have hM := Option.some.inj hM
  subst hM
  exact W.zret (v := b2i true) hx hb hr (nar_b _) (fun t ht hW => ⟨⟨b2i true, (), rfl, rfl, by rw [ht]; exact hP, hD⟩, hS.F ht⟩) hS.2.2 dX9_mayBeAskedBy_1

set_option maxHeartbeats 40000000 in
set_option maxRecDepth 100000 in
theorem ctX10_kind (l : Launch) (D : va_G) (dA : Nat → ClassId) (sz : Nat) (h_o : Nat) (res : Int32) (hM : MX10_kind  = some res) : Met l yX10_kind (ws_ yX10_kind cX10_kind 1 (some .int)) ({ frames := 0, cells := 0, slots := 0, locals := 0 }) (pre_ D dA [(.ref h_o)] [] sz) (qi_ D res (fun (u : Unit) => []) (va_A [] sz)) 0 0 (va_A [] sz) := by
  refine Met.ofW (cc := cX10_kind) (maxL := 1) (ret := (some .int)) (by decide) rfl ?_
  intro p e s m args below meth c s₁ B hml hv
  obtain ⟨rfl, hsz, hP, hK, hD0⟩ := hv
  have hx := B.exec
  have hb := B.bytes
  have hr := B.returns
  have hts := atoms_spec (ws := (ws_ yX10_kind cX10_kind 1 (some .int))) B.pre
  have hts : ∀ w ∈ lw_all, w.before _ s = true := fun w h => hts w (List.mem_cons_of_mem _ h)
  have hown : s.vm.findClass RX10 = some m.cls := findClass_of_methodNamed B.named
  have hlocks := B.notSynchronized
  subst hsz
  have hD := hD0.self (sz := s.heap.size)
  generalize hAe : va_A [] s.heap.size = A at hD ⊢
  have hA : ∀ q : Nat, s.heap.size ≤ q → A q := fun q h => by rw [← hAe]; exact Or.inr h
  have hS : va_S A s.heap s.heap [] := va_S.rf
  have hP : va_P D clG [] s.heap := hP
  have hl := lv_entry ([(.ref h_o)]) (n := 1) (Nat.le_of_ble_eq_true rfl)
  rw [lg_entry_eq]
  generalize (lg_sl ([(.ref h_o)]) ++ List.replicate (1 - (lg_sl ([(.ref h_o)])).length) Slot.unset).toArray = ls at hl ⊢
  have hl : lv_has ls 1 [(0, (.ref h_o))] := hl
  unfold MX10_kind at hM
  refine lv_iconst (v := (0 : Int32)) hx hb dX10_kind_0 (by decide) ?_
  have hM := Option.some.inj hM
  subst hM
  exact W.iret (v := (0 : Int32)) hx hb hr (fun t ht hW => ⟨⟨(0 : Int32), (), rfl, rfl, by rw [ht]; exact hP, hD⟩, hS.F ht⟩) hS.2.2 dX10_kind_1

set_option maxHeartbeats 40000000 in
set_option maxRecDepth 100000 in
theorem ctX11_mayBeAskedBy (l : Launch) (D : va_G) (dA : Nat → ClassId) (sz : Nat) (h_o : Nat) (p0 : Int32) (o_number : Int32) (o_wealth : Int32) (o_dies : Int32) (o_near : Int32) (o_asks : Int32) (o_went : Int32) (o_name : Value) (res : Bool) (hM : MX11_mayBeAskedBy  = some res) : Met l yX11_mayBeAskedBy (ws_ yX11_mayBeAskedBy cX11_mayBeAskedBy 2 (some .boolean)) ({ frames := 1, cells := 0, slots := 0, locals := 21 }) (pre_ D dA [.ref h_o, .int p0] [(h_o, .inr (8, [o_name, .int o_number, .int o_wealth, .int o_dies, .int o_near, .int o_asks, .int o_went]))] sz) (qi_ D (b2i res) (fun (u : Unit) => [(h_o, .inr (8, [o_name, .int o_number, .int o_wealth, .int o_dies, .int o_near, .int o_asks, .int o_went]))]) (va_A [(h_o, .inr (8, [o_name, .int o_number, .int o_wealth, .int o_dies, .int o_near, .int o_asks, .int o_went]))] sz)) 0 0 (va_A [(h_o, .inr (8, [o_name, .int o_number, .int o_wealth, .int o_dies, .int o_near, .int o_asks, .int o_went]))] sz) := by
  refine Met.ofW (cc := cX11_mayBeAskedBy) (maxL := 2) (ret := (some .boolean)) (by decide) rfl ?_
  intro p e s m args below meth c s₁ B hml hv
  obtain ⟨rfl, hsz, hP, hK, hD0⟩ := hv
  have hx := B.exec
  have hb := B.bytes
  have hr := B.returns
  have hts := atoms_spec (ws := (ws_ yX11_mayBeAskedBy cX11_mayBeAskedBy 2 (some .boolean))) B.pre
  have hts : ∀ w ∈ lw_all, w.before _ s = true := fun w h => hts w (List.mem_cons_of_mem _ h)
  have hown : s.vm.findClass RX11 = some m.cls := findClass_of_methodNamed B.named
  have hlocks := B.notSynchronized
  subst hsz
  have hD := hD0.self (sz := s.heap.size)
  generalize hAe : va_A [(h_o, .inr (8, [o_name, .int o_number, .int o_wealth, .int o_dies, .int o_near, .int o_asks, .int o_went]))] s.heap.size = A at hD ⊢
  have hA : ∀ q : Nat, s.heap.size ≤ q → A q := fun q h => by rw [← hAe]; exact Or.inr h
  have hS : va_S A s.heap s.heap [] := va_S.rf
  have hP : va_P D clG [(h_o, .inr (8, [o_name, .int o_number, .int o_wealth, .int o_dies, .int o_near, .int o_asks, .int o_went]))] s.heap := hP
  have hl := lv_entry ([.ref h_o, .int p0]) (n := 2) (Nat.le_of_ble_eq_true rfl)
  rw [lg_entry_eq]
  generalize (lg_sl ([.ref h_o, .int p0]) ++ List.replicate (2 - (lg_sl ([.ref h_o, .int p0])).length) Slot.unset).toArray = ls at hl ⊢
  have hl : lv_has ls 2 [(0, .ref h_o), (1, .int p0)] := hl
  unfold MX11_mayBeAskedBy at hM
  refine lv_aload_n hx hb dX11_mayBeAskedBy_0 rfl (lv_at hl 0 rfl) ?_
  refine lv_iload_n hx hb dX11_mayBeAskedBy_1 rfl (lv_at hl 1 rfl) ?_
  obtain ⟨r1, er1, hM⟩ := b_inv hM
  refine k_i0 [] (k_runSUo (n := 1) (x := ⟨"LastAsked$Plain", "mayBeAskedBy", "(I)Z"⟩) (As := [.int p0]) (rest := []) (hK.1.1 8 (RX11, TX11, 7) rfl).2 ⟨hx, hb, hml, hown, hts⟩ (ctX9_mayBeAskedBy l D dA _ h_o p0 r1 er1) (hts _ q867) (hts _ q868) (hts _ q796) (hts _ q781) (hts _ q860) (hts _ q129) (hts _ q870) (by decide +kernel) (by decide +kernel) (lw_meth q870) rfl rfl rfl ⟨Nat.le_of_ble_eq_true rfl, Nat.le_of_ble_eq_true rfl⟩ ⟨pre_blind, va_recv hK.1 hP (ci := 8) (q0 := 0) rfl rfl, (pre_S (hP.sub [] rfl) hK (hD.sub [] (by decide) rfl)).2⟩ rfl rfl hl.1 rfl (lv_room (Nat.le_of_ble_eq_true rfl)) dX11_mayBeAskedBy_2 ⟨Nat.le_of_ble_eq_true rfl, Nat.le_of_ble_eq_true rfl⟩) hP hD hS hA rfl (fun _ => rfl) (fun u2 H locs hP hD hS => ?_)
  have hP : va_P D clG [(h_o, .inr (8, [o_name, .int o_number, .int o_wealth, .int o_dies, .int o_near, .int o_asks, .int o_went]))] H := hP
  have hD : va_D A [(h_o, .inr (8, [o_name, .int o_number, .int o_wealth, .int o_dies, .int o_near, .int o_asks, .int o_went]))] := hD
  refine lv_if_ne (tgt := 12) hx hb dX11_mayBeAskedBy_5 (by decide) (fun c3 => ?_) (fun c3 => ?_)
  · rw [if_neg c3] at hM
    refine lv_iconst (v := (0 : Int32)) hx hb dX11_mayBeAskedBy_12 (by decide) ?_
    have hM := Option.some.inj hM
    subst hM
    exact W.zret (v := b2i false) hx hb hr (nar_b _) (fun t ht hW => ⟨⟨b2i false, (), rfl, rfl, by rw [ht]; exact hP, hD⟩, hS.F ht⟩) hS.2.2 dX11_mayBeAskedBy_13
  · rw [if_pos c3] at hM
    refine lv_iconst (v := (1 : Int32)) hx hb dX11_mayBeAskedBy_8 (by decide) ?_
    refine lv_goto (tgt := 13) hx hb dX11_mayBeAskedBy_9 (by decide) ?_
    have hM := Option.some.inj hM
    subst hM
    exact W.zret (v := b2i true) hx hb hr (nar_b _) (fun t ht hW => ⟨⟨b2i true, (), rfl, rfl, by rw [ht]; exact hP, hD⟩, hS.F ht⟩) hS.2.2 dX11_mayBeAskedBy_13

set_option maxHeartbeats 40000000 in
set_option maxRecDepth 100000 in
theorem ctX11_kind (l : Launch) (D : va_G) (dA : Nat → ClassId) (sz : Nat) (h_o : Nat) (o_number : Int32) (o_wealth : Int32) (o_dies : Int32) (o_near : Int32) (o_asks : Int32) (o_went : Int32) (o_name : Value) (res : Int32) (hM : MX11_kind  = some res) : Met l yX11_kind (ws_ yX11_kind cX11_kind 1 (some .int)) ({ frames := 1, cells := 0, slots := 0, locals := 20 }) (pre_ D dA [.ref h_o] [(h_o, .inr (8, [o_name, .int o_number, .int o_wealth, .int o_dies, .int o_near, .int o_asks, .int o_went]))] sz) (qi_ D res (fun (u : Unit) => [(h_o, .inr (8, [o_name, .int o_number, .int o_wealth, .int o_dies, .int o_near, .int o_asks, .int o_went]))]) (va_A [(h_o, .inr (8, [o_name, .int o_number, .int o_wealth, .int o_dies, .int o_near, .int o_asks, .int o_went]))] sz)) 0 0 (va_A [(h_o, .inr (8, [o_name, .int o_number, .int o_wealth, .int o_dies, .int o_near, .int o_asks, .int o_went]))] sz) := by
  refine Met.ofW (cc := cX11_kind) (maxL := 1) (ret := (some .int)) (by decide) rfl ?_
  intro p e s m args below meth c s₁ B hml hv
  obtain ⟨rfl, hsz, hP, hK, hD0⟩ := hv
  have hx := B.exec
  have hb := B.bytes
  have hr := B.returns
  have hts := atoms_spec (ws := (ws_ yX11_kind cX11_kind 1 (some .int))) B.pre
  have hts : ∀ w ∈ lw_all, w.before _ s = true := fun w h => hts w (List.mem_cons_of_mem _ h)
  have hown : s.vm.findClass RX11 = some m.cls := findClass_of_methodNamed B.named
  have hlocks := B.notSynchronized
  subst hsz
  have hD := hD0.self (sz := s.heap.size)
  generalize hAe : va_A [(h_o, .inr (8, [o_name, .int o_number, .int o_wealth, .int o_dies, .int o_near, .int o_asks, .int o_went]))] s.heap.size = A at hD ⊢
  have hA : ∀ q : Nat, s.heap.size ≤ q → A q := fun q h => by rw [← hAe]; exact Or.inr h
  have hS : va_S A s.heap s.heap [] := va_S.rf
  have hP : va_P D clG [(h_o, .inr (8, [o_name, .int o_number, .int o_wealth, .int o_dies, .int o_near, .int o_asks, .int o_went]))] s.heap := hP
  have hl := lv_entry ([.ref h_o]) (n := 1) (Nat.le_of_ble_eq_true rfl)
  rw [lg_entry_eq]
  generalize (lg_sl ([.ref h_o]) ++ List.replicate (1 - (lg_sl ([.ref h_o])).length) Slot.unset).toArray = ls at hl ⊢
  have hl : lv_has ls 1 [(0, .ref h_o)] := hl
  unfold MX11_kind at hM
  refine lv_aload_n hx hb dX11_kind_0 rfl (lv_at hl 0 rfl) ?_
  obtain ⟨r1, er1, hM⟩ := b_inv hM
  refine k_i0 [] (va_runSU (As := []) (rest := []) (hK.1.1 8 (RX11, TX11, 7) rfl).2 ⟨hx, hb, hml, hown, hts⟩ (ctX10_kind l D dA _ h_o r1 er1) (va_cwSU 0 hts (lw_app (List.forall_mem_cons.mpr ⟨q929, List.forall_mem_cons.mpr ⟨q2099, List.forall_mem_cons.mpr ⟨q796, List.forall_mem_cons.mpr ⟨q924, List.forall_mem_cons.mpr ⟨q130, fun _ h => absurd h List.not_mem_nil⟩⟩⟩⟩⟩) (lw_meth q925)) rfl rfl rfl (by decide +kernel) ⟨Nat.le_of_ble_eq_true rfl, Nat.le_of_ble_eq_true rfl⟩) ⟨pre_blind, va_recv hK.1 hP (ci := 8) (q0 := 0) rfl rfl, (pre_S (hP.sub [] rfl) hK (hD.sub [] (by decide) rfl)).2⟩ rfl rfl hl.1 rfl (lv_room (Nat.le_of_ble_eq_true rfl)) dX11_kind_1 ⟨Nat.le_of_ble_eq_true rfl, Nat.le_of_ble_eq_true rfl⟩) hP hD hS hA rfl (fun _ => rfl) (fun u2 H locs hP hD hS => ?_)
  have hP : va_P D clG [(h_o, .inr (8, [o_name, .int o_number, .int o_wealth, .int o_dies, .int o_near, .int o_asks, .int o_went]))] H := hP
  have hD : va_D A [(h_o, .inr (8, [o_name, .int o_number, .int o_wealth, .int o_dies, .int o_near, .int o_asks, .int o_went]))] := hD
  refine lv_iconst (v := (1 : Int32)) hx hb dX11_kind_4 (by decide) ?_
  refine lv_iadd hx hb dX11_kind_5 ?_
  have hM := Option.some.inj hM
  subst hM
  exact W.iret (v := (r1 + (1 : Int32))) hx hb hr (fun t ht hW => ⟨⟨(r1 + (1 : Int32)), (), rfl, rfl, by rw [ht]; exact hP, hD⟩, hS.F ht⟩) hS.2.2 dX11_kind_6

set_option maxHeartbeats 40000000 in
set_option maxRecDepth 100000 in
theorem ctX12_mayBeAskedBy (l : Launch) (D : va_G) (dA : Nat → ClassId) (sz : Nat) (h_o : Nat) (p0 : Int32) (o_number : Int32) (o_wealth : Int32) (o_dies : Int32) (o_near : Int32) (o_asks : Int32) (o_went : Int32) (o_name : Value) (res : Bool) (hM : MX12_mayBeAskedBy p0 o_near = some res) : Met l yX12_mayBeAskedBy (ws_ yX12_mayBeAskedBy cX12_mayBeAskedBy 2 (some .boolean)) ({ frames := 1, cells := 0, slots := 0, locals := 21 }) (pre_ D dA [.ref h_o, .int p0] [(h_o, .inr (9, [o_name, .int o_number, .int o_wealth, .int o_dies, .int o_near, .int o_asks, .int o_went]))] sz) (qi_ D (b2i res) (fun (u : Unit) => [(h_o, .inr (9, [o_name, .int o_number, .int o_wealth, .int o_dies, .int o_near, .int o_asks, .int o_went]))]) (va_A [(h_o, .inr (9, [o_name, .int o_number, .int o_wealth, .int o_dies, .int o_near, .int o_asks, .int o_went]))] sz)) 0 0 (va_A [(h_o, .inr (9, [o_name, .int o_number, .int o_wealth, .int o_dies, .int o_near, .int o_asks, .int o_went]))] sz) := by
  refine Met.ofW (cc := cX12_mayBeAskedBy) (maxL := 2) (ret := (some .boolean)) (by decide) rfl ?_
  intro p e s m args below meth c s₁ B hml hv
  obtain ⟨rfl, hsz, hP, hK, hD0⟩ := hv
  have hx := B.exec
  have hb := B.bytes
  have hr := B.returns
  have hts := atoms_spec (ws := (ws_ yX12_mayBeAskedBy cX12_mayBeAskedBy 2 (some .boolean))) B.pre
  have hts : ∀ w ∈ lw_all, w.before _ s = true := fun w h => hts w (List.mem_cons_of_mem _ h)
  have hown : s.vm.findClass RX12 = some m.cls := findClass_of_methodNamed B.named
  have hlocks := B.notSynchronized
  subst hsz
  have hD := hD0.self (sz := s.heap.size)
  generalize hAe : va_A [(h_o, .inr (9, [o_name, .int o_number, .int o_wealth, .int o_dies, .int o_near, .int o_asks, .int o_went]))] s.heap.size = A at hD ⊢
  have hA : ∀ q : Nat, s.heap.size ≤ q → A q := fun q h => by rw [← hAe]; exact Or.inr h
  have hS : va_S A s.heap s.heap [] := va_S.rf
  have hP : va_P D clG [(h_o, .inr (9, [o_name, .int o_number, .int o_wealth, .int o_dies, .int o_near, .int o_asks, .int o_went]))] s.heap := hP
  have hl := lv_entry ([.ref h_o, .int p0]) (n := 2) (Nat.le_of_ble_eq_true rfl)
  rw [lg_entry_eq]
  generalize (lg_sl ([.ref h_o, .int p0]) ++ List.replicate (2 - (lg_sl ([.ref h_o, .int p0])).length) Slot.unset).toArray = ls at hl ⊢
  have hl : lv_has ls 2 [(0, .ref h_o), (1, .int p0)] := hl
  unfold MX12_mayBeAskedBy at hM
  refine lv_aload_n hx hb dX12_mayBeAskedBy_0 rfl (lv_at hl 0 rfl) ?_
  refine lv_iload_n hx hb dX12_mayBeAskedBy_1 rfl (lv_at hl 1 rfl) ?_
  obtain ⟨r1, er1, hM⟩ := b_inv hM
  refine k_i0 [] (k_runSUo (n := 1) (x := ⟨"LastAsked$Plain", "mayBeAskedBy", "(I)Z"⟩) (As := [.int p0]) (rest := []) (hK.1.1 9 (RX12, TX12, 7) rfl).2 ⟨hx, hb, hml, hown, hts⟩ (ctX9_mayBeAskedBy l D dA _ h_o p0 r1 er1) (hts _ q874) (hts _ q868) (hts _ q811) (hts _ q781) (hts _ q860) (hts _ q129) (hts _ q870) (by decide +kernel) (by decide +kernel) (lw_meth q870) rfl rfl rfl ⟨Nat.le_of_ble_eq_true rfl, Nat.le_of_ble_eq_true rfl⟩ ⟨pre_blind, va_recv hK.1 hP (ci := 9) (q0 := 0) rfl rfl, (pre_S (hP.sub [] rfl) hK (hD.sub [] (by decide) rfl)).2⟩ rfl rfl hl.1 rfl (lv_room (Nat.le_of_ble_eq_true rfl)) dX12_mayBeAskedBy_2 ⟨Nat.le_of_ble_eq_true rfl, Nat.le_of_ble_eq_true rfl⟩) hP hD hS hA rfl (fun _ => rfl) (fun u2 H locs hP hD hS => ?_)
  have hP : va_P D clG [(h_o, .inr (9, [o_name, .int o_number, .int o_wealth, .int o_dies, .int o_near, .int o_asks, .int o_went]))] H := hP
  have hD : va_D A [(h_o, .inr (9, [o_name, .int o_number, .int o_wealth, .int o_dies, .int o_near, .int o_asks, .int o_went]))] := hD
  refine lv_if_eq (tgt := 23) hx hb dX12_mayBeAskedBy_5 (by decide) (fun c3 => ?_) (fun c3 => ?_)
  · rw [if_pos c3] at hM
    refine lv_iconst (v := (0 : Int32)) hx hb dX12_mayBeAskedBy_23 (by decide) ?_
    have hM := Option.some.inj hM
    subst hM
    exact W.zret (v := b2i false) hx hb hr (nar_b _) (fun t ht hW => ⟨⟨b2i false, (), rfl, rfl, by rw [ht]; exact hP, hD⟩, hS.F ht⟩) hS.2.2 dX12_mayBeAskedBy_24
  · rw [if_neg c3] at hM
    refine lv_aload_n hx hb dX12_mayBeAskedBy_8 rfl (lv_at hl 0 rfl) ?_
    refine va_get (D := D) (ci := 9) (v := .int o_near) (C := RX12) (T := TX12) (N := 7) hx hb hts in_X12 hown hK.1 hP 0 rfl rfl 4 (by decide) (hts _ q758) (u_same (hts _ q759)) rfl dX12_mayBeAskedBy_9 ?_
    refine lv_iload_n hx hb dX12_mayBeAskedBy_12 rfl (lv_at hl 1 rfl) ?_
    obtain ⟨r4, er4, hM⟩ := b_inv hM
    refine k_i0 [] (va_runSN (As := [.int o_near, .int p0]) (rest := []) ⟨hx, hb, hml, hown, hts⟩ (ctX1_has l D dA _ o_near p0 r4 er4) ⟨va_cnB 2 hts (lw_meth q839) rfl rfl rfl (hK.nw 17 rfl) (hts _ q113) (by decide +kernel) ⟨Nat.le_of_ble_eq_true rfl, Nat.le_of_ble_eq_true rfl⟩, hts _ q838, trivial⟩ (pre_S (hP.sub [] rfl) hK (hD.sub [] (by decide) rfl)) rfl rfl hl.1 rfl (lv_room (Nat.le_of_ble_eq_true rfl)) dX12_mayBeAskedBy_13 ⟨Nat.le_of_ble_eq_true rfl, Nat.le_of_ble_eq_true rfl⟩) hP hD hS hA rfl (fun _ => rfl) (fun u5 H locs hP hD hS => ?_)
    have hP : va_P D clG [(h_o, .inr (9, [o_name, .int o_number, .int o_wealth, .int o_dies, .int o_near, .int o_asks, .int o_went]))] H := hP
    have hD : va_D A [(h_o, .inr (9, [o_name, .int o_number, .int o_wealth, .int o_dies, .int o_near, .int o_asks, .int o_went]))] := hD
    refine lv_if_eq (tgt := 23) hx hb dX12_mayBeAskedBy_16 (by decide) (fun c6 => ?_) (fun c6 => ?_)
    · rw [if_pos c6] at hM
      refine lv_iconst (v := (0 : Int32)) hx hb dX12_mayBeAskedBy_23 (by decide) ?_
      have hM := Option.some.inj hM
      subst hM
      exact W.zret (v := b2i false) hx hb hr (nar_b _) (fun t ht hW => ⟨⟨b2i false, (), rfl, rfl, by rw [ht]; exact hP, hD⟩, hS.F ht⟩) hS.2.2 dX12_mayBeAskedBy_24
    · rw [if_neg c6] at hM
      refine lv_iconst (v := (1 : Int32)) hx hb dX12_mayBeAskedBy_19 (by decide) ?_
      refine lv_goto (tgt := 24) hx hb dX12_mayBeAskedBy_20 (by decide) ?_
      have hM := Option.some.inj hM
      subst hM
      exact W.zret (v := b2i true) hx hb hr (nar_b _) (fun t ht hW => ⟨⟨b2i true, (), rfl, rfl, by rw [ht]; exact hP, hD⟩, hS.F ht⟩) hS.2.2 dX12_mayBeAskedBy_24

set_option maxHeartbeats 40000000 in
set_option maxRecDepth 100000 in
theorem ctX12_kind (l : Launch) (D : va_G) (dA : Nat → ClassId) (sz : Nat) (h_o : Nat) (o_number : Int32) (o_wealth : Int32) (o_dies : Int32) (o_near : Int32) (o_asks : Int32) (o_went : Int32) (o_name : Value) (res : Int32) (hM : MX12_kind  = some res) : Met l yX12_kind (ws_ yX12_kind cX12_kind 1 (some .int)) ({ frames := 1, cells := 0, slots := 0, locals := 20 }) (pre_ D dA [.ref h_o] [(h_o, .inr (9, [o_name, .int o_number, .int o_wealth, .int o_dies, .int o_near, .int o_asks, .int o_went]))] sz) (qi_ D res (fun (u : Unit) => [(h_o, .inr (9, [o_name, .int o_number, .int o_wealth, .int o_dies, .int o_near, .int o_asks, .int o_went]))]) (va_A [(h_o, .inr (9, [o_name, .int o_number, .int o_wealth, .int o_dies, .int o_near, .int o_asks, .int o_went]))] sz)) 0 0 (va_A [(h_o, .inr (9, [o_name, .int o_number, .int o_wealth, .int o_dies, .int o_near, .int o_asks, .int o_went]))] sz) := by
  refine Met.ofW (cc := cX12_kind) (maxL := 1) (ret := (some .int)) (by decide) rfl ?_
  intro p e s m args below meth c s₁ B hml hv
  obtain ⟨rfl, hsz, hP, hK, hD0⟩ := hv
  have hx := B.exec
  have hb := B.bytes
  have hr := B.returns
  have hts := atoms_spec (ws := (ws_ yX12_kind cX12_kind 1 (some .int))) B.pre
  have hts : ∀ w ∈ lw_all, w.before _ s = true := fun w h => hts w (List.mem_cons_of_mem _ h)
  have hown : s.vm.findClass RX12 = some m.cls := findClass_of_methodNamed B.named
  have hlocks := B.notSynchronized
  subst hsz
  have hD := hD0.self (sz := s.heap.size)
  generalize hAe : va_A [(h_o, .inr (9, [o_name, .int o_number, .int o_wealth, .int o_dies, .int o_near, .int o_asks, .int o_went]))] s.heap.size = A at hD ⊢
  have hA : ∀ q : Nat, s.heap.size ≤ q → A q := fun q h => by rw [← hAe]; exact Or.inr h
  have hS : va_S A s.heap s.heap [] := va_S.rf
  have hP : va_P D clG [(h_o, .inr (9, [o_name, .int o_number, .int o_wealth, .int o_dies, .int o_near, .int o_asks, .int o_went]))] s.heap := hP
  have hl := lv_entry ([.ref h_o]) (n := 1) (Nat.le_of_ble_eq_true rfl)
  rw [lg_entry_eq]
  generalize (lg_sl ([.ref h_o]) ++ List.replicate (1 - (lg_sl ([.ref h_o])).length) Slot.unset).toArray = ls at hl ⊢
  have hl : lv_has ls 1 [(0, .ref h_o)] := hl
  unfold MX12_kind at hM
  refine lv_aload_n hx hb dX12_kind_0 rfl (lv_at hl 0 rfl) ?_
  obtain ⟨r1, er1, hM⟩ := b_inv hM
  refine k_i0 [] (va_runSU (As := []) (rest := []) (hK.1.1 9 (RX12, TX12, 7) rfl).2 ⟨hx, hb, hml, hown, hts⟩ (ctX10_kind l D dA _ h_o r1 er1) (va_cwSU 0 hts (lw_app (List.forall_mem_cons.mpr ⟨q933, List.forall_mem_cons.mpr ⟨q2099, List.forall_mem_cons.mpr ⟨q811, List.forall_mem_cons.mpr ⟨q924, List.forall_mem_cons.mpr ⟨q130, fun _ h => absurd h List.not_mem_nil⟩⟩⟩⟩⟩) (lw_meth q925)) rfl rfl rfl (by decide +kernel) ⟨Nat.le_of_ble_eq_true rfl, Nat.le_of_ble_eq_true rfl⟩) ⟨pre_blind, va_recv hK.1 hP (ci := 9) (q0 := 0) rfl rfl, (pre_S (hP.sub [] rfl) hK (hD.sub [] (by decide) rfl)).2⟩ rfl rfl hl.1 rfl (lv_room (Nat.le_of_ble_eq_true rfl)) dX12_kind_1 ⟨Nat.le_of_ble_eq_true rfl, Nat.le_of_ble_eq_true rfl⟩) hP hD hS hA rfl (fun _ => rfl) (fun u2 H locs hP hD hS => ?_)
  have hP : va_P D clG [(h_o, .inr (9, [o_name, .int o_number, .int o_wealth, .int o_dies, .int o_near, .int o_asks, .int o_went]))] H := hP
  have hD : va_D A [(h_o, .inr (9, [o_name, .int o_number, .int o_wealth, .int o_dies, .int o_near, .int o_asks, .int o_went]))] := hD
  refine lv_iconst (v := (2 : Int32)) hx hb dX12_kind_4 (by decide) ?_
  refine lv_iadd hx hb dX12_kind_5 ?_
  have hM := Option.some.inj hM
  subst hM
  exact W.iret (v := (r1 + (2 : Int32))) hx hb hr (fun t ht hW => ⟨⟨(r1 + (2 : Int32)), (), rfl, rfl, by rw [ht]; exact hP, hD⟩, hS.F ht⟩) hS.2.2 dX12_kind_6

set_option maxHeartbeats 40000000 in
set_option maxRecDepth 100000 in
theorem ctX13_mayAsk (l : Launch) (D : va_G) (dA : Nat → ClassId) (sz : Nat) (h_o : Nat) (o_number : Int32) (o_wealth : Int32) (o_dies : Int32) (o_near : Int32) (o_asks : Int32) (o_went : Int32) (o_name : Value) (res : Bool) (hM : MX13_mayAsk  = some res) : Met l yX13_mayAsk (ws_ yX13_mayAsk cX13_mayAsk 1 (some .boolean)) ({ frames := 1, cells := 0, slots := 0, locals := 20 }) (pre_ D dA [.ref h_o] [(h_o, .inr (10, [o_name, .int o_number, .int o_wealth, .int o_dies, .int o_near, .int o_asks, .int o_went]))] sz) (qi_ D (b2i res) (fun (u : Unit) => [(h_o, .inr (10, [o_name, .int o_number, .int o_wealth, .int o_dies, .int o_near, .int o_asks, .int o_went]))]) (va_A [(h_o, .inr (10, [o_name, .int o_number, .int o_wealth, .int o_dies, .int o_near, .int o_asks, .int o_went]))] sz)) 0 0 (va_A [(h_o, .inr (10, [o_name, .int o_number, .int o_wealth, .int o_dies, .int o_near, .int o_asks, .int o_went]))] sz) := by
  refine Met.ofW (cc := cX13_mayAsk) (maxL := 1) (ret := (some .boolean)) (by decide) rfl ?_
  intro p e s m args below meth c s₁ B hml hv
  obtain ⟨rfl, hsz, hP, hK, hD0⟩ := hv
  have hx := B.exec
  have hb := B.bytes
  have hr := B.returns
  have hts := atoms_spec (ws := (ws_ yX13_mayAsk cX13_mayAsk 1 (some .boolean))) B.pre
  have hts : ∀ w ∈ lw_all, w.before _ s = true := fun w h => hts w (List.mem_cons_of_mem _ h)
  have hown : s.vm.findClass RX13 = some m.cls := findClass_of_methodNamed B.named
  have hlocks := B.notSynchronized
  subst hsz
  have hD := hD0.self (sz := s.heap.size)
  generalize hAe : va_A [(h_o, .inr (10, [o_name, .int o_number, .int o_wealth, .int o_dies, .int o_near, .int o_asks, .int o_went]))] s.heap.size = A at hD ⊢
  have hA : ∀ q : Nat, s.heap.size ≤ q → A q := fun q h => by rw [← hAe]; exact Or.inr h
  have hS : va_S A s.heap s.heap [] := va_S.rf
  have hP : va_P D clG [(h_o, .inr (10, [o_name, .int o_number, .int o_wealth, .int o_dies, .int o_near, .int o_asks, .int o_went]))] s.heap := hP
  have hl := lv_entry ([.ref h_o]) (n := 1) (Nat.le_of_ble_eq_true rfl)
  rw [lg_entry_eq]
  generalize (lg_sl ([.ref h_o]) ++ List.replicate (1 - (lg_sl ([.ref h_o])).length) Slot.unset).toArray = ls at hl ⊢
  have hl : lv_has ls 1 [(0, .ref h_o)] := hl
  unfold MX13_mayAsk at hM
  refine lv_aload_n hx hb dX13_mayAsk_0 rfl (lv_at hl 0 rfl) ?_
  obtain ⟨r1, er1, hM⟩ := b_inv hM
  refine k_i0 [] (va_runSU (As := []) (rest := []) (hK.1.1 10 (RX13, TX13, 7) rfl).2 ⟨hx, hb, hml, hown, hts⟩ (ctX9_mayAsk l D dA _ h_o r1 er1) (va_cwSU 0 hts (lw_app (List.forall_mem_cons.mpr ⟨q854, List.forall_mem_cons.mpr ⟨q850, List.forall_mem_cons.mpr ⟨q826, List.forall_mem_cons.mpr ⟨q849, List.forall_mem_cons.mpr ⟨q129, fun _ h => absurd h List.not_mem_nil⟩⟩⟩⟩⟩) (lw_meth q855)) rfl rfl rfl (by decide +kernel) ⟨Nat.le_of_ble_eq_true rfl, Nat.le_of_ble_eq_true rfl⟩) ⟨pre_blind, va_recv hK.1 hP (ci := 10) (q0 := 0) rfl rfl, (pre_S (hP.sub [] rfl) hK (hD.sub [] (by decide) rfl)).2⟩ rfl rfl hl.1 rfl (lv_room (Nat.le_of_ble_eq_true rfl)) dX13_mayAsk_1 ⟨Nat.le_of_ble_eq_true rfl, Nat.le_of_ble_eq_true rfl⟩) hP hD hS hA rfl (fun _ => rfl) (fun u2 H locs hP hD hS => ?_)
  have hP : va_P D clG [(h_o, .inr (10, [o_name, .int o_number, .int o_wealth, .int o_dies, .int o_near, .int o_asks, .int o_went]))] H := hP
  have hD : va_D A [(h_o, .inr (10, [o_name, .int o_number, .int o_wealth, .int o_dies, .int o_near, .int o_asks, .int o_went]))] := hD
  refine lv_if_ne (tgt := 11) hx hb dX13_mayAsk_4 (by decide) (fun c3 => ?_) (fun c3 => ?_)
  · rw [if_neg c3] at hM
    refine lv_iconst (v := (0 : Int32)) hx hb dX13_mayAsk_11 (by decide) ?_
    have hM := Option.some.inj hM
    subst hM
    exact W.zret (v := b2i false) hx hb hr (nar_b _) (fun t ht hW => ⟨⟨b2i false, (), rfl, rfl, by rw [ht]; exact hP, hD⟩, hS.F ht⟩) hS.2.2 dX13_mayAsk_12
  · rw [if_pos c3] at hM
    refine lv_iconst (v := (1 : Int32)) hx hb dX13_mayAsk_7 (by decide) ?_
    refine lv_goto (tgt := 12) hx hb dX13_mayAsk_8 (by decide) ?_
    have hM := Option.some.inj hM
    subst hM
    exact W.zret (v := b2i true) hx hb hr (nar_b _) (fun t ht hW => ⟨⟨b2i true, (), rfl, rfl, by rw [ht]; exact hP, hD⟩, hS.F ht⟩) hS.2.2 dX13_mayAsk_12

set_option maxHeartbeats 40000000 in
set_option maxRecDepth 100000 in
theorem ctX13_kind (l : Launch) (D : va_G) (dA : Nat → ClassId) (sz : Nat) (h_o : Nat) (o_number : Int32) (o_wealth : Int32) (o_dies : Int32) (o_near : Int32) (o_asks : Int32) (o_went : Int32) (o_name : Value) (res : Int32) (hM : MX13_kind  = some res) : Met l yX13_kind (ws_ yX13_kind cX13_kind 1 (some .int)) ({ frames := 0, cells := 0, slots := 0, locals := 0 }) (pre_ D dA [.ref h_o] [(h_o, .inr (10, [o_name, .int o_number, .int o_wealth, .int o_dies, .int o_near, .int o_asks, .int o_went]))] sz) (qi_ D res (fun (u : Unit) => [(h_o, .inr (10, [o_name, .int o_number, .int o_wealth, .int o_dies, .int o_near, .int o_asks, .int o_went]))]) (va_A [(h_o, .inr (10, [o_name, .int o_number, .int o_wealth, .int o_dies, .int o_near, .int o_asks, .int o_went]))] sz)) 0 0 (va_A [(h_o, .inr (10, [o_name, .int o_number, .int o_wealth, .int o_dies, .int o_near, .int o_asks, .int o_went]))] sz) := by
  refine Met.ofW (cc := cX13_kind) (maxL := 1) (ret := (some .int)) (by decide) rfl ?_
  intro p e s m args below meth c s₁ B hml hv
  obtain ⟨rfl, hsz, hP, hK, hD0⟩ := hv
  have hx := B.exec
  have hb := B.bytes
  have hr := B.returns
  have hts := atoms_spec (ws := (ws_ yX13_kind cX13_kind 1 (some .int))) B.pre
  have hts : ∀ w ∈ lw_all, w.before _ s = true := fun w h => hts w (List.mem_cons_of_mem _ h)
  have hown : s.vm.findClass RX13 = some m.cls := findClass_of_methodNamed B.named
  have hlocks := B.notSynchronized
  subst hsz
  have hD := hD0.self (sz := s.heap.size)
  generalize hAe : va_A [(h_o, .inr (10, [o_name, .int o_number, .int o_wealth, .int o_dies, .int o_near, .int o_asks, .int o_went]))] s.heap.size = A at hD ⊢
  have hA : ∀ q : Nat, s.heap.size ≤ q → A q := fun q h => by rw [← hAe]; exact Or.inr h
  have hS : va_S A s.heap s.heap [] := va_S.rf
  have hP : va_P D clG [(h_o, .inr (10, [o_name, .int o_number, .int o_wealth, .int o_dies, .int o_near, .int o_asks, .int o_went]))] s.heap := hP
  have hl := lv_entry ([.ref h_o]) (n := 1) (Nat.le_of_ble_eq_true rfl)
  rw [lg_entry_eq]
  generalize (lg_sl ([.ref h_o]) ++ List.replicate (1 - (lg_sl ([.ref h_o])).length) Slot.unset).toArray = ls at hl ⊢
  have hl : lv_has ls 1 [(0, .ref h_o)] := hl
  unfold MX13_kind at hM
  refine lv_iconst (v := (3 : Int32)) hx hb dX13_kind_0 (by decide) ?_
  have hM := Option.some.inj hM
  subst hM
  exact W.iret (v := (3 : Int32)) hx hb hr (fun t ht hW => ⟨⟨(3 : Int32), (), rfl, rfl, by rw [ht]; exact hP, hD⟩, hS.F ht⟩) hS.2.2 dX13_kind_1
set_option maxHeartbeats 4000000 in
theorem pp_mayAsk {p : Program} {l : Launch} {e : Env} {R : Room} {s : State} {m : MethodId} {args : Array Value} {below : List Frame} {meth : Method} {c : Code} {H : Heap} {locs : List Loc} {cells slots : Nat} {Q : State → Prop} {pc : Nat} {ls : Array Slot} {rest : List Value} {cc : ByteArray} {D : va_G} {dA : Nat → ClassId} {A : Nat → Prop} {H0 : Heap} {nL : Nat} {own : String} {index : Nat} {X : va_W} {np n K : Nat} {pa pk : Nat → Nat} {pn : Nat → Value} {pu pw pd pr ps pt : AI}
    (S : CallFix p m c cc nL s args lw_all own) (hK : KK D dA s) (hP : va_P D clG (X ++ ppool np pa pk pn pu pw pd pr ps pt) H) (hD : va_D A (X ++ ppool np pa pk pn pu pw pd pr ps pt)) (hS : va_S A H0 H locs) (hA : ∀ q, H0.size ≤ q → A q) (hX : X.length = n) (h1 : K < np) (h4 : pk K < 4)
    (hlink : Cond.methodLink own index ⟨"LastAsked$Person", "mayAsk", "()Z"⟩ ∈ lw_all) (hsz : ls.size = nL) (hroom : 2 * (F0 m pc ls rest).monitorRoom + (rest.map fun v => v.category).sum ≤ 8) (hR1 : 4 ≤ R.frames) (hR2 : 200 ≤ R.locals) (hc0 : cells ≤ R.cells) (hs0 : slots ≤ R.slots) (hdg : decode cc pc = .ok (.invokevirtual index, 3))
    (kk : ∀ (H1 : Heap) (locs1 : List Loc), va_P D clG (X ++ ppool np pa pk pn pu pw pd pr ps pt) H1 → va_D A (X ++ ppool np pa pk pn pu pw pd pr ps pt) → va_S A H0 H1 locs1 → W p l e R s m args below meth c H1 locs1 cells slots Q (F0 m (pc + 3) ls (.int (b2i (mayAskK (pk K))) :: rest))) : W p l e R s m args below meth c H locs cells slots Q (F0 m pc ls (.ref (pa K) :: rest)) := by
  obtain ⟨hx, hb, hml, hown, hts⟩ := S
  have he := pp_get (X := X) (pa := pa) (pk := pk) (pn := pn) (pu := pu) (pw := pw) (pd := pd) (pr := pr) (ps := ps) (pt := pt) hX h1
  rcases (show pk K = 0 ∨ pk K = 1 ∨ pk K = 2 ∨ pk K = 3 by omega) with q | q | q | q
  · rw [q] at he kk
    have hM : MX9_mayAsk  = some true := by
      rfl
    have hset : putAt (X ++ ppool np pa pk pn pu pw pd pr ps pt) [] [] = X ++ ppool np pa pk pn pu pw pd pr ps pt := rfl
    refine k_i0 [] (va_runU (C := "LastAsked$Plain") (As := []) (rest := rest) ⟨hx, hb, hml, hown, hts⟩ (ctX9_mayAsk l D dA _ (pa K) _ hM) (va_cwU (owner := "LastAsked$Person") 0 hts (lw_app (List.forall_mem_cons.mpr ⟨hlink, List.forall_mem_cons.mpr ⟨q850, List.forall_mem_cons.mpr ⟨q856, List.forall_mem_cons.mpr ⟨q849, List.forall_mem_cons.mpr ⟨q129, fun _ h => absurd h List.not_mem_nil⟩⟩⟩⟩⟩) (lw_meth q855)) rfl rfl rfl rfl (by decide +kernel) ⟨Nat.le_trans (Nat.le_of_ble_eq_true rfl) hR1, Nat.le_trans (Nat.le_of_ble_eq_true rfl) hR2⟩) ⟨pre_blind, va_recv hK.1 hP (ci := 7) (q := (RX10, TX10, 7)) rfl he, (pre_S (hP.sub [] rfl) hK (hD.sub [] (by decide) rfl)).2⟩ rfl rfl hsz rfl hroom hdg ⟨hc0, hs0⟩) hP hD hS hA rfl (fun _ => rfl) (fun u H1 locs1 hP2 hD2 hS2 => ?_)
    exact kk H1 locs1 (hset ▸ hP2) (hset ▸ hD2) hS2
  · rw [q] at he kk
    have hM : MX9_mayAsk  = some true := by
      rfl
    have hset : putAt (X ++ ppool np pa pk pn pu pw pd pr ps pt) [] [] = X ++ ppool np pa pk pn pu pw pd pr ps pt := rfl
    refine k_i0 [] (va_runU (C := "LastAsked$Shut") (As := []) (rest := rest) ⟨hx, hb, hml, hown, hts⟩ (ctX9_mayAsk l D dA _ (pa K) _ hM) (va_cwU (owner := "LastAsked$Person") 0 hts (lw_app (List.forall_mem_cons.mpr ⟨hlink, List.forall_mem_cons.mpr ⟨q850, List.forall_mem_cons.mpr ⟨q857, List.forall_mem_cons.mpr ⟨q849, List.forall_mem_cons.mpr ⟨q129, fun _ h => absurd h List.not_mem_nil⟩⟩⟩⟩⟩) (lw_meth q855)) rfl rfl rfl rfl (by decide +kernel) ⟨Nat.le_trans (Nat.le_of_ble_eq_true rfl) hR1, Nat.le_trans (Nat.le_of_ble_eq_true rfl) hR2⟩) ⟨pre_blind, va_recv hK.1 hP (ci := 8) (q := (RX11, TX11, 7)) rfl he, (pre_S (hP.sub [] rfl) hK (hD.sub [] (by decide) rfl)).2⟩ rfl rfl hsz rfl hroom hdg ⟨hc0, hs0⟩) hP hD hS hA rfl (fun _ => rfl) (fun u H1 locs1 hP2 hD2 hS2 => ?_)
    exact kk H1 locs1 (hset ▸ hP2) (hset ▸ hD2) hS2
  · rw [q] at he kk
    have hM : MX9_mayAsk  = some true := by
      rfl
    have hset : putAt (X ++ ppool np pa pk pn pu pw pd pr ps pt) [] [] = X ++ ppool np pa pk pn pu pw pd pr ps pt := rfl
    refine k_i0 [] (va_runU (C := "LastAsked$Walled") (As := []) (rest := rest) ⟨hx, hb, hml, hown, hts⟩ (ctX9_mayAsk l D dA _ (pa K) _ hM) (va_cwU (owner := "LastAsked$Person") 0 hts (lw_app (List.forall_mem_cons.mpr ⟨hlink, List.forall_mem_cons.mpr ⟨q850, List.forall_mem_cons.mpr ⟨q858, List.forall_mem_cons.mpr ⟨q849, List.forall_mem_cons.mpr ⟨q129, fun _ h => absurd h List.not_mem_nil⟩⟩⟩⟩⟩) (lw_meth q855)) rfl rfl rfl rfl (by decide +kernel) ⟨Nat.le_trans (Nat.le_of_ble_eq_true rfl) hR1, Nat.le_trans (Nat.le_of_ble_eq_true rfl) hR2⟩) ⟨pre_blind, va_recv hK.1 hP (ci := 9) (q := (RX12, TX12, 7)) rfl he, (pre_S (hP.sub [] rfl) hK (hD.sub [] (by decide) rfl)).2⟩ rfl rfl hsz rfl hroom hdg ⟨hc0, hs0⟩) hP hD hS hA rfl (fun _ => rfl) (fun u H1 locs1 hP2 hD2 hS2 => ?_)
    exact kk H1 locs1 (hset ▸ hP2) (hset ▸ hD2) hS2
  · rw [q] at he kk
    have hM : MX13_mayAsk  = some false := by
      rfl
    have hP1 : va_P D clG [(pa K, .inr (10, ppc pn pu pw pd pr ps pt K))] H := fun k z hz => by
      have h0 : k = 0 := by have := (List.getElem?_eq_some_iff.mp hz).1; simpa using this
      subst h0; cases hz; exact hP _ _ he
    have hC : [n + K].map (fun i => (X ++ ppool np pa pk pn pu pw pd pr ps pt)[i]?) = [(pa K, (.inr (10, ppc pn pu pw pd pr ps pt K) : va_E))].map some := by simp [he]
    have hD1 : va_D A [(pa K, .inr (10, ppc pn pu pw pd pr ps pt K))] := hD.sub [n + K] (by simp [va_nd]) hC
    have hset : putAt (X ++ ppool np pa pk pn pu pw pd pr ps pt) [n + K] [(pa K, .inr (10, ppc pn pu pw pd pr ps pt K))] = X ++ ppool np pa pk pn pu pw pd pr ps pt := by
      obtain ⟨hlt, hev⟩ := List.getElem?_eq_some_iff.mp he
      rw [putAt, putAt, ← hev, List.set_getElem_self]
    refine k_i0 [n + K] (va_runU (C := "LastAsked$Doctor") (As := []) (rest := rest) ⟨hx, hb, hml, hown, hts⟩ (ctX13_mayAsk l D dA _ (pa K) (pu K) (pw K) (pd K) (pr K) (ps K) (pt K) (pn K) _ hM) (va_cwO (owner := "LastAsked$Person") 0 hts (lw_app (List.forall_mem_cons.mpr ⟨hlink, List.forall_mem_cons.mpr ⟨q850, List.forall_mem_cons.mpr ⟨q849, List.forall_mem_cons.mpr ⟨q851, List.forall_mem_cons.mpr ⟨q852, List.forall_mem_cons.mpr ⟨q133, fun _ h => absurd h List.not_mem_nil⟩⟩⟩⟩⟩⟩) (lw_meth q853)) rfl rfl rfl q855 (by decide +kernel) ⟨Nat.le_trans (Nat.le_of_ble_eq_true rfl) hR1, Nat.le_trans (Nat.le_of_ble_eq_true rfl) hR2⟩) ⟨pre_blind, va_recv hK.1 hP (ci := 10) (q := (RX13, TX13, 7)) rfl he, (pre_S hP1 hK hD1).2⟩ rfl rfl hsz rfl hroom hdg ⟨hc0, hs0⟩) hP hD hS hA hC (fun _ => rfl) (fun u H1 locs1 hP2 hD2 hS2 => ?_)
    exact kk H1 locs1 (hset ▸ hP2) (hset ▸ hD2) hS2
set_option maxHeartbeats 4000000 in
theorem pp_mayBeAskedBy {p : Program} {l : Launch} {e : Env} {R : Room} {s : State} {m : MethodId} {args : Array Value} {below : List Frame} {meth : Method} {c : Code} {H : Heap} {locs : List Loc} {cells slots : Nat} {Q : State → Prop} {pc : Nat} {ls : Array Slot} {rest : List Value} {cc : ByteArray} {D : va_G} {dA : Nat → ClassId} {A : Nat → Prop} {H0 : Heap} {nL : Nat} {own : String} {index : Nat} {X : va_W} {np n K : Nat} {pa pk : Nat → Nat} {pn : Nat → Value} {pu pw pd pr ps pt : AI} {i : Int32}
    (S : CallFix p m c cc nL s args lw_all own) (hK : KK D dA s) (hP : va_P D clG (X ++ ppool np pa pk pn pu pw pd pr ps pt) H) (hD : va_D A (X ++ ppool np pa pk pn pu pw pd pr ps pt)) (hS : va_S A H0 H locs) (hA : ∀ q, H0.size ≤ q → A q) (hX : X.length = n) (h1 : K < np) (h4 : pk K < 4)
    (hlink : Cond.methodLink own index ⟨"LastAsked$Person", "mayBeAskedBy", "(I)Z"⟩ ∈ lw_all) (hsz : ls.size = nL) (hroom : 2 * (F0 m pc ls rest).monitorRoom + (rest.map fun v => v.category).sum ≤ 8) (hR1 : 4 ≤ R.frames) (hR2 : 200 ≤ R.locals) (hc0 : cells ≤ R.cells) (hs0 : slots ≤ R.slots) (hdg : decode cc pc = .ok (.invokevirtual index, 3))
    (kk : ∀ (H1 : Heap) (locs1 : List Loc), va_P D clG (X ++ ppool np pa pk pn pu pw pd pr ps pt) H1 → va_D A (X ++ ppool np pa pk pn pu pw pd pr ps pt) → va_S A H0 H1 locs1 → W p l e R s m args below meth c H1 locs1 cells slots Q (F0 m (pc + 3) ls (.int (b2i (mayBeK (pk K) (pr K) i)) :: rest))) : W p l e R s m args below meth c H locs cells slots Q (F0 m pc ls (.int i :: .ref (pa K) :: rest)) := by
  obtain ⟨hx, hb, hml, hown, hts⟩ := S
  have he := pp_get (X := X) (pa := pa) (pk := pk) (pn := pn) (pu := pu) (pw := pw) (pd := pd) (pr := pr) (ps := ps) (pt := pt) hX h1
  rcases (show pk K = 0 ∨ pk K = 1 ∨ pk K = 2 ∨ pk K = 3 by omega) with q | q | q | q
  · rw [q] at he kk
    have hM : MX9_mayBeAskedBy  = some true := by
      rfl
    have hset : putAt (X ++ ppool np pa pk pn pu pw pd pr ps pt) [] [] = X ++ ppool np pa pk pn pu pw pd pr ps pt := rfl
    refine k_i0 [] (va_runU (C := "LastAsked$Plain") (As := [.int i]) (rest := rest) ⟨hx, hb, hml, hown, hts⟩ (ctX9_mayBeAskedBy l D dA _ (pa K) i _ hM) (va_cwU (owner := "LastAsked$Person") 1 hts (lw_app (List.forall_mem_cons.mpr ⟨hlink, List.forall_mem_cons.mpr ⟨q861, List.forall_mem_cons.mpr ⟨q863, List.forall_mem_cons.mpr ⟨q860, List.forall_mem_cons.mpr ⟨q129, fun _ h => absurd h List.not_mem_nil⟩⟩⟩⟩⟩) (lw_meth q870)) rfl rfl rfl rfl (by decide +kernel) ⟨Nat.le_trans (Nat.le_of_ble_eq_true rfl) hR1, Nat.le_trans (Nat.le_of_ble_eq_true rfl) hR2⟩) ⟨pre_blind, va_recv hK.1 hP (ci := 7) (q := (RX10, TX10, 7)) rfl he, (pre_S (hP.sub [] rfl) hK (hD.sub [] (by decide) rfl)).2⟩ rfl rfl hsz rfl hroom hdg ⟨hc0, hs0⟩) hP hD hS hA rfl (fun _ => rfl) (fun u H1 locs1 hP2 hD2 hS2 => ?_)
    exact kk H1 locs1 (hset ▸ hP2) (hset ▸ hD2) hS2
  · rw [q] at he kk
    have hM : MX11_mayBeAskedBy  = some false := by
      rfl
    have hP1 : va_P D clG [(pa K, .inr (8, ppc pn pu pw pd pr ps pt K))] H := fun k z hz => by
      have h0 : k = 0 := by have := (List.getElem?_eq_some_iff.mp hz).1; simpa using this
      subst h0; cases hz; exact hP _ _ he
    have hC : [n + K].map (fun i => (X ++ ppool np pa pk pn pu pw pd pr ps pt)[i]?) = [(pa K, (.inr (8, ppc pn pu pw pd pr ps pt K) : va_E))].map some := by simp [he]
    have hD1 : va_D A [(pa K, .inr (8, ppc pn pu pw pd pr ps pt K))] := hD.sub [n + K] (by simp [va_nd]) hC
    have hset : putAt (X ++ ppool np pa pk pn pu pw pd pr ps pt) [n + K] [(pa K, .inr (8, ppc pn pu pw pd pr ps pt K))] = X ++ ppool np pa pk pn pu pw pd pr ps pt := by
      obtain ⟨hlt, hev⟩ := List.getElem?_eq_some_iff.mp he
      rw [putAt, putAt, ← hev, List.set_getElem_self]
    refine k_i0 [n + K] (va_runU (C := "LastAsked$Shut") (As := [.int i]) (rest := rest) ⟨hx, hb, hml, hown, hts⟩ (ctX11_mayBeAskedBy l D dA _ (pa K) i (pu K) (pw K) (pd K) (pr K) (ps K) (pt K) (pn K) _ hM) (va_cwO (owner := "LastAsked$Person") 1 hts (lw_app (List.forall_mem_cons.mpr ⟨hlink, List.forall_mem_cons.mpr ⟨q861, List.forall_mem_cons.mpr ⟨q860, List.forall_mem_cons.mpr ⟨q864, List.forall_mem_cons.mpr ⟨q865, List.forall_mem_cons.mpr ⟨q131, fun _ h => absurd h List.not_mem_nil⟩⟩⟩⟩⟩⟩) (lw_meth q866)) rfl rfl rfl q870 (by decide +kernel) ⟨Nat.le_trans (Nat.le_of_ble_eq_true rfl) hR1, Nat.le_trans (Nat.le_of_ble_eq_true rfl) hR2⟩) ⟨pre_blind, va_recv hK.1 hP (ci := 8) (q := (RX11, TX11, 7)) rfl he, (pre_S hP1 hK hD1).2⟩ rfl rfl hsz rfl hroom hdg ⟨hc0, hs0⟩) hP hD hS hA hC (fun _ => rfl) (fun u H1 locs1 hP2 hD2 hS2 => ?_)
    exact kk H1 locs1 (hset ▸ hP2) (hset ▸ hD2) hS2
  · rw [q] at he kk
    have hM : MX12_mayBeAskedBy i (pr K) = some (mayBeK 2 (pr K) i) := by
      unfold MX12_mayBeAskedBy MX9_mayBeAskedBy MX1_has mayBeK
      by_cases h : ((pr K >>> (i &&& 31)) &&& 1) = 1 <;> simp [h, b2i]
    have hP1 : va_P D clG [(pa K, .inr (9, ppc pn pu pw pd pr ps pt K))] H := fun k z hz => by
      have h0 : k = 0 := by have := (List.getElem?_eq_some_iff.mp hz).1; simpa using this
      subst h0; cases hz; exact hP _ _ he
    have hC : [n + K].map (fun i => (X ++ ppool np pa pk pn pu pw pd pr ps pt)[i]?) = [(pa K, (.inr (9, ppc pn pu pw pd pr ps pt K) : va_E))].map some := by simp [he]
    have hD1 : va_D A [(pa K, .inr (9, ppc pn pu pw pd pr ps pt K))] := hD.sub [n + K] (by simp [va_nd]) hC
    have hset : putAt (X ++ ppool np pa pk pn pu pw pd pr ps pt) [n + K] [(pa K, .inr (9, ppc pn pu pw pd pr ps pt K))] = X ++ ppool np pa pk pn pu pw pd pr ps pt := by
      obtain ⟨hlt, hev⟩ := List.getElem?_eq_some_iff.mp he
      rw [putAt, putAt, ← hev, List.set_getElem_self]
    refine k_i0 [n + K] (va_runU (C := "LastAsked$Walled") (As := [.int i]) (rest := rest) ⟨hx, hb, hml, hown, hts⟩ (ctX12_mayBeAskedBy l D dA _ (pa K) i (pu K) (pw K) (pd K) (pr K) (ps K) (pt K) (pn K) _ hM) (va_cwO (owner := "LastAsked$Person") 1 hts (lw_app (List.forall_mem_cons.mpr ⟨hlink, List.forall_mem_cons.mpr ⟨q861, List.forall_mem_cons.mpr ⟨q860, List.forall_mem_cons.mpr ⟨q871, List.forall_mem_cons.mpr ⟨q872, List.forall_mem_cons.mpr ⟨q132, fun _ h => absurd h List.not_mem_nil⟩⟩⟩⟩⟩⟩) (lw_meth q873)) rfl rfl rfl q870 (by decide +kernel) ⟨Nat.le_trans (Nat.le_of_ble_eq_true rfl) hR1, Nat.le_trans (Nat.le_of_ble_eq_true rfl) hR2⟩) ⟨pre_blind, va_recv hK.1 hP (ci := 9) (q := (RX12, TX12, 7)) rfl he, (pre_S hP1 hK hD1).2⟩ rfl rfl hsz rfl hroom hdg ⟨hc0, hs0⟩) hP hD hS hA hC (fun _ => rfl) (fun u H1 locs1 hP2 hD2 hS2 => ?_)
    exact kk H1 locs1 (hset ▸ hP2) (hset ▸ hD2) hS2
  · rw [q] at he kk
    have hM : MX9_mayBeAskedBy  = some true := by
      rfl
    have hset : putAt (X ++ ppool np pa pk pn pu pw pd pr ps pt) [] [] = X ++ ppool np pa pk pn pu pw pd pr ps pt := rfl
    refine k_i0 [] (va_runU (C := "LastAsked$Doctor") (As := [.int i]) (rest := rest) ⟨hx, hb, hml, hown, hts⟩ (ctX9_mayBeAskedBy l D dA _ (pa K) i _ hM) (va_cwU (owner := "LastAsked$Person") 1 hts (lw_app (List.forall_mem_cons.mpr ⟨hlink, List.forall_mem_cons.mpr ⟨q861, List.forall_mem_cons.mpr ⟨q862, List.forall_mem_cons.mpr ⟨q860, List.forall_mem_cons.mpr ⟨q129, fun _ h => absurd h List.not_mem_nil⟩⟩⟩⟩⟩) (lw_meth q870)) rfl rfl rfl rfl (by decide +kernel) ⟨Nat.le_trans (Nat.le_of_ble_eq_true rfl) hR1, Nat.le_trans (Nat.le_of_ble_eq_true rfl) hR2⟩) ⟨pre_blind, va_recv hK.1 hP (ci := 10) (q := (RX13, TX13, 7)) rfl he, (pre_S (hP.sub [] rfl) hK (hD.sub [] (by decide) rfl)).2⟩ rfl rfl hsz rfl hroom hdg ⟨hc0, hs0⟩) hP hD hS hA rfl (fun _ => rfl) (fun u H1 locs1 hP2 hD2 hS2 => ?_)
    exact kk H1 locs1 (hset ▸ hP2) (hset ▸ hD2) hS2
set_option maxHeartbeats 4000000 in
theorem pp_kind {p : Program} {l : Launch} {e : Env} {R : Room} {s : State} {m : MethodId} {args : Array Value} {below : List Frame} {meth : Method} {c : Code} {H : Heap} {locs : List Loc} {cells slots : Nat} {Q : State → Prop} {pc : Nat} {ls : Array Slot} {rest : List Value} {cc : ByteArray} {D : va_G} {dA : Nat → ClassId} {A : Nat → Prop} {H0 : Heap} {nL : Nat} {own : String} {index : Nat} {X : va_W} {np n K : Nat} {pa pk : Nat → Nat} {pn : Nat → Value} {pu pw pd pr ps pt : AI}
    (S : CallFix p m c cc nL s args lw_all own) (hK : KK D dA s) (hP : va_P D clG (X ++ ppool np pa pk pn pu pw pd pr ps pt) H) (hD : va_D A (X ++ ppool np pa pk pn pu pw pd pr ps pt)) (hS : va_S A H0 H locs) (hA : ∀ q, H0.size ≤ q → A q) (hX : X.length = n) (h1 : K < np) (h4 : pk K < 4)
    (hlink : Cond.methodLink own index ⟨"LastAsked$Person", "kind", "()I"⟩ ∈ lw_all) (hsz : ls.size = nL) (hroom : 2 * (F0 m pc ls rest).monitorRoom + (rest.map fun v => v.category).sum ≤ 8) (hR1 : 4 ≤ R.frames) (hR2 : 200 ≤ R.locals) (hc0 : cells ≤ R.cells) (hs0 : slots ≤ R.slots) (hdg : decode cc pc = .ok (.invokevirtual index, 3))
    (kk : ∀ (H1 : Heap) (locs1 : List Loc), va_P D clG (X ++ ppool np pa pk pn pu pw pd pr ps pt) H1 → va_D A (X ++ ppool np pa pk pn pu pw pd pr ps pt) → va_S A H0 H1 locs1 → W p l e R s m args below meth c H1 locs1 cells slots Q (F0 m (pc + 3) ls (.int (kindK (pk K)) :: rest))) : W p l e R s m args below meth c H locs cells slots Q (F0 m pc ls (.ref (pa K) :: rest)) := by
  obtain ⟨hx, hb, hml, hown, hts⟩ := S
  have he := pp_get (X := X) (pa := pa) (pk := pk) (pn := pn) (pu := pu) (pw := pw) (pd := pd) (pr := pr) (ps := ps) (pt := pt) hX h1
  rcases (show pk K = 0 ∨ pk K = 1 ∨ pk K = 2 ∨ pk K = 3 by omega) with q | q | q | q
  · rw [q] at he kk
    have hM : MX10_kind  = some 0 := by
      rfl
    have hset : putAt (X ++ ppool np pa pk pn pu pw pd pr ps pt) [] [] = X ++ ppool np pa pk pn pu pw pd pr ps pt := rfl
    refine k_i0 [] (va_runU (C := "LastAsked$Plain") (As := []) (rest := rest) ⟨hx, hb, hml, hown, hts⟩ (ctX10_kind l D dA _ (pa K) _ hM) (va_cwA (owner := "LastAsked$Person") 0 hts (lw_app (List.forall_mem_cons.mpr ⟨hlink, List.forall_mem_cons.mpr ⟨q919, List.forall_mem_cons.mpr ⟨q923, List.forall_mem_cons.mpr ⟨q924, List.forall_mem_cons.mpr ⟨q130, fun _ h => absurd h List.not_mem_nil⟩⟩⟩⟩⟩) (lw_meth q925)) rfl rfl rfl (hK.nw 18 rfl) (by decide +kernel) ⟨Nat.le_trans (Nat.le_of_ble_eq_true rfl) hR1, Nat.le_trans (Nat.le_of_ble_eq_true rfl) hR2⟩) ⟨pre_blind, va_recv hK.1 hP (ci := 7) (q := (RX10, TX10, 7)) rfl he, (pre_S (hP.sub [] rfl) hK (hD.sub [] (by decide) rfl)).2⟩ rfl rfl hsz rfl hroom hdg ⟨hc0, hs0⟩) hP hD hS hA rfl (fun _ => rfl) (fun u H1 locs1 hP2 hD2 hS2 => ?_)
    exact kk H1 locs1 (hset ▸ hP2) (hset ▸ hD2) hS2
  · rw [q] at he kk
    have hM : MX11_kind  = some 1 := by
      rfl
    have hP1 : va_P D clG [(pa K, .inr (8, ppc pn pu pw pd pr ps pt K))] H := fun k z hz => by
      have h0 : k = 0 := by have := (List.getElem?_eq_some_iff.mp hz).1; simpa using this
      subst h0; cases hz; exact hP _ _ he
    have hC : [n + K].map (fun i => (X ++ ppool np pa pk pn pu pw pd pr ps pt)[i]?) = [(pa K, (.inr (8, ppc pn pu pw pd pr ps pt K) : va_E))].map some := by simp [he]
    have hD1 : va_D A [(pa K, .inr (8, ppc pn pu pw pd pr ps pt K))] := hD.sub [n + K] (by simp [va_nd]) hC
    have hset : putAt (X ++ ppool np pa pk pn pu pw pd pr ps pt) [n + K] [(pa K, .inr (8, ppc pn pu pw pd pr ps pt K))] = X ++ ppool np pa pk pn pu pw pd pr ps pt := by
      obtain ⟨hlt, hev⟩ := List.getElem?_eq_some_iff.mp he
      rw [putAt, putAt, ← hev, List.set_getElem_self]
    refine k_i0 [n + K] (va_runU (C := "LastAsked$Shut") (As := []) (rest := rest) ⟨hx, hb, hml, hown, hts⟩ (ctX11_kind l D dA _ (pa K) (pu K) (pw K) (pd K) (pr K) (ps K) (pt K) (pn K) _ hM) (va_cwA (owner := "LastAsked$Person") 0 hts (lw_app (List.forall_mem_cons.mpr ⟨hlink, List.forall_mem_cons.mpr ⟨q919, List.forall_mem_cons.mpr ⟨q926, List.forall_mem_cons.mpr ⟨q927, List.forall_mem_cons.mpr ⟨q131, fun _ h => absurd h List.not_mem_nil⟩⟩⟩⟩⟩) (lw_meth q928)) rfl rfl rfl (hK.nw 18 rfl) (by decide +kernel) ⟨Nat.le_trans (Nat.le_of_ble_eq_true rfl) hR1, Nat.le_trans (Nat.le_of_ble_eq_true rfl) hR2⟩) ⟨pre_blind, va_recv hK.1 hP (ci := 8) (q := (RX11, TX11, 7)) rfl he, (pre_S hP1 hK hD1).2⟩ rfl rfl hsz rfl hroom hdg ⟨hc0, hs0⟩) hP hD hS hA hC (fun _ => rfl) (fun u H1 locs1 hP2 hD2 hS2 => ?_)
    exact kk H1 locs1 (hset ▸ hP2) (hset ▸ hD2) hS2
  · rw [q] at he kk
    have hM : MX12_kind  = some 2 := by
      rfl
    have hP1 : va_P D clG [(pa K, .inr (9, ppc pn pu pw pd pr ps pt K))] H := fun k z hz => by
      have h0 : k = 0 := by have := (List.getElem?_eq_some_iff.mp hz).1; simpa using this
      subst h0; cases hz; exact hP _ _ he
    have hC : [n + K].map (fun i => (X ++ ppool np pa pk pn pu pw pd pr ps pt)[i]?) = [(pa K, (.inr (9, ppc pn pu pw pd pr ps pt K) : va_E))].map some := by simp [he]
    have hD1 : va_D A [(pa K, .inr (9, ppc pn pu pw pd pr ps pt K))] := hD.sub [n + K] (by simp [va_nd]) hC
    have hset : putAt (X ++ ppool np pa pk pn pu pw pd pr ps pt) [n + K] [(pa K, .inr (9, ppc pn pu pw pd pr ps pt K))] = X ++ ppool np pa pk pn pu pw pd pr ps pt := by
      obtain ⟨hlt, hev⟩ := List.getElem?_eq_some_iff.mp he
      rw [putAt, putAt, ← hev, List.set_getElem_self]
    refine k_i0 [n + K] (va_runU (C := "LastAsked$Walled") (As := []) (rest := rest) ⟨hx, hb, hml, hown, hts⟩ (ctX12_kind l D dA _ (pa K) (pu K) (pw K) (pd K) (pr K) (ps K) (pt K) (pn K) _ hM) (va_cwA (owner := "LastAsked$Person") 0 hts (lw_app (List.forall_mem_cons.mpr ⟨hlink, List.forall_mem_cons.mpr ⟨q919, List.forall_mem_cons.mpr ⟨q930, List.forall_mem_cons.mpr ⟨q931, List.forall_mem_cons.mpr ⟨q132, fun _ h => absurd h List.not_mem_nil⟩⟩⟩⟩⟩) (lw_meth q932)) rfl rfl rfl (hK.nw 18 rfl) (by decide +kernel) ⟨Nat.le_trans (Nat.le_of_ble_eq_true rfl) hR1, Nat.le_trans (Nat.le_of_ble_eq_true rfl) hR2⟩) ⟨pre_blind, va_recv hK.1 hP (ci := 9) (q := (RX12, TX12, 7)) rfl he, (pre_S hP1 hK hD1).2⟩ rfl rfl hsz rfl hroom hdg ⟨hc0, hs0⟩) hP hD hS hA hC (fun _ => rfl) (fun u H1 locs1 hP2 hD2 hS2 => ?_)
    exact kk H1 locs1 (hset ▸ hP2) (hset ▸ hD2) hS2
  · rw [q] at he kk
    have hM : MX13_kind  = some 3 := by
      rfl
    have hP1 : va_P D clG [(pa K, .inr (10, ppc pn pu pw pd pr ps pt K))] H := fun k z hz => by
      have h0 : k = 0 := by have := (List.getElem?_eq_some_iff.mp hz).1; simpa using this
      subst h0; cases hz; exact hP _ _ he
    have hC : [n + K].map (fun i => (X ++ ppool np pa pk pn pu pw pd pr ps pt)[i]?) = [(pa K, (.inr (10, ppc pn pu pw pd pr ps pt K) : va_E))].map some := by simp [he]
    have hD1 : va_D A [(pa K, .inr (10, ppc pn pu pw pd pr ps pt K))] := hD.sub [n + K] (by simp [va_nd]) hC
    have hset : putAt (X ++ ppool np pa pk pn pu pw pd pr ps pt) [n + K] [(pa K, .inr (10, ppc pn pu pw pd pr ps pt K))] = X ++ ppool np pa pk pn pu pw pd pr ps pt := by
      obtain ⟨hlt, hev⟩ := List.getElem?_eq_some_iff.mp he
      rw [putAt, putAt, ← hev, List.set_getElem_self]
    refine k_i0 [n + K] (va_runU (C := "LastAsked$Doctor") (As := []) (rest := rest) ⟨hx, hb, hml, hown, hts⟩ (ctX13_kind l D dA _ (pa K) (pu K) (pw K) (pd K) (pr K) (ps K) (pt K) (pn K) _ hM) (va_cwA (owner := "LastAsked$Person") 0 hts (lw_app (List.forall_mem_cons.mpr ⟨hlink, List.forall_mem_cons.mpr ⟨q919, List.forall_mem_cons.mpr ⟨q920, List.forall_mem_cons.mpr ⟨q921, List.forall_mem_cons.mpr ⟨q133, fun _ h => absurd h List.not_mem_nil⟩⟩⟩⟩⟩) (lw_meth q922)) rfl rfl rfl (hK.nw 18 rfl) (by decide +kernel) ⟨Nat.le_trans (Nat.le_of_ble_eq_true rfl) hR1, Nat.le_trans (Nat.le_of_ble_eq_true rfl) hR2⟩) ⟨pre_blind, va_recv hK.1 hP (ci := 10) (q := (RX13, TX13, 7)) rfl he, (pre_S hP1 hK hD1).2⟩ rfl rfl hsz rfl hroom hdg ⟨hc0, hs0⟩) hP hD hS hA hC (fun _ => rfl) (fun u H1 locs1 hP2 hD2 hS2 => ?_)
    exact kk H1 locs1 (hset ▸ hP2) (hset ▸ hD2) hS2
