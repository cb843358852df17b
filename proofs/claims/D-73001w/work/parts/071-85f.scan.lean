set_option maxRecDepth 100000
set_option maxHeartbeats 40000000 in
theorem ceZ_personLine (l : Launch) (D : va_G) (dA : Nat → ClassId) (sz : Nat) (za : Nat → Nat) (h : ZH) (tx : AI) (k9 : Int32 × Int32 × Int32) (ka kv : Nat → Nat) (s : ZS) (er : Int32 × Int32) (hM : MZ_personLine tx k9.1 s = some (.inl er)) : vy_Met l yX2_personLine (ws_ yX2_personLine cX2_personLine 2 none) ({ frames := 9, cells := 21, slots := 127, locals := 371 }) (preX D dA (ZE ka kv) [.ref (za 0)] (zw dA za k9 tx h s) sz) (fun _ _ _ _ => False) (zQ D dA za tx er (va_A (zw dA za k9 tx h s) sz)) 21 127 (va_A (zw dA za k9 tx h s) sz) := by
  refine vy_ofW (cc := cX2_personLine) (maxL := 2) (ret := none) (by decide) rfl ?_
  intro p e s0 m args below meth c s₁ B hml hout hv
  obtain ⟨rfl, hsz, hP, hK, hD0, hE⟩ := hv
  have hx := B.exec
  have hb := B.bytes
  have hr := B.returns
  have hts := atoms_spec (ws := (ws_ yX2_personLine cX2_personLine 2 none)) B.pre
  have hts : ∀ w ∈ lw_all, w.before _ s0 = true := fun w h => hts w (List.mem_cons_of_mem _ h)
  have hown : s0.vm.findClass RX2 = some m.cls := findClass_of_methodNamed B.named
  have hlocks := B.notSynchronized
  subst hsz
  have hD := hD0.self (sz := s0.heap.size)
  generalize hAe : va_A (zw dA za k9 tx h s) s0.heap.size = A at hD hE ⊢
  have hA : ∀ q : Nat, s0.heap.size ≤ q → A q := fun q h => by rw [← hAe]; exact Or.inr h
  have hS : va_S A s0.heap s0.heap [] := va_S.rf
  have hl := lv_entry ([.ref (za 0)]) (n := 2) (Nat.le_of_ble_eq_true rfl)
  rw [lg_entry_eq]
  generalize (lg_sl ([.ref (za 0)]) ++ List.replicate (2 - (lg_sl ([.ref (za 0)])).length) Slot.unset).toArray = ls at hl ⊢
  have hl : lv_has ls 2 [(0, .ref (za 0))] := hl
  unfold MZ_personLine at hM
  refine lv_aload_n hx hb dX2_personLine_0 rfl (lv_at hl 0 rfl) ?_
  refine lv_aload_n hx hb dX2_personLine_1 rfl (lv_at hl 0 rfl) ?_
  refine va_get (D := D) (ci := 1) (v := .ref (za 4)) (C := RX2) (T := TX2) (N := 11) hx hb hts in_X2 hown hK.1 hP 0 rfl rfl 9 (by decide) (hts _ q235) (fun _ h9 => h9) rfl dX2_personLine_2 ?_
  refine va_get (D := D) (ci := 6) (v := .int s.2.2.2.2.2.2.2.2.2.1) (C := RX8) (T := TX8) (N := 13) hx hb hts in_X8 hown hK.1 hP 4 rfl rfl 8 (by decide) (hts _ q485) (fun _ h9 => h9) rfl dX2_personLine_5 ?_
  refine lv_bipush (v := (6 : Int32)) hx hb dX2_personLine_8 (by decide) ?_
  refine lv_icmp_ge (tgt := 17) hx hb dX2_personLine_10 (by decide) (fun c1 => ?_) (fun c1 => ?_)
  · rw [if_pos c1] at hM
    refine lv_iconst (v := (0 : Int32)) hx hb dX2_personLine_17 (by decide) ?_
    obtain ⟨r2_, er2, hM⟩ := b_inv hM
    cases r2_ with
    | inl e9 =>
      dsimp only at hM
      have hM := Sum.inl.inj (Option.some.inj hM)
      subst hM
      exact z_err (vy_runV (As := [.int (0 : Int32)]) (rest := []) ⟨hx, hb, hml, hown, hts⟩ (ceZ_begins l D dA _ za h tx k9 ka kv s false e9 er2 ) (cwV 1 hts (lw_V q716 q718 qs13 q114 q719) rfl rfl rfl (by decide +kernel) ⟨Nat.le_of_ble_eq_true rfl, Nat.le_of_ble_eq_true rfl⟩) (preX_V ZE_ok hP hK hD (ev_at ZE_ok hE hS (w_free hD hS hA)) hP (ci := 1) (q0 := 0) rfl rfl) rfl rfl hl.1 rfl (lv_room (Nat.le_of_ble_eq_true rfl)) dX2_personLine_18 ⟨Nat.le_of_ble_eq_true rfl, Nat.le_of_ble_eq_true rfl⟩) hD hS hA hout hlocks (Nat.le_of_ble_eq_true rfl) (Nat.le_of_ble_eq_true rfl)
    | inr r2 =>
      dsimp only at hM
      refine k_w (va_runV (As := [.int (0 : Int32)]) (rest := []) ⟨hx, hb, hml, hown, hts⟩ (ctZ_begins l D dA _ za h tx k9 ka kv s false r2 er2 ) (cwV 1 hts (lw_V q716 q718 qs13 q114 q719) rfl rfl rfl (by decide +kernel) ⟨Nat.le_of_ble_eq_true rfl, Nat.le_of_ble_eq_true rfl⟩) (preX_V ZE_ok hP hK hD (ev_at ZE_ok hE hS (w_free hD hS hA)) hP (ci := 1) (q0 := 0) rfl rfl) rfl rfl hl.1 rfl (lv_room (Nat.le_of_ble_eq_true rfl)) dX2_personLine_18 ⟨Nat.le_of_ble_eq_true rfl, Nat.le_of_ble_eq_true rfl⟩) hD hS hA (fun u3 H locs x4 hP hD hS => ?_)
      refine W.widen (k := 2) (n := 12) (Nat.le_of_ble_eq_true rfl) (Nat.le_of_ble_eq_true rfl) ?_
      refine W.eq (g2 := F0 m 21 ls []) (by first | rfl | (rfl; rfl) | (rfl) | (simp only [*]; rfl) | simp only [*]) ?_
      refine lv_aload_n hx hb dX2_personLine_21 rfl (lv_at hl 0 rfl) ?_
      refine lv_aload_n hx hb dX2_personLine_22 rfl (lv_at hl 0 rfl) ?_
      obtain ⟨r5_, er5, hM⟩ := b_inv hM
      cases r5_ with
      | inl e9 =>
        dsimp only at hM
        have hM := Sum.inl.inj (Option.some.inj hM)
        subst hM
        exact z_err (vy_runV (As := []) (rest := [.ref (za 0)]) ⟨hx, hb, hml, hown, hts⟩ (ceZ_newName l D dA _ za u3 tx k9 ka kv r2 e9 er5 ) (cwV 0 hts (lw_V q720 q722 qs14 q114 q723) rfl rfl rfl (by decide +kernel) ⟨Nat.le_of_ble_eq_true rfl, Nat.le_of_ble_eq_true rfl⟩) (preX_V ZE_ok hP hK hD (ev_at ZE_ok hE hS (w_free hD hS hA)) hP (ci := 1) (q0 := 0) rfl rfl) rfl rfl hl.1 rfl (lv_room (Nat.le_of_ble_eq_true rfl)) dX2_personLine_23 ⟨Nat.le_of_ble_eq_true rfl, Nat.le_of_ble_eq_true rfl⟩) hD hS hA hout hlocks (Nat.le_of_ble_eq_true rfl) (Nat.le_of_ble_eq_true rfl)
      | inr r5 =>
        dsimp only at hM
        refine k_w (va_runV (As := []) (rest := [.ref (za 0)]) ⟨hx, hb, hml, hown, hts⟩ (ctZ_newName l D dA _ za u3 tx k9 ka kv r2 r5 er5 ) (cwV 0 hts (lw_V q720 q722 qs14 q114 q723) rfl rfl rfl (by decide +kernel) ⟨Nat.le_of_ble_eq_true rfl, Nat.le_of_ble_eq_true rfl⟩) (preX_V ZE_ok hP hK hD (ev_at ZE_ok hE hS (w_free hD hS hA)) hP (ci := 1) (q0 := 0) rfl rfl) rfl rfl hl.1 rfl (lv_room (Nat.le_of_ble_eq_true rfl)) dX2_personLine_23 ⟨Nat.le_of_ble_eq_true rfl, Nat.le_of_ble_eq_true rfl⟩) hD hS hA (fun u6 H locs x7 hP hD hS => ?_)
        refine W.widen (k := 4) (n := 24) (Nat.le_of_ble_eq_true rfl) (Nat.le_of_ble_eq_true rfl) ?_
        refine W.eq (g2 := F0 m 26 ls [.ref (u6.1 r5.1), .ref (za 0)]) (by first | rfl | (rfl; rfl) | (rfl) | (simp only [*]; rfl) | simp only [*]) ?_
        refine lv_aload_n hx hb dX2_personLine_26 rfl (lv_at hl 0 rfl) ?_
        refine va_get (D := D) (ci := 1) (v := .ref (za 4)) (C := RX2) (T := TX2) (N := 11) hx hb hts in_X2 hown hK.1 hP 0 rfl rfl 9 (by decide) (hts _ q235) (fun _ h9 => h9) rfl dX2_personLine_27 ?_
        refine va_get (D := D) (ci := 6) (v := .int r5.2.2.2.2.2.2.2.2.2.2.1) (C := RX8) (T := TX8) (N := 13) hx hb hts in_X8 hown hK.1 hP 4 rfl rfl 8 (by decide) (hts _ q485) (fun _ h9 => h9) rfl dX2_personLine_30 ?_
        obtain ⟨r8_, er8, hM⟩ := b_inv hM
        cases r8_ with
        | inl e9 =>
          dsimp only at hM
          have hM := Sum.inl.inj (Option.some.inj hM)
          subst hM
          exact z_err (vy_runV (As := [.ref (u6.1 r5.1), .int r5.2.2.2.2.2.2.2.2.2.2.1]) (rest := []) ⟨hx, hb, hml, hown, hts⟩ (ceZ_personOf l D dA _ za u6 tx k9 ka kv r5.2 r5.1 r5.2.2.2.2.2.2.2.2.2.2.1 e9 er8 ) (cwV 2 hts (lw_V q734 q736 qs16 q114 q737) rfl rfl rfl (by decide +kernel) ⟨Nat.le_of_ble_eq_true rfl, Nat.le_of_ble_eq_true rfl⟩) (preX_V ZE_ok hP hK hD (ev_at ZE_ok hE hS (w_free hD hS hA)) hP (ci := 1) (q0 := 0) rfl rfl) rfl rfl hl.1 rfl (lv_room (Nat.le_of_ble_eq_true rfl)) dX2_personLine_33 ⟨Nat.le_of_ble_eq_true rfl, Nat.le_of_ble_eq_true rfl⟩) hD hS hA hout hlocks (Nat.le_of_ble_eq_true rfl) (Nat.le_of_ble_eq_true rfl)
        | inr r8 =>
          dsimp only at hM
          refine k_w (va_runV (As := [.ref (u6.1 r5.1), .int r5.2.2.2.2.2.2.2.2.2.2.1]) (rest := []) ⟨hx, hb, hml, hown, hts⟩ (ctZ_personOf l D dA _ za u6 tx k9 ka kv r5.2 r5.1 r5.2.2.2.2.2.2.2.2.2.2.1 r8 er8 ) (cwV 2 hts (lw_V q734 q736 qs16 q114 q737) rfl rfl rfl (by decide +kernel) ⟨Nat.le_of_ble_eq_true rfl, Nat.le_of_ble_eq_true rfl⟩) (preX_V ZE_ok hP hK hD (ev_at ZE_ok hE hS (w_free hD hS hA)) hP (ci := 1) (q0 := 0) rfl rfl) rfl rfl hl.1 rfl (lv_room (Nat.le_of_ble_eq_true rfl)) dX2_personLine_33 ⟨Nat.le_of_ble_eq_true rfl, Nat.le_of_ble_eq_true rfl⟩) hD hS hA (fun u9 H locs x10 hP hD hS => ?_)
          refine W.widen (k := 13) (n := 79) (Nat.le_of_ble_eq_true rfl) (Nat.le_of_ble_eq_true rfl) ?_
          refine W.eq (g2 := F0 m 36 ls [.ref (u9.2.2.2.1 r8.1)]) (by first | rfl | (rfl; rfl) | (rfl) | (simp only [*]; rfl) | simp only [*]) ?_
          refine lv_astore_n (lv' := [(1, .ref (u9.2.2.2.1 r8.1)), (0, .ref (za 0))]) hx hb dX2_personLine_36 rfl hl (by decide) rfl (fun ls hl => ?_)
          refine lv_aload_n hx hb dX2_personLine_37 rfl (lv_at hl 0 rfl) ?_
          refine lv_aload_n hx hb dX2_personLine_38 rfl (lv_at hl 1 rfl) ?_
          refine va_ldcS hx hb hown (hE.2.2.1 14 (Nat.zero_le _) (by decide)) dX2_personLine_39 ?_
          refine lv_iconst (v := (0 : Int32)) hx hb dX2_personLine_41 (by decide) ?_
          refine lv_bipush (v := (99 : Int32)) hx hb dX2_personLine_42 (by decide) ?_
          obtain ⟨h14, hM⟩ := gn_inv hM
          obtain ⟨r11_, er11, hM⟩ := b_inv hM
          cases r11_ with
          | inl e9 =>
            dsimp only at hM
            have hM := Sum.inl.inj (Option.some.inj hM)
            subst hM
            exact z_err (vy_runV (As := [.ref (ka 14), .int (0 : Int32), .int (99 : Int32)]) (rest := [.ref (u9.2.2.2.1 r8.1)]) ⟨hx, hb, hml, hown, hts⟩ (ceZ_after l D dA _ za u9 tx k9 ka kv r8.2 14 (0 : Int32) (99 : Int32) e9 er11 (by decide)) (cwV 3 hts (lw_V q699 q701 qs9 q114 q702) rfl rfl rfl (by decide +kernel) ⟨Nat.le_of_ble_eq_true rfl, Nat.le_of_ble_eq_true rfl⟩) (preX_V ZE_ok hP hK hD (ev_at ZE_ok hE hS (w_free hD hS hA)) hP (ci := 1) (q0 := 0) rfl rfl) rfl rfl hl.1 rfl (lv_room (Nat.le_of_ble_eq_true rfl)) dX2_personLine_44 ⟨Nat.le_of_ble_eq_true rfl, Nat.le_of_ble_eq_true rfl⟩) hD hS hA hout hlocks (Nat.le_of_ble_eq_true rfl) (Nat.le_of_ble_eq_true rfl)
          | inr r11 =>
            dsimp only at hM
            refine k_w (va_runV (As := [.ref (ka 14), .int (0 : Int32), .int (99 : Int32)]) (rest := [.ref (u9.2.2.2.1 r8.1)]) ⟨hx, hb, hml, hown, hts⟩ (ctZ_after l D dA _ za u9 tx k9 ka kv r8.2 14 (0 : Int32) (99 : Int32) r11 er11 (by decide)) (cwV 3 hts (lw_V q699 q701 qs9 q114 q702) rfl rfl rfl (by decide +kernel) ⟨Nat.le_of_ble_eq_true rfl, Nat.le_of_ble_eq_true rfl⟩) (preX_V ZE_ok hP hK hD (ev_at ZE_ok hE hS (w_free hD hS hA)) hP (ci := 1) (q0 := 0) rfl rfl) rfl rfl hl.1 rfl (lv_room (Nat.le_of_ble_eq_true rfl)) dX2_personLine_44 ⟨Nat.le_of_ble_eq_true rfl, Nat.le_of_ble_eq_true rfl⟩) hD hS hA (fun u12 H locs x13 hP hD hS => ?_)
            have hl : lv_has ls 2 [(1, .ref (u12.2.2.2.1 r8.1)), (0, .ref (za 0))] := by simp only [x13.2.1 r8.1 h14]; exact hl
            refine W.widen (k := 17) (n := 103) (Nat.le_of_ble_eq_true rfl) (Nat.le_of_ble_eq_true rfl) ?_
            refine W.eq (g2 := F0 m 47 ls [.int r11.1, .ref (u12.2.2.2.1 r8.1)]) (by first | rfl | (simp only [x13.2.1 r8.1 h14]; rfl) | (simp only [x13.2.1 r8.1 h14]) | (simp only [*]; rfl) | simp only [*]) ?_
            obtain ⟨h15, hM⟩ := gn_inv hM
            obtain ⟨h16, hM⟩ := gn_inv hM
            refine zz_put2 hx hb hts hown hK hP hD hS h15 h16 r11.1 (hts _ q753) dX2_personLine_47 (fun H locs hP hD hS => ?_)
            have hP : va_P D clG (zw dA za k9 tx u12 (r11.2.1, r11.2.2.1, r11.2.2.2.1, r11.2.2.2.2.1, r11.2.2.2.2.2.1, r11.2.2.2.2.2.2.1, r11.2.2.2.2.2.2.2.1, r11.2.2.2.2.2.2.2.2.1, r11.2.2.2.2.2.2.2.2.2.1, r11.2.2.2.2.2.2.2.2.2.2.1, r11.2.2.2.2.2.2.2.2.2.2.2.1, r11.2.2.2.2.2.2.2.2.2.2.2.2.1, r11.2.2.2.2.2.2.2.2.2.2.2.2.2.1, r11.2.2.2.2.2.2.2.2.2.2.2.2.2.2.1, r11.2.2.2.2.2.2.2.2.2.2.2.2.2.2.2.1, r11.2.2.2.2.2.2.2.2.2.2.2.2.2.2.2.2.1, r11.2.2.2.2.2.2.2.2.2.2.2.2.2.2.2.2.2.1, r11.2.2.2.2.2.2.2.2.2.2.2.2.2.2.2.2.2.2.1, r11.2.2.2.2.2.2.2.2.2.2.2.2.2.2.2.2.2.2.2.1, r11.2.2.2.2.2.2.2.2.2.2.2.2.2.2.2.2.2.2.2.2.1, r11.2.2.2.2.2.2.2.2.2.2.2.2.2.2.2.2.2.2.2.2.2.1, r11.2.2.2.2.2.2.2.2.2.2.2.2.2.2.2.2.2.2.2.2.2.2.1, r11.2.2.2.2.2.2.2.2.2.2.2.2.2.2.2.2.2.2.2.2.2.2.2.1, (upd r11.2.2.2.2.2.2.2.2.2.2.2.2.2.2.2.2.2.2.2.2.2.2.2.2.1 r8.1 r11.1), r11.2.2.2.2.2.2.2.2.2.2.2.2.2.2.2.2.2.2.2.2.2.2.2.2.2.1, r11.2.2.2.2.2.2.2.2.2.2.2.2.2.2.2.2.2.2.2.2.2.2.2.2.2.2.1, r11.2.2.2.2.2.2.2.2.2.2.2.2.2.2.2.2.2.2.2.2.2.2.2.2.2.2.2.1, r11.2.2.2.2.2.2.2.2.2.2.2.2.2.2.2.2.2.2.2.2.2.2.2.2.2.2.2.2.1, r11.2.2.2.2.2.2.2.2.2.2.2.2.2.2.2.2.2.2.2.2.2.2.2.2.2.2.2.2.2.1, r11.2.2.2.2.2.2.2.2.2.2.2.2.2.2.2.2.2.2.2.2.2.2.2.2.2.2.2.2.2.2.1, r11.2.2.2.2.2.2.2.2.2.2.2.2.2.2.2.2.2.2.2.2.2.2.2.2.2.2.2.2.2.2.2.1, r11.2.2.2.2.2.2.2.2.2.2.2.2.2.2.2.2.2.2.2.2.2.2.2.2.2.2.2.2.2.2.2.2)) H := hP
            have hD : va_D A (zw dA za k9 tx u12 (r11.2.1, r11.2.2.1, r11.2.2.2.1, r11.2.2.2.2.1, r11.2.2.2.2.2.1, r11.2.2.2.2.2.2.1, r11.2.2.2.2.2.2.2.1, r11.2.2.2.2.2.2.2.2.1, r11.2.2.2.2.2.2.2.2.2.1, r11.2.2.2.2.2.2.2.2.2.2.1, r11.2.2.2.2.2.2.2.2.2.2.2.1, r11.2.2.2.2.2.2.2.2.2.2.2.2.1, r11.2.2.2.2.2.2.2.2.2.2.2.2.2.1, r11.2.2.2.2.2.2.2.2.2.2.2.2.2.2.1, r11.2.2.2.2.2.2.2.2.2.2.2.2.2.2.2.1, r11.2.2.2.2.2.2.2.2.2.2.2.2.2.2.2.2.1, r11.2.2.2.2.2.2.2.2.2.2.2.2.2.2.2.2.2.1, r11.2.2.2.2.2.2.2.2.2.2.2.2.2.2.2.2.2.2.1, r11.2.2.2.2.2.2.2.2.2.2.2.2.2.2.2.2.2.2.2.1, r11.2.2.2.2.2.2.2.2.2.2.2.2.2.2.2.2.2.2.2.2.1, r11.2.2.2.2.2.2.2.2.2.2.2.2.2.2.2.2.2.2.2.2.2.1, r11.2.2.2.2.2.2.2.2.2.2.2.2.2.2.2.2.2.2.2.2.2.2.1, r11.2.2.2.2.2.2.2.2.2.2.2.2.2.2.2.2.2.2.2.2.2.2.2.1, (upd r11.2.2.2.2.2.2.2.2.2.2.2.2.2.2.2.2.2.2.2.2.2.2.2.2.1 r8.1 r11.1), r11.2.2.2.2.2.2.2.2.2.2.2.2.2.2.2.2.2.2.2.2.2.2.2.2.2.1, r11.2.2.2.2.2.2.2.2.2.2.2.2.2.2.2.2.2.2.2.2.2.2.2.2.2.2.1, r11.2.2.2.2.2.2.2.2.2.2.2.2.2.2.2.2.2.2.2.2.2.2.2.2.2.2.2.1, r11.2.2.2.2.2.2.2.2.2.2.2.2.2.2.2.2.2.2.2.2.2.2.2.2.2.2.2.2.1, r11.2.2.2.2.2.2.2.2.2.2.2.2.2.2.2.2.2.2.2.2.2.2.2.2.2.2.2.2.2.1, r11.2.2.2.2.2.2.2.2.2.2.2.2.2.2.2.2.2.2.2.2.2.2.2.2.2.2.2.2.2.2.1, r11.2.2.2.2.2.2.2.2.2.2.2.2.2.2.2.2.2.2.2.2.2.2.2.2.2.2.2.2.2.2.2.1, r11.2.2.2.2.2.2.2.2.2.2.2.2.2.2.2.2.2.2.2.2.2.2.2.2.2.2.2.2.2.2.2.2)) := hD
            refine lv_aload_n hx hb dX2_personLine_50 rfl (lv_at hl 0 rfl) ?_
            refine lv_aload_n hx hb dX2_personLine_51 rfl (lv_at hl 1 rfl) ?_
            refine va_ldcS hx hb hown (hE.2.2.1 15 (Nat.zero_le _) (by decide)) dX2_personLine_52 ?_
            refine lv_iconst (v := (0 : Int32)) hx hb dX2_personLine_54 (by decide) ?_
            refine lv_bipush (v := (100 : Int32)) hx hb dX2_personLine_55 (by decide) ?_
            obtain ⟨h20, hM⟩ := gn_inv hM
            obtain ⟨r17_, er17, hM⟩ := b_inv hM
            cases r17_ with
            | inl e9 =>
              dsimp only at hM
              have hM := Sum.inl.inj (Option.some.inj hM)
              subst hM
              exact z_err (vy_runV (As := [.ref (ka 15), .int (0 : Int32), .int (100 : Int32)]) (rest := [.ref (u12.2.2.2.1 r8.1)]) ⟨hx, hb, hml, hown, hts⟩ (ceZ_after l D dA _ za u12 tx k9 ka kv (r11.2.1, r11.2.2.1, r11.2.2.2.1, r11.2.2.2.2.1, r11.2.2.2.2.2.1, r11.2.2.2.2.2.2.1, r11.2.2.2.2.2.2.2.1, r11.2.2.2.2.2.2.2.2.1, r11.2.2.2.2.2.2.2.2.2.1, r11.2.2.2.2.2.2.2.2.2.2.1, r11.2.2.2.2.2.2.2.2.2.2.2.1, r11.2.2.2.2.2.2.2.2.2.2.2.2.1, r11.2.2.2.2.2.2.2.2.2.2.2.2.2.1, r11.2.2.2.2.2.2.2.2.2.2.2.2.2.2.1, r11.2.2.2.2.2.2.2.2.2.2.2.2.2.2.2.1, r11.2.2.2.2.2.2.2.2.2.2.2.2.2.2.2.2.1, r11.2.2.2.2.2.2.2.2.2.2.2.2.2.2.2.2.2.1, r11.2.2.2.2.2.2.2.2.2.2.2.2.2.2.2.2.2.2.1, r11.2.2.2.2.2.2.2.2.2.2.2.2.2.2.2.2.2.2.2.1, r11.2.2.2.2.2.2.2.2.2.2.2.2.2.2.2.2.2.2.2.2.1, r11.2.2.2.2.2.2.2.2.2.2.2.2.2.2.2.2.2.2.2.2.2.1, r11.2.2.2.2.2.2.2.2.2.2.2.2.2.2.2.2.2.2.2.2.2.2.1, r11.2.2.2.2.2.2.2.2.2.2.2.2.2.2.2.2.2.2.2.2.2.2.2.1, (upd r11.2.2.2.2.2.2.2.2.2.2.2.2.2.2.2.2.2.2.2.2.2.2.2.2.1 r8.1 r11.1), r11.2.2.2.2.2.2.2.2.2.2.2.2.2.2.2.2.2.2.2.2.2.2.2.2.2.1, r11.2.2.2.2.2.2.2.2.2.2.2.2.2.2.2.2.2.2.2.2.2.2.2.2.2.2.1, r11.2.2.2.2.2.2.2.2.2.2.2.2.2.2.2.2.2.2.2.2.2.2.2.2.2.2.2.1, r11.2.2.2.2.2.2.2.2.2.2.2.2.2.2.2.2.2.2.2.2.2.2.2.2.2.2.2.2.1, r11.2.2.2.2.2.2.2.2.2.2.2.2.2.2.2.2.2.2.2.2.2.2.2.2.2.2.2.2.2.1, r11.2.2.2.2.2.2.2.2.2.2.2.2.2.2.2.2.2.2.2.2.2.2.2.2.2.2.2.2.2.2.1, r11.2.2.2.2.2.2.2.2.2.2.2.2.2.2.2.2.2.2.2.2.2.2.2.2.2.2.2.2.2.2.2.1, r11.2.2.2.2.2.2.2.2.2.2.2.2.2.2.2.2.2.2.2.2.2.2.2.2.2.2.2.2.2.2.2.2) 15 (0 : Int32) (100 : Int32) e9 er17 (by decide)) (cwV 3 hts (lw_V q699 q701 qs9 q114 q702) rfl rfl rfl (by decide +kernel) ⟨Nat.le_of_ble_eq_true rfl, Nat.le_of_ble_eq_true rfl⟩) (preX_V ZE_ok hP hK hD (ev_at ZE_ok hE hS (w_free hD hS hA)) hP (ci := 1) (q0 := 0) rfl rfl) rfl rfl hl.1 rfl (lv_room (Nat.le_of_ble_eq_true rfl)) dX2_personLine_57 ⟨Nat.le_of_ble_eq_true rfl, Nat.le_of_ble_eq_true rfl⟩) hD hS hA hout hlocks (Nat.le_of_ble_eq_true rfl) (Nat.le_of_ble_eq_true rfl)
            | inr r17 =>
              dsimp only at hM
              refine k_w (va_runV (As := [.ref (ka 15), .int (0 : Int32), .int (100 : Int32)]) (rest := [.ref (u12.2.2.2.1 r8.1)]) ⟨hx, hb, hml, hown, hts⟩ (ctZ_after l D dA _ za u12 tx k9 ka kv (r11.2.1, r11.2.2.1, r11.2.2.2.1, r11.2.2.2.2.1, r11.2.2.2.2.2.1, r11.2.2.2.2.2.2.1, r11.2.2.2.2.2.2.2.1, r11.2.2.2.2.2.2.2.2.1, r11.2.2.2.2.2.2.2.2.2.1, r11.2.2.2.2.2.2.2.2.2.2.1, r11.2.2.2.2.2.2.2.2.2.2.2.1, r11.2.2.2.2.2.2.2.2.2.2.2.2.1, r11.2.2.2.2.2.2.2.2.2.2.2.2.2.1, r11.2.2.2.2.2.2.2.2.2.2.2.2.2.2.1, r11.2.2.2.2.2.2.2.2.2.2.2.2.2.2.2.1, r11.2.2.2.2.2.2.2.2.2.2.2.2.2.2.2.2.1, r11.2.2.2.2.2.2.2.2.2.2.2.2.2.2.2.2.2.1, r11.2.2.2.2.2.2.2.2.2.2.2.2.2.2.2.2.2.2.1, r11.2.2.2.2.2.2.2.2.2.2.2.2.2.2.2.2.2.2.2.1, r11.2.2.2.2.2.2.2.2.2.2.2.2.2.2.2.2.2.2.2.2.1, r11.2.2.2.2.2.2.2.2.2.2.2.2.2.2.2.2.2.2.2.2.2.1, r11.2.2.2.2.2.2.2.2.2.2.2.2.2.2.2.2.2.2.2.2.2.2.1, r11.2.2.2.2.2.2.2.2.2.2.2.2.2.2.2.2.2.2.2.2.2.2.2.1, (upd r11.2.2.2.2.2.2.2.2.2.2.2.2.2.2.2.2.2.2.2.2.2.2.2.2.1 r8.1 r11.1), r11.2.2.2.2.2.2.2.2.2.2.2.2.2.2.2.2.2.2.2.2.2.2.2.2.2.1, r11.2.2.2.2.2.2.2.2.2.2.2.2.2.2.2.2.2.2.2.2.2.2.2.2.2.2.1, r11.2.2.2.2.2.2.2.2.2.2.2.2.2.2.2.2.2.2.2.2.2.2.2.2.2.2.2.1, r11.2.2.2.2.2.2.2.2.2.2.2.2.2.2.2.2.2.2.2.2.2.2.2.2.2.2.2.2.1, r11.2.2.2.2.2.2.2.2.2.2.2.2.2.2.2.2.2.2.2.2.2.2.2.2.2.2.2.2.2.1, r11.2.2.2.2.2.2.2.2.2.2.2.2.2.2.2.2.2.2.2.2.2.2.2.2.2.2.2.2.2.2.1, r11.2.2.2.2.2.2.2.2.2.2.2.2.2.2.2.2.2.2.2.2.2.2.2.2.2.2.2.2.2.2.2.1, r11.2.2.2.2.2.2.2.2.2.2.2.2.2.2.2.2.2.2.2.2.2.2.2.2.2.2.2.2.2.2.2.2) 15 (0 : Int32) (100 : Int32) r17 er17 (by decide)) (cwV 3 hts (lw_V q699 q701 qs9 q114 q702) rfl rfl rfl (by decide +kernel) ⟨Nat.le_of_ble_eq_true rfl, Nat.le_of_ble_eq_true rfl⟩) (preX_V ZE_ok hP hK hD (ev_at ZE_ok hE hS (w_free hD hS hA)) hP (ci := 1) (q0 := 0) rfl rfl) rfl rfl hl.1 rfl (lv_room (Nat.le_of_ble_eq_true rfl)) dX2_personLine_57 ⟨Nat.le_of_ble_eq_true rfl, Nat.le_of_ble_eq_true rfl⟩) hD hS hA (fun u18 H locs x19 hP hD hS => ?_)
              have hl : lv_has ls 2 [(1, .ref (u18.2.2.2.1 r8.1)), (0, .ref (za 0))] := by simp only [x19.2.1 r8.1 h20]; exact hl
              refine W.widen (k := 21) (n := 127) (Nat.le_of_ble_eq_true rfl) (Nat.le_of_ble_eq_true rfl) ?_
              refine W.eq (g2 := F0 m 60 ls [.int r17.1, .ref (u18.2.2.2.1 r8.1)]) (by first | rfl | (simp only [x19.2.1 r8.1 h20]; rfl) | (simp only [x19.2.1 r8.1 h20]) | (simp only [*]; rfl) | simp only [*]) ?_
              obtain ⟨h21, hM⟩ := gn_inv hM
              obtain ⟨h22, hM⟩ := gn_inv hM
              refine zz_put3 hx hb hts hown hK hP hD hS h21 h22 r17.1 (hts _ q756) dX2_personLine_60 (fun H locs hP hD hS => ?_)
              have hP : va_P D clG (zw dA za k9 tx u18 (r17.2.1, r17.2.2.1, r17.2.2.2.1, r17.2.2.2.2.1, r17.2.2.2.2.2.1, r17.2.2.2.2.2.2.1, r17.2.2.2.2.2.2.2.1, r17.2.2.2.2.2.2.2.2.1, r17.2.2.2.2.2.2.2.2.2.1, r17.2.2.2.2.2.2.2.2.2.2.1, r17.2.2.2.2.2.2.2.2.2.2.2.1, r17.2.2.2.2.2.2.2.2.2.2.2.2.1, r17.2.2.2.2.2.2.2.2.2.2.2.2.2.1, r17.2.2.2.2.2.2.2.2.2.2.2.2.2.2.1, r17.2.2.2.2.2.2.2.2.2.2.2.2.2.2.2.1, r17.2.2.2.2.2.2.2.2.2.2.2.2.2.2.2.2.1, r17.2.2.2.2.2.2.2.2.2.2.2.2.2.2.2.2.2.1, r17.2.2.2.2.2.2.2.2.2.2.2.2.2.2.2.2.2.2.1, r17.2.2.2.2.2.2.2.2.2.2.2.2.2.2.2.2.2.2.2.1, r17.2.2.2.2.2.2.2.2.2.2.2.2.2.2.2.2.2.2.2.2.1, r17.2.2.2.2.2.2.2.2.2.2.2.2.2.2.2.2.2.2.2.2.2.1, r17.2.2.2.2.2.2.2.2.2.2.2.2.2.2.2.2.2.2.2.2.2.2.1, r17.2.2.2.2.2.2.2.2.2.2.2.2.2.2.2.2.2.2.2.2.2.2.2.1, r17.2.2.2.2.2.2.2.2.2.2.2.2.2.2.2.2.2.2.2.2.2.2.2.2.1, (upd r17.2.2.2.2.2.2.2.2.2.2.2.2.2.2.2.2.2.2.2.2.2.2.2.2.2.1 r8.1 r17.1), r17.2.2.2.2.2.2.2.2.2.2.2.2.2.2.2.2.2.2.2.2.2.2.2.2.2.2.1, r17.2.2.2.2.2.2.2.2.2.2.2.2.2.2.2.2.2.2.2.2.2.2.2.2.2.2.2.1, r17.2.2.2.2.2.2.2.2.2.2.2.2.2.2.2.2.2.2.2.2.2.2.2.2.2.2.2.2.1, r17.2.2.2.2.2.2.2.2.2.2.2.2.2.2.2.2.2.2.2.2.2.2.2.2.2.2.2.2.2.1, r17.2.2.2.2.2.2.2.2.2.2.2.2.2.2.2.2.2.2.2.2.2.2.2.2.2.2.2.2.2.2.1, r17.2.2.2.2.2.2.2.2.2.2.2.2.2.2.2.2.2.2.2.2.2.2.2.2.2.2.2.2.2.2.2.1, r17.2.2.2.2.2.2.2.2.2.2.2.2.2.2.2.2.2.2.2.2.2.2.2.2.2.2.2.2.2.2.2.2)) H := hP
              have hD : va_D A (zw dA za k9 tx u18 (r17.2.1, r17.2.2.1, r17.2.2.2.1, r17.2.2.2.2.1, r17.2.2.2.2.2.1, r17.2.2.2.2.2.2.1, r17.2.2.2.2.2.2.2.1, r17.2.2.2.2.2.2.2.2.1, r17.2.2.2.2.2.2.2.2.2.1, r17.2.2.2.2.2.2.2.2.2.2.1, r17.2.2.2.2.2.2.2.2.2.2.2.1, r17.2.2.2.2.2.2.2.2.2.2.2.2.1, r17.2.2.2.2.2.2.2.2.2.2.2.2.2.1, r17.2.2.2.2.2.2.2.2.2.2.2.2.2.2.1, r17.2.2.2.2.2.2.2.2.2.2.2.2.2.2.2.1, r17.2.2.2.2.2.2.2.2.2.2.2.2.2.2.2.2.1, r17.2.2.2.2.2.2.2.2.2.2.2.2.2.2.2.2.2.1, r17.2.2.2.2.2.2.2.2.2.2.2.2.2.2.2.2.2.2.1, r17.2.2.2.2.2.2.2.2.2.2.2.2.2.2.2.2.2.2.2.1, r17.2.2.2.2.2.2.2.2.2.2.2.2.2.2.2.2.2.2.2.2.1, r17.2.2.2.2.2.2.2.2.2.2.2.2.2.2.2.2.2.2.2.2.2.1, r17.2.2.2.2.2.2.2.2.2.2.2.2.2.2.2.2.2.2.2.2.2.2.1, r17.2.2.2.2.2.2.2.2.2.2.2.2.2.2.2.2.2.2.2.2.2.2.2.1, r17.2.2.2.2.2.2.2.2.2.2.2.2.2.2.2.2.2.2.2.2.2.2.2.2.1, (upd r17.2.2.2.2.2.2.2.2.2.2.2.2.2.2.2.2.2.2.2.2.2.2.2.2.2.1 r8.1 r17.1), r17.2.2.2.2.2.2.2.2.2.2.2.2.2.2.2.2.2.2.2.2.2.2.2.2.2.2.1, r17.2.2.2.2.2.2.2.2.2.2.2.2.2.2.2.2.2.2.2.2.2.2.2.2.2.2.2.1, r17.2.2.2.2.2.2.2.2.2.2.2.2.2.2.2.2.2.2.2.2.2.2.2.2.2.2.2.2.1, r17.2.2.2.2.2.2.2.2.2.2.2.2.2.2.2.2.2.2.2.2.2.2.2.2.2.2.2.2.2.1, r17.2.2.2.2.2.2.2.2.2.2.2.2.2.2.2.2.2.2.2.2.2.2.2.2.2.2.2.2.2.2.1, r17.2.2.2.2.2.2.2.2.2.2.2.2.2.2.2.2.2.2.2.2.2.2.2.2.2.2.2.2.2.2.2.1, r17.2.2.2.2.2.2.2.2.2.2.2.2.2.2.2.2.2.2.2.2.2.2.2.2.2.2.2.2.2.2.2.2)) := hD
              refine lv_aload_n hx hb dX2_personLine_63 rfl (lv_at hl 1 rfl) ?_
              refine va_get (D := D) (ci := 1) (v := .ref (za 4)) (C := RX2) (T := TX2) (N := 11) hx hb hts in_X2 hown hK.1 hP 0 rfl rfl 9 (by decide) (hts _ q235) (fun _ h9 => h9) rfl dX2_personLine_64 ?_
              refine va_get (D := D) (ci := 6) (v := .ref (za 5)) (C := RX8) (T := TX8) (N := 13) hx hb hts in_X8 hown hK.1 hP 4 rfl rfl 0 (by decide) (hts _ q459) (fun _ h9 => h9) rfl dX2_personLine_67 ?_
              refine lv_aload_n hx hb dX2_personLine_70 rfl (lv_at hl 1 rfl) ?_
              refine va_get (D := D) (ci := 1) (v := .ref (za 4)) (C := RX2) (T := TX2) (N := 11) hx hb hts in_X2 hown hK.1 hP 0 rfl rfl 9 (by decide) (hts _ q235) (fun _ h9 => h9) rfl dX2_personLine_71 ?_
              refine va_get (D := D) (ci := 6) (v := .int r17.2.2.2.2.2.2.2.2.2.2.1) (C := RX8) (T := TX8) (N := 13) hx hb hts in_X8 hown hK.1 hP 4 rfl rfl 8 (by decide) (hts _ q485) (fun _ h9 => h9) rfl dX2_personLine_74 ?_
              refine lv_aload_n hx hb dX2_personLine_77 rfl (lv_at hl 0 rfl) ?_
              obtain ⟨h25, hM⟩ := gi_inv hM
              obtain ⟨h23, hM⟩ := gall_inv hM
              refine z_ast hx hb hK hP hD hS hE.2.2.2 h23.1 h23.2.1 h23.2.2.1 h23.2.2.2 h25 dX2_personLine_78 (fun H locs hP hD hS => ?_)
              have hP : va_P D clG (zw dA za k9 tx u18 (r17.2.1, r17.2.2.1, r17.2.2.2.1, r17.2.2.2.2.1, r17.2.2.2.2.2.1, r17.2.2.2.2.2.2.1, r17.2.2.2.2.2.2.2.1, r17.2.2.2.2.2.2.2.2.1, r17.2.2.2.2.2.2.2.2.2.1, r17.2.2.2.2.2.2.2.2.2.2.1, r17.2.2.2.2.2.2.2.2.2.2.2.1, r17.2.2.2.2.2.2.2.2.2.2.2.2.1, r17.2.2.2.2.2.2.2.2.2.2.2.2.2.1, r17.2.2.2.2.2.2.2.2.2.2.2.2.2.2.1, r17.2.2.2.2.2.2.2.2.2.2.2.2.2.2.2.1, r17.2.2.2.2.2.2.2.2.2.2.2.2.2.2.2.2.1, r17.2.2.2.2.2.2.2.2.2.2.2.2.2.2.2.2.2.1, r17.2.2.2.2.2.2.2.2.2.2.2.2.2.2.2.2.2.2.1, r17.2.2.2.2.2.2.2.2.2.2.2.2.2.2.2.2.2.2.2.1, r17.2.2.2.2.2.2.2.2.2.2.2.2.2.2.2.2.2.2.2.2.1, r17.2.2.2.2.2.2.2.2.2.2.2.2.2.2.2.2.2.2.2.2.2.1, r17.2.2.2.2.2.2.2.2.2.2.2.2.2.2.2.2.2.2.2.2.2.2.1, r17.2.2.2.2.2.2.2.2.2.2.2.2.2.2.2.2.2.2.2.2.2.2.2.1, r17.2.2.2.2.2.2.2.2.2.2.2.2.2.2.2.2.2.2.2.2.2.2.2.2.1, (upd r17.2.2.2.2.2.2.2.2.2.2.2.2.2.2.2.2.2.2.2.2.2.2.2.2.2.1 r8.1 r17.1), r17.2.2.2.2.2.2.2.2.2.2.2.2.2.2.2.2.2.2.2.2.2.2.2.2.2.2.1, r17.2.2.2.2.2.2.2.2.2.2.2.2.2.2.2.2.2.2.2.2.2.2.2.2.2.2.2.1, r17.2.2.2.2.2.2.2.2.2.2.2.2.2.2.2.2.2.2.2.2.2.2.2.2.2.2.2.2.1, r17.2.2.2.2.2.2.2.2.2.2.2.2.2.2.2.2.2.2.2.2.2.2.2.2.2.2.2.2.2.1, r17.2.2.2.2.2.2.2.2.2.2.2.2.2.2.2.2.2.2.2.2.2.2.2.2.2.2.2.2.2.2.1, r17.2.2.2.2.2.2.2.2.2.2.2.2.2.2.2.2.2.2.2.2.2.2.2.2.2.2.2.2.2.2.2.1, (r17.2.2.2.2.2.2.2.2.2.2.2.2.2.2.2.2.2.2.2.2.2.2.2.2.2.2.2.2.2.2.2.2 + 1))) H := hP
              have hD : va_D A (zw dA za k9 tx u18 (r17.2.1, r17.2.2.1, r17.2.2.2.1, r17.2.2.2.2.1, r17.2.2.2.2.2.1, r17.2.2.2.2.2.2.1, r17.2.2.2.2.2.2.2.1, r17.2.2.2.2.2.2.2.2.1, r17.2.2.2.2.2.2.2.2.2.1, r17.2.2.2.2.2.2.2.2.2.2.1, r17.2.2.2.2.2.2.2.2.2.2.2.1, r17.2.2.2.2.2.2.2.2.2.2.2.2.1, r17.2.2.2.2.2.2.2.2.2.2.2.2.2.1, r17.2.2.2.2.2.2.2.2.2.2.2.2.2.2.1, r17.2.2.2.2.2.2.2.2.2.2.2.2.2.2.2.1, r17.2.2.2.2.2.2.2.2.2.2.2.2.2.2.2.2.1, r17.2.2.2.2.2.2.2.2.2.2.2.2.2.2.2.2.2.1, r17.2.2.2.2.2.2.2.2.2.2.2.2.2.2.2.2.2.2.1, r17.2.2.2.2.2.2.2.2.2.2.2.2.2.2.2.2.2.2.2.1, r17.2.2.2.2.2.2.2.2.2.2.2.2.2.2.2.2.2.2.2.2.1, r17.2.2.2.2.2.2.2.2.2.2.2.2.2.2.2.2.2.2.2.2.2.1, r17.2.2.2.2.2.2.2.2.2.2.2.2.2.2.2.2.2.2.2.2.2.2.1, r17.2.2.2.2.2.2.2.2.2.2.2.2.2.2.2.2.2.2.2.2.2.2.2.1, r17.2.2.2.2.2.2.2.2.2.2.2.2.2.2.2.2.2.2.2.2.2.2.2.2.1, (upd r17.2.2.2.2.2.2.2.2.2.2.2.2.2.2.2.2.2.2.2.2.2.2.2.2.2.1 r8.1 r17.1), r17.2.2.2.2.2.2.2.2.2.2.2.2.2.2.2.2.2.2.2.2.2.2.2.2.2.2.1, r17.2.2.2.2.2.2.2.2.2.2.2.2.2.2.2.2.2.2.2.2.2.2.2.2.2.2.2.1, r17.2.2.2.2.2.2.2.2.2.2.2.2.2.2.2.2.2.2.2.2.2.2.2.2.2.2.2.2.1, r17.2.2.2.2.2.2.2.2.2.2.2.2.2.2.2.2.2.2.2.2.2.2.2.2.2.2.2.2.2.1, r17.2.2.2.2.2.2.2.2.2.2.2.2.2.2.2.2.2.2.2.2.2.2.2.2.2.2.2.2.2.2.1, r17.2.2.2.2.2.2.2.2.2.2.2.2.2.2.2.2.2.2.2.2.2.2.2.2.2.2.2.2.2.2.2.1, (r17.2.2.2.2.2.2.2.2.2.2.2.2.2.2.2.2.2.2.2.2.2.2.2.2.2.2.2.2.2.2.2.2 + 1))) := hD
              refine lv_aload_n hx hb dX2_personLine_79 rfl (lv_at hl 1 rfl) ?_
              refine va_get (D := D) (ci := 1) (v := .ref (za 4)) (C := RX2) (T := TX2) (N := 11) hx hb hts in_X2 hown hK.1 hP 0 rfl rfl 9 (by decide) (hts _ q235) (fun _ h9 => h9) rfl dX2_personLine_80 ?_
              refine lv_dup hx hb dX2_personLine_83 rfl ?_
              refine va_get (D := D) (ci := 6) (v := .int r17.2.2.2.2.2.2.2.2.2.2.1) (C := RX8) (T := TX8) (N := 13) hx hb hts in_X8 hown hK.1 hP 4 rfl rfl 8 (by decide) (hts _ q485) (fun _ h9 => h9) rfl dX2_personLine_84 ?_
              refine lv_iconst (v := (1 : Int32)) hx hb dX2_personLine_87 (by decide) ?_
              refine lv_iadd hx hb dX2_personLine_88 ?_
              obtain ⟨v0_, hv0_⟩ : ∃ v_ : Int32, v_ = (r17.2.2.2.2.2.2.2.2.2.2.1 + (1 : Int32)) := ⟨_, rfl⟩
              rw [← hv0_]
              try rw [← hv0_] at hM
              refine va_put (D := D) (ci := 6) (v := .int v0_) (ty := .int) (C := RX8) (T := TX8) (N := 13) hx hb hts in_X8 tyX8 tyX8_ok nmX8 hown hK.1 hP hD hS 4 rfl rfl 8 (by decide) (hts _ q485) (fun _ h9 => h9) rfl (by decide +kernel) rfl rfl (Nat.le_of_ble_eq_true rfl) dX2_personLine_89 (fun H locs hP hD hS => ?_)
              have hP : va_P D clG (zw dA za k9 tx u18 (r17.2.1, r17.2.2.1, r17.2.2.2.1, r17.2.2.2.2.1, r17.2.2.2.2.2.1, r17.2.2.2.2.2.2.1, r17.2.2.2.2.2.2.2.1, r17.2.2.2.2.2.2.2.2.1, r17.2.2.2.2.2.2.2.2.2.1, v0_, r17.2.2.2.2.2.2.2.2.2.2.2.1, r17.2.2.2.2.2.2.2.2.2.2.2.2.1, r17.2.2.2.2.2.2.2.2.2.2.2.2.2.1, r17.2.2.2.2.2.2.2.2.2.2.2.2.2.2.1, r17.2.2.2.2.2.2.2.2.2.2.2.2.2.2.2.1, r17.2.2.2.2.2.2.2.2.2.2.2.2.2.2.2.2.1, r17.2.2.2.2.2.2.2.2.2.2.2.2.2.2.2.2.2.1, r17.2.2.2.2.2.2.2.2.2.2.2.2.2.2.2.2.2.2.1, r17.2.2.2.2.2.2.2.2.2.2.2.2.2.2.2.2.2.2.2.1, r17.2.2.2.2.2.2.2.2.2.2.2.2.2.2.2.2.2.2.2.2.1, r17.2.2.2.2.2.2.2.2.2.2.2.2.2.2.2.2.2.2.2.2.2.1, r17.2.2.2.2.2.2.2.2.2.2.2.2.2.2.2.2.2.2.2.2.2.2.1, r17.2.2.2.2.2.2.2.2.2.2.2.2.2.2.2.2.2.2.2.2.2.2.2.1, r17.2.2.2.2.2.2.2.2.2.2.2.2.2.2.2.2.2.2.2.2.2.2.2.2.1, (upd r17.2.2.2.2.2.2.2.2.2.2.2.2.2.2.2.2.2.2.2.2.2.2.2.2.2.1 r8.1 r17.1), r17.2.2.2.2.2.2.2.2.2.2.2.2.2.2.2.2.2.2.2.2.2.2.2.2.2.2.1, r17.2.2.2.2.2.2.2.2.2.2.2.2.2.2.2.2.2.2.2.2.2.2.2.2.2.2.2.1, r17.2.2.2.2.2.2.2.2.2.2.2.2.2.2.2.2.2.2.2.2.2.2.2.2.2.2.2.2.1, r17.2.2.2.2.2.2.2.2.2.2.2.2.2.2.2.2.2.2.2.2.2.2.2.2.2.2.2.2.2.1, r17.2.2.2.2.2.2.2.2.2.2.2.2.2.2.2.2.2.2.2.2.2.2.2.2.2.2.2.2.2.2.1, r17.2.2.2.2.2.2.2.2.2.2.2.2.2.2.2.2.2.2.2.2.2.2.2.2.2.2.2.2.2.2.2.1, (r17.2.2.2.2.2.2.2.2.2.2.2.2.2.2.2.2.2.2.2.2.2.2.2.2.2.2.2.2.2.2.2.2 + 1))) H := zP_set hP (Nat.le_of_ble_eq_true rfl) rfl rfl
              have hD : va_D A (zw dA za k9 tx u18 (r17.2.1, r17.2.2.1, r17.2.2.2.1, r17.2.2.2.2.1, r17.2.2.2.2.2.1, r17.2.2.2.2.2.2.1, r17.2.2.2.2.2.2.2.1, r17.2.2.2.2.2.2.2.2.1, r17.2.2.2.2.2.2.2.2.2.1, v0_, r17.2.2.2.2.2.2.2.2.2.2.2.1, r17.2.2.2.2.2.2.2.2.2.2.2.2.1, r17.2.2.2.2.2.2.2.2.2.2.2.2.2.1, r17.2.2.2.2.2.2.2.2.2.2.2.2.2.2.1, r17.2.2.2.2.2.2.2.2.2.2.2.2.2.2.2.1, r17.2.2.2.2.2.2.2.2.2.2.2.2.2.2.2.2.1, r17.2.2.2.2.2.2.2.2.2.2.2.2.2.2.2.2.2.1, r17.2.2.2.2.2.2.2.2.2.2.2.2.2.2.2.2.2.2.1, r17.2.2.2.2.2.2.2.2.2.2.2.2.2.2.2.2.2.2.2.1, r17.2.2.2.2.2.2.2.2.2.2.2.2.2.2.2.2.2.2.2.2.1, r17.2.2.2.2.2.2.2.2.2.2.2.2.2.2.2.2.2.2.2.2.2.1, r17.2.2.2.2.2.2.2.2.2.2.2.2.2.2.2.2.2.2.2.2.2.2.1, r17.2.2.2.2.2.2.2.2.2.2.2.2.2.2.2.2.2.2.2.2.2.2.2.1, r17.2.2.2.2.2.2.2.2.2.2.2.2.2.2.2.2.2.2.2.2.2.2.2.2.1, (upd r17.2.2.2.2.2.2.2.2.2.2.2.2.2.2.2.2.2.2.2.2.2.2.2.2.2.1 r8.1 r17.1), r17.2.2.2.2.2.2.2.2.2.2.2.2.2.2.2.2.2.2.2.2.2.2.2.2.2.2.1, r17.2.2.2.2.2.2.2.2.2.2.2.2.2.2.2.2.2.2.2.2.2.2.2.2.2.2.2.1, r17.2.2.2.2.2.2.2.2.2.2.2.2.2.2.2.2.2.2.2.2.2.2.2.2.2.2.2.2.1, r17.2.2.2.2.2.2.2.2.2.2.2.2.2.2.2.2.2.2.2.2.2.2.2.2.2.2.2.2.2.1, r17.2.2.2.2.2.2.2.2.2.2.2.2.2.2.2.2.2.2.2.2.2.2.2.2.2.2.2.2.2.2.1, r17.2.2.2.2.2.2.2.2.2.2.2.2.2.2.2.2.2.2.2.2.2.2.2.2.2.2.2.2.2.2.2.1, (r17.2.2.2.2.2.2.2.2.2.2.2.2.2.2.2.2.2.2.2.2.2.2.2.2.2.2.2.2.2.2.2.2 + 1))) := zD_set hD (Nat.le_of_ble_eq_true rfl) rfl rfl
              cases hM
  · rw [if_neg c1] at hM
    refine lv_iconst (v := (1 : Int32)) hx hb dX2_personLine_13 (by decide) ?_
    refine lv_goto (tgt := 18) hx hb dX2_personLine_14 (by decide) ?_
    obtain ⟨r26_, er26, hM⟩ := b_inv hM
    cases r26_ with
    | inl e9 =>
      dsimp only at hM
      have hM := Sum.inl.inj (Option.some.inj hM)
      subst hM
      exact z_err (vy_runV (As := [.int (1 : Int32)]) (rest := []) ⟨hx, hb, hml, hown, hts⟩ (ceZ_begins l D dA _ za h tx k9 ka kv s true e9 er26 ) (cwV 1 hts (lw_V q716 q718 qs13 q114 q719) rfl rfl rfl (by decide +kernel) ⟨Nat.le_of_ble_eq_true rfl, Nat.le_of_ble_eq_true rfl⟩) (preX_V ZE_ok hP hK hD (ev_at ZE_ok hE hS (w_free hD hS hA)) hP (ci := 1) (q0 := 0) rfl rfl) rfl rfl hl.1 rfl (lv_room (Nat.le_of_ble_eq_true rfl)) dX2_personLine_18 ⟨Nat.le_of_ble_eq_true rfl, Nat.le_of_ble_eq_true rfl⟩) hD hS hA hout hlocks (Nat.le_of_ble_eq_true rfl) (Nat.le_of_ble_eq_true rfl)
    | inr r26 =>
      dsimp only at hM
      refine k_w (va_runV (As := [.int (1 : Int32)]) (rest := []) ⟨hx, hb, hml, hown, hts⟩ (ctZ_begins l D dA _ za h tx k9 ka kv s true r26 er26 ) (cwV 1 hts (lw_V q716 q718 qs13 q114 q719) rfl rfl rfl (by decide +kernel) ⟨Nat.le_of_ble_eq_true rfl, Nat.le_of_ble_eq_true rfl⟩) (preX_V ZE_ok hP hK hD (ev_at ZE_ok hE hS (w_free hD hS hA)) hP (ci := 1) (q0 := 0) rfl rfl) rfl rfl hl.1 rfl (lv_room (Nat.le_of_ble_eq_true rfl)) dX2_personLine_18 ⟨Nat.le_of_ble_eq_true rfl, Nat.le_of_ble_eq_true rfl⟩) hD hS hA (fun u27 H locs x28 hP hD hS => ?_)
      refine W.widen (k := 2) (n := 12) (Nat.le_of_ble_eq_true rfl) (Nat.le_of_ble_eq_true rfl) ?_
      refine W.eq (g2 := F0 m 21 ls []) (by first | rfl | (rfl; rfl) | (rfl) | (simp only [*]; rfl) | simp only [*]) ?_
      refine lv_aload_n hx hb dX2_personLine_21 rfl (lv_at hl 0 rfl) ?_
      refine lv_aload_n hx hb dX2_personLine_22 rfl (lv_at hl 0 rfl) ?_
      obtain ⟨r29_, er29, hM⟩ := b_inv hM
      cases r29_ with
      | inl e9 =>
        dsimp only at hM
        have hM := Sum.inl.inj (Option.some.inj hM)
        subst hM
        exact z_err (vy_runV (As := []) (rest := [.ref (za 0)]) ⟨hx, hb, hml, hown, hts⟩ (ceZ_newName l D dA _ za u27 tx k9 ka kv r26 e9 er29 ) (cwV 0 hts (lw_V q720 q722 qs14 q114 q723) rfl rfl rfl (by decide +kernel) ⟨Nat.le_of_ble_eq_true rfl, Nat.le_of_ble_eq_true rfl⟩) (preX_V ZE_ok hP hK hD (ev_at ZE_ok hE hS (w_free hD hS hA)) hP (ci := 1) (q0 := 0) rfl rfl) rfl rfl hl.1 rfl (lv_room (Nat.le_of_ble_eq_true rfl)) dX2_personLine_23 ⟨Nat.le_of_ble_eq_true rfl, Nat.le_of_ble_eq_true rfl⟩) hD hS hA hout hlocks (Nat.le_of_ble_eq_true rfl) (Nat.le_of_ble_eq_true rfl)
      | inr r29 =>
        dsimp only at hM
        refine k_w (va_runV (As := []) (rest := [.ref (za 0)]) ⟨hx, hb, hml, hown, hts⟩ (ctZ_newName l D dA _ za u27 tx k9 ka kv r26 r29 er29 ) (cwV 0 hts (lw_V q720 q722 qs14 q114 q723) rfl rfl rfl (by decide +kernel) ⟨Nat.le_of_ble_eq_true rfl, Nat.le_of_ble_eq_true rfl⟩) (preX_V ZE_ok hP hK hD (ev_at ZE_ok hE hS (w_free hD hS hA)) hP (ci := 1) (q0 := 0) rfl rfl) rfl rfl hl.1 rfl (lv_room (Nat.le_of_ble_eq_true rfl)) dX2_personLine_23 ⟨Nat.le_of_ble_eq_true rfl, Nat.le_of_ble_eq_true rfl⟩) hD hS hA (fun u30 H locs x31 hP hD hS => ?_)
        refine W.widen (k := 4) (n := 24) (Nat.le_of_ble_eq_true rfl) (Nat.le_of_ble_eq_true rfl) ?_
        refine W.eq (g2 := F0 m 26 ls [.ref (u30.1 r29.1), .ref (za 0)]) (by first | rfl | (rfl; rfl) | (rfl) | (simp only [*]; rfl) | simp only [*]) ?_
        refine lv_aload_n hx hb dX2_personLine_26 rfl (lv_at hl 0 rfl) ?_
        refine va_get (D := D) (ci := 1) (v := .ref (za 4)) (C := RX2) (T := TX2) (N := 11) hx hb hts in_X2 hown hK.1 hP 0 rfl rfl 9 (by decide) (hts _ q235) (fun _ h9 => h9) rfl dX2_personLine_27 ?_
        refine va_get (D := D) (ci := 6) (v := .int r29.2.2.2.2.2.2.2.2.2.2.1) (C := RX8) (T := TX8) (N := 13) hx hb hts in_X8 hown hK.1 hP 4 rfl rfl 8 (by decide) (hts _ q485) (fun _ h9 => h9) rfl dX2_personLine_30 ?_
        obtain ⟨r32_, er32, hM⟩ := b_inv hM
        cases r32_ with
        | inl e9 =>
          dsimp only at hM
          have hM := Sum.inl.inj (Option.some.inj hM)
          subst hM
          exact z_err (vy_runV (As := [.ref (u30.1 r29.1), .int r29.2.2.2.2.2.2.2.2.2.2.1]) (rest := []) ⟨hx, hb, hml, hown, hts⟩ (ceZ_personOf l D dA _ za u30 tx k9 ka kv r29.2 r29.1 r29.2.2.2.2.2.2.2.2.2.2.1 e9 er32 ) (cwV 2 hts (lw_V q734 q736 qs16 q114 q737) rfl rfl rfl (by decide +kernel) ⟨Nat.le_of_ble_eq_true rfl, Nat.le_of_ble_eq_true rfl⟩) (preX_V ZE_ok hP hK hD (ev_at ZE_ok hE hS (w_free hD hS hA)) hP (ci := 1) (q0 := 0) rfl rfl) rfl rfl hl.1 rfl (lv_room (Nat.le_of_ble_eq_true rfl)) dX2_personLine_33 ⟨Nat.le_of_ble_eq_true rfl, Nat.le_of_ble_eq_true rfl⟩) hD hS hA hout hlocks (Nat.le_of_ble_eq_true rfl) (Nat.le_of_ble_eq_true rfl)
        | inr r32 =>
          dsimp only at hM
          refine k_w (va_runV (As := [.ref (u30.1 r29.1), .int r29.2.2.2.2.2.2.2.2.2.2.1]) (rest := []) ⟨hx, hb, hml, hown, hts⟩ (ctZ_personOf l D dA _ za u30 tx k9 ka kv r29.2 r29.1 r29.2.2.2.2.2.2.2.2.2.2.1 r32 er32 ) (cwV 2 hts (lw_V q734 q736 qs16 q114 q737) rfl rfl rfl (by decide +kernel) ⟨Nat.le_of_ble_eq_true rfl, Nat.le_of_ble_eq_true rfl⟩) (preX_V ZE_ok hP hK hD (ev_at ZE_ok hE hS (w_free hD hS hA)) hP (ci := 1) (q0 := 0) rfl rfl) rfl rfl hl.1 rfl (lv_room (Nat.le_of_ble_eq_true rfl)) dX2_personLine_33 ⟨Nat.le_of_ble_eq_true rfl, Nat.le_of_ble_eq_true rfl⟩) hD hS hA (fun u33 H locs x34 hP hD hS => ?_)
          refine W.widen (k := 13) (n := 79) (Nat.le_of_ble_eq_true rfl) (Nat.le_of_ble_eq_true rfl) ?_
          refine W.eq (g2 := F0 m 36 ls [.ref (u33.2.2.2.1 r32.1)]) (by first | rfl | (rfl; rfl) | (rfl) | (simp only [*]; rfl) | simp only [*]) ?_
          refine lv_astore_n (lv' := [(1, .ref (u33.2.2.2.1 r32.1)), (0, .ref (za 0))]) hx hb dX2_personLine_36 rfl hl (by decide) rfl (fun ls hl => ?_)
          refine lv_aload_n hx hb dX2_personLine_37 rfl (lv_at hl 0 rfl) ?_
          refine lv_aload_n hx hb dX2_personLine_38 rfl (lv_at hl 1 rfl) ?_
          refine va_ldcS hx hb hown (hE.2.2.1 14 (Nat.zero_le _) (by decide)) dX2_personLine_39 ?_
          refine lv_iconst (v := (0 : Int32)) hx hb dX2_personLine_41 (by decide) ?_
          refine lv_bipush (v := (99 : Int32)) hx hb dX2_personLine_42 (by decide) ?_
          obtain ⟨h38, hM⟩ := gn_inv hM
          obtain ⟨r35_, er35, hM⟩ := b_inv hM
          cases r35_ with
          | inl e9 =>
            dsimp only at hM
            have hM := Sum.inl.inj (Option.some.inj hM)
            subst hM
            exact z_err (vy_runV (As := [.ref (ka 14), .int (0 : Int32), .int (99 : Int32)]) (rest := [.ref (u33.2.2.2.1 r32.1)]) ⟨hx, hb, hml, hown, hts⟩ (ceZ_after l D dA _ za u33 tx k9 ka kv r32.2 14 (0 : Int32) (99 : Int32) e9 er35 (by decide)) (cwV 3 hts (lw_V q699 q701 qs9 q114 q702) rfl rfl rfl (by decide +kernel) ⟨Nat.le_of_ble_eq_true rfl, Nat.le_of_ble_eq_true rfl⟩) (preX_V ZE_ok hP hK hD (ev_at ZE_ok hE hS (w_free hD hS hA)) hP (ci := 1) (q0 := 0) rfl rfl) rfl rfl hl.1 rfl (lv_room (Nat.le_of_ble_eq_true rfl)) dX2_personLine_44 ⟨Nat.le_of_ble_eq_true rfl, Nat.le_of_ble_eq_true rfl⟩) hD hS hA hout hlocks (Nat.le_of_ble_eq_true rfl) (Nat.le_of_ble_eq_true rfl)
          | inr r35 =>
            dsimp only at hM
            refine k_w (va_runV (As := [.ref (ka 14), .int (0 : Int32), .int (99 : Int32)]) (rest := [.ref (u33.2.2.2.1 r32.1)]) ⟨hx, hb, hml, hown, hts⟩ (ctZ_after l D dA _ za u33 tx k9 ka kv r32.2 14 (0 : Int32) (99 : Int32) r35 er35 (by decide)) (cwV 3 hts (lw_V q699 q701 qs9 q114 q702) rfl rfl rfl (by decide +kernel) ⟨Nat.le_of_ble_eq_true rfl, Nat.le_of_ble_eq_true rfl⟩) (preX_V ZE_ok hP hK hD (ev_at ZE_ok hE hS (w_free hD hS hA)) hP (ci := 1) (q0 := 0) rfl rfl) rfl rfl hl.1 rfl (lv_room (Nat.le_of_ble_eq_true rfl)) dX2_personLine_44 ⟨Nat.le_of_ble_eq_true rfl, Nat.le_of_ble_eq_true rfl⟩) hD hS hA (fun u36 H locs x37 hP hD hS => ?_)
            have hl : lv_has ls 2 [(1, .ref (u36.2.2.2.1 r32.1)), (0, .ref (za 0))] := by simp only [x37.2.1 r32.1 h38]; exact hl
            refine W.widen (k := 17) (n := 103) (Nat.le_of_ble_eq_true rfl) (Nat.le_of_ble_eq_true rfl) ?_
            refine W.eq (g2 := F0 m 47 ls [.int r35.1, .ref (u36.2.2.2.1 r32.1)]) (by first | rfl | (simp only [x37.2.1 r32.1 h38]; rfl) | (simp only [x37.2.1 r32.1 h38]) | (simp only [*]; rfl) | simp only [*]) ?_
            obtain ⟨h39, hM⟩ := gn_inv hM
            obtain ⟨h40, hM⟩ := gn_inv hM
            refine zz_put2 hx hb hts hown hK hP hD hS h39 h40 r35.1 (hts _ q753) dX2_personLine_47 (fun H locs hP hD hS => ?_)
            have hP : va_P D clG (zw dA za k9 tx u36 (r35.2.1, r35.2.2.1, r35.2.2.2.1, r35.2.2.2.2.1, r35.2.2.2.2.2.1, r35.2.2.2.2.2.2.1, r35.2.2.2.2.2.2.2.1, r35.2.2.2.2.2.2.2.2.1, r35.2.2.2.2.2.2.2.2.2.1, r35.2.2.2.2.2.2.2.2.2.2.1, r35.2.2.2.2.2.2.2.2.2.2.2.1, r35.2.2.2.2.2.2.2.2.2.2.2.2.1, r35.2.2.2.2.2.2.2.2.2.2.2.2.2.1, r35.2.2.2.2.2.2.2.2.2.2.2.2.2.2.1, r35.2.2.2.2.2.2.2.2.2.2.2.2.2.2.2.1, r35.2.2.2.2.2.2.2.2.2.2.2.2.2.2.2.2.1, r35.2.2.2.2.2.2.2.2.2.2.2.2.2.2.2.2.2.1, r35.2.2.2.2.2.2.2.2.2.2.2.2.2.2.2.2.2.2.1, r35.2.2.2.2.2.2.2.2.2.2.2.2.2.2.2.2.2.2.2.1, r35.2.2.2.2.2.2.2.2.2.2.2.2.2.2.2.2.2.2.2.2.1, r35.2.2.2.2.2.2.2.2.2.2.2.2.2.2.2.2.2.2.2.2.2.1, r35.2.2.2.2.2.2.2.2.2.2.2.2.2.2.2.2.2.2.2.2.2.2.1, r35.2.2.2.2.2.2.2.2.2.2.2.2.2.2.2.2.2.2.2.2.2.2.2.1, (upd r35.2.2.2.2.2.2.2.2.2.2.2.2.2.2.2.2.2.2.2.2.2.2.2.2.1 r32.1 r35.1), r35.2.2.2.2.2.2.2.2.2.2.2.2.2.2.2.2.2.2.2.2.2.2.2.2.2.1, r35.2.2.2.2.2.2.2.2.2.2.2.2.2.2.2.2.2.2.2.2.2.2.2.2.2.2.1, r35.2.2.2.2.2.2.2.2.2.2.2.2.2.2.2.2.2.2.2.2.2.2.2.2.2.2.2.1, r35.2.2.2.2.2.2.2.2.2.2.2.2.2.2.2.2.2.2.2.2.2.2.2.2.2.2.2.2.1, r35.2.2.2.2.2.2.2.2.2.2.2.2.2.2.2.2.2.2.2.2.2.2.2.2.2.2.2.2.2.1, r35.2.2.2.2.2.2.2.2.2.2.2.2.2.2.2.2.2.2.2.2.2.2.2.2.2.2.2.2.2.2.1, r35.2.2.2.2.2.2.2.2.2.2.2.2.2.2.2.2.2.2.2.2.2.2.2.2.2.2.2.2.2.2.2.1, r35.2.2.2.2.2.2.2.2.2.2.2.2.2.2.2.2.2.2.2.2.2.2.2.2.2.2.2.2.2.2.2.2)) H := hP
            have hD : va_D A (zw dA za k9 tx u36 (r35.2.1, r35.2.2.1, r35.2.2.2.1, r35.2.2.2.2.1, r35.2.2.2.2.2.1, r35.2.2.2.2.2.2.1, r35.2.2.2.2.2.2.2.1, r35.2.2.2.2.2.2.2.2.1, r35.2.2.2.2.2.2.2.2.2.1, r35.2.2.2.2.2.2.2.2.2.2.1, r35.2.2.2.2.2.2.2.2.2.2.2.1, r35.2.2.2.2.2.2.2.2.2.2.2.2.1, r35.2.2.2.2.2.2.2.2.2.2.2.2.2.1, r35.2.2.2.2.2.2.2.2.2.2.2.2.2.2.1, r35.2.2.2.2.2.2.2.2.2.2.2.2.2.2.2.1, r35.2.2.2.2.2.2.2.2.2.2.2.2.2.2.2.2.1, r35.2.2.2.2.2.2.2.2.2.2.2.2.2.2.2.2.2.1, r35.2.2.2.2.2.2.2.2.2.2.2.2.2.2.2.2.2.2.1, r35.2.2.2.2.2.2.2.2.2.2.2.2.2.2.2.2.2.2.2.1, r35.2.2.2.2.2.2.2.2.2.2.2.2.2.2.2.2.2.2.2.2.1, r35.2.2.2.2.2.2.2.2.2.2.2.2.2.2.2.2.2.2.2.2.2.1, r35.2.2.2.2.2.2.2.2.2.2.2.2.2.2.2.2.2.2.2.2.2.2.1, r35.2.2.2.2.2.2.2.2.2.2.2.2.2.2.2.2.2.2.2.2.2.2.2.1, (upd r35.2.2.2.2.2.2.2.2.2.2.2.2.2.2.2.2.2.2.2.2.2.2.2.2.1 r32.1 r35.1), r35.2.2.2.2.2.2.2.2.2.2.2.2.2.2.2.2.2.2.2.2.2.2.2.2.2.1, r35.2.2.2.2.2.2.2.2.2.2.2.2.2.2.2.2.2.2.2.2.2.2.2.2.2.2.1, r35.2.2.2.2.2.2.2.2.2.2.2.2.2.2.2.2.2.2.2.2.2.2.2.2.2.2.2.1, r35.2.2.2.2.2.2.2.2.2.2.2.2.2.2.2.2.2.2.2.2.2.2.2.2.2.2.2.2.1, r35.2.2.2.2.2.2.2.2.2.2.2.2.2.2.2.2.2.2.2.2.2.2.2.2.2.2.2.2.2.1, r35.2.2.2.2.2.2.2.2.2.2.2.2.2.2.2.2.2.2.2.2.2.2.2.2.2.2.2.2.2.2.1, r35.2.2.2.2.2.2.2.2.2.2.2.2.2.2.2.2.2.2.2.2.2.2.2.2.2.2.2.2.2.2.2.1, r35.2.2.2.2.2.2.2.2.2.2.2.2.2.2.2.2.2.2.2.2.2.2.2.2.2.2.2.2.2.2.2.2)) := hD
            refine lv_aload_n hx hb dX2_personLine_50 rfl (lv_at hl 0 rfl) ?_
            refine lv_aload_n hx hb dX2_personLine_51 rfl (lv_at hl 1 rfl) ?_
            refine va_ldcS hx hb hown (hE.2.2.1 15 (Nat.zero_le _) (by decide)) dX2_personLine_52 ?_
            refine lv_iconst (v := (0 : Int32)) hx hb dX2_personLine_54 (by decide) ?_
            refine lv_bipush (v := (100 : Int32)) hx hb dX2_personLine_55 (by decide) ?_
            obtain ⟨h44, hM⟩ := gn_inv hM
            obtain ⟨r41_, er41, hM⟩ := b_inv hM
            cases r41_ with
            | inl e9 =>
              dsimp only at hM
              have hM := Sum.inl.inj (Option.some.inj hM)
              subst hM
              exact z_err (vy_runV (As := [.ref (ka 15), .int (0 : Int32), .int (100 : Int32)]) (rest := [.ref (u36.2.2.2.1 r32.1)]) ⟨hx, hb, hml, hown, hts⟩ (ceZ_after l D dA _ za u36 tx k9 ka kv (r35.2.1, r35.2.2.1, r35.2.2.2.1, r35.2.2.2.2.1, r35.2.2.2.2.2.1, r35.2.2.2.2.2.2.1, r35.2.2.2.2.2.2.2.1, r35.2.2.2.2.2.2.2.2.1, r35.2.2.2.2.2.2.2.2.2.1, r35.2.2.2.2.2.2.2.2.2.2.1, r35.2.2.2.2.2.2.2.2.2.2.2.1, r35.2.2.2.2.2.2.2.2.2.2.2.2.1, r35.2.2.2.2.2.2.2.2.2.2.2.2.2.1, r35.2.2.2.2.2.2.2.2.2.2.2.2.2.2.1, r35.2.2.2.2.2.2.2.2.2.2.2.2.2.2.2.1, r35.2.2.2.2.2.2.2.2.2.2.2.2.2.2.2.2.1, r35.2.2.2.2.2.2.2.2.2.2.2.2.2.2.2.2.2.1, r35.2.2.2.2.2.2.2.2.2.2.2.2.2.2.2.2.2.2.1, r35.2.2.2.2.2.2.2.2.2.2.2.2.2.2.2.2.2.2.2.1, r35.2.2.2.2.2.2.2.2.2.2.2.2.2.2.2.2.2.2.2.2.1, r35.2.2.2.2.2.2.2.2.2.2.2.2.2.2.2.2.2.2.2.2.2.1, r35.2.2.2.2.2.2.2.2.2.2.2.2.2.2.2.2.2.2.2.2.2.2.1, r35.2.2.2.2.2.2.2.2.2.2.2.2.2.2.2.2.2.2.2.2.2.2.2.1, (upd r35.2.2.2.2.2.2.2.2.2.2.2.2.2.2.2.2.2.2.2.2.2.2.2.2.1 r32.1 r35.1), r35.2.2.2.2.2.2.2.2.2.2.2.2.2.2.2.2.2.2.2.2.2.2.2.2.2.1, r35.2.2.2.2.2.2.2.2.2.2.2.2.2.2.2.2.2.2.2.2.2.2.2.2.2.2.1, r35.2.2.2.2.2.2.2.2.2.2.2.2.2.2.2.2.2.2.2.2.2.2.2.2.2.2.2.1, r35.2.2.2.2.2.2.2.2.2.2.2.2.2.2.2.2.2.2.2.2.2.2.2.2.2.2.2.2.1, r35.2.2.2.2.2.2.2.2.2.2.2.2.2.2.2.2.2.2.2.2.2.2.2.2.2.2.2.2.2.1, r35.2.2.2.2.2.2.2.2.2.2.2.2.2.2.2.2.2.2.2.2.2.2.2.2.2.2.2.2.2.2.1, r35.2.2.2.2.2.2.2.2.2.2.2.2.2.2.2.2.2.2.2.2.2.2.2.2.2.2.2.2.2.2.2.1, r35.2.2.2.2.2.2.2.2.2.2.2.2.2.2.2.2.2.2.2.2.2.2.2.2.2.2.2.2.2.2.2.2) 15 (0 : Int32) (100 : Int32) e9 er41 (by decide)) (cwV 3 hts (lw_V q699 q701 qs9 q114 q702) rfl rfl rfl (by decide +kernel) ⟨Nat.le_of_ble_eq_true rfl, Nat.le_of_ble_eq_true rfl⟩) (preX_V ZE_ok hP hK hD (ev_at ZE_ok hE hS (w_free hD hS hA)) hP (ci := 1) (q0 := 0) rfl rfl) rfl rfl hl.1 rfl (lv_room (Nat.le_of_ble_eq_true rfl)) dX2_personLine_57 ⟨Nat.le_of_ble_eq_true rfl, Nat.le_of_ble_eq_true rfl⟩) hD hS hA hout hlocks (Nat.le_of_ble_eq_true rfl) (Nat.le_of_ble_eq_true rfl)
            | inr r41 =>
              dsimp only at hM
              refine k_w (va_runV (As := [.ref (ka 15), .int (0 : Int32), .int (100 : Int32)]) (rest := [.ref (u36.2.2.2.1 r32.1)]) ⟨hx, hb, hml, hown, hts⟩ (ctZ_after l D dA _ za u36 tx k9 ka kv (r35.2.1, r35.2.2.1, r35.2.2.2.1, r35.2.2.2.2.1, r35.2.2.2.2.2.1, r35.2.2.2.2.2.2.1, r35.2.2.2.2.2.2.2.1, r35.2.2.2.2.2.2.2.2.1, r35.2.2.2.2.2.2.2.2.2.1, r35.2.2.2.2.2.2.2.2.2.2.1, r35.2.2.2.2.2.2.2.2.2.2.2.1, r35.2.2.2.2.2.2.2.2.2.2.2.2.1, r35.2.2.2.2.2.2.2.2.2.2.2.2.2.1, r35.2.2.2.2.2.2.2.2.2.2.2.2.2.2.1, r35.2.2.2.2.2.2.2.2.2.2.2.2.2.2.2.1, r35.2.2.2.2.2.2.2.2.2.2.2.2.2.2.2.2.1, r35.2.2.2.2.2.2.2.2.2.2.2.2.2.2.2.2.2.1, r35.2.2.2.2.2.2.2.2.2.2.2.2.2.2.2.2.2.2.1, r35.2.2.2.2.2.2.2.2.2.2.2.2.2.2.2.2.2.2.2.1, r35.2.2.2.2.2.2.2.2.2.2.2.2.2.2.2.2.2.2.2.2.1, r35.2.2.2.2.2.2.2.2.2.2.2.2.2.2.2.2.2.2.2.2.2.1, r35.2.2.2.2.2.2.2.2.2.2.2.2.2.2.2.2.2.2.2.2.2.2.1, r35.2.2.2.2.2.2.2.2.2.2.2.2.2.2.2.2.2.2.2.2.2.2.2.1, (upd r35.2.2.2.2.2.2.2.2.2.2.2.2.2.2.2.2.2.2.2.2.2.2.2.2.1 r32.1 r35.1), r35.2.2.2.2.2.2.2.2.2.2.2.2.2.2.2.2.2.2.2.2.2.2.2.2.2.1, r35.2.2.2.2.2.2.2.2.2.2.2.2.2.2.2.2.2.2.2.2.2.2.2.2.2.2.1, r35.2.2.2.2.2.2.2.2.2.2.2.2.2.2.2.2.2.2.2.2.2.2.2.2.2.2.2.1, r35.2.2.2.2.2.2.2.2.2.2.2.2.2.2.2.2.2.2.2.2.2.2.2.2.2.2.2.2.1, r35.2.2.2.2.2.2.2.2.2.2.2.2.2.2.2.2.2.2.2.2.2.2.2.2.2.2.2.2.2.1, r35.2.2.2.2.2.2.2.2.2.2.2.2.2.2.2.2.2.2.2.2.2.2.2.2.2.2.2.2.2.2.1, r35.2.2.2.2.2.2.2.2.2.2.2.2.2.2.2.2.2.2.2.2.2.2.2.2.2.2.2.2.2.2.2.1, r35.2.2.2.2.2.2.2.2.2.2.2.2.2.2.2.2.2.2.2.2.2.2.2.2.2.2.2.2.2.2.2.2) 15 (0 : Int32) (100 : Int32) r41 er41 (by decide)) (cwV 3 hts (lw_V q699 q701 qs9 q114 q702) rfl rfl rfl (by decide +kernel) ⟨Nat.le_of_ble_eq_true rfl, Nat.le_of_ble_eq_true rfl⟩) (preX_V ZE_ok hP hK hD (ev_at ZE_ok hE hS (w_free hD hS hA)) hP (ci := 1) (q0 := 0) rfl rfl) rfl rfl hl.1 rfl (lv_room (Nat.le_of_ble_eq_true rfl)) dX2_personLine_57 ⟨Nat.le_of_ble_eq_true rfl, Nat.le_of_ble_eq_true rfl⟩) hD hS hA (fun u42 H locs x43 hP hD hS => ?_)
              have hl : lv_has ls 2 [(1, .ref (u42.2.2.2.1 r32.1)), (0, .ref (za 0))] := by simp only [x43.2.1 r32.1 h44]; exact hl
              refine W.widen (k := 21) (n := 127) (Nat.le_of_ble_eq_true rfl) (Nat.le_of_ble_eq_true rfl) ?_
              refine W.eq (g2 := F0 m 60 ls [.int r41.1, .ref (u42.2.2.2.1 r32.1)]) (by first | rfl | (simp only [x43.2.1 r32.1 h44]; rfl) | (simp only [x43.2.1 r32.1 h44]) | (simp only [*]; rfl) | simp only [*]) ?_
              obtain ⟨h45, hM⟩ := gn_inv hM
              obtain ⟨h46, hM⟩ := gn_inv hM
              refine zz_put3 hx hb hts hown hK hP hD hS h45 h46 r41.1 (hts _ q756) dX2_personLine_60 (fun H locs hP hD hS => ?_)
              have hP : va_P D clG (zw dA za k9 tx u42 (r41.2.1, r41.2.2.1, r41.2.2.2.1, r41.2.2.2.2.1, r41.2.2.2.2.2.1, r41.2.2.2.2.2.2.1, r41.2.2.2.2.2.2.2.1, r41.2.2.2.2.2.2.2.2.1, r41.2.2.2.2.2.2.2.2.2.1, r41.2.2.2.2.2.2.2.2.2.2.1, r41.2.2.2.2.2.2.2.2.2.2.2.1, r41.2.2.2.2.2.2.2.2.2.2.2.2.1, r41.2.2.2.2.2.2.2.2.2.2.2.2.2.1, r41.2.2.2.2.2.2.2.2.2.2.2.2.2.2.1, r41.2.2.2.2.2.2.2.2.2.2.2.2.2.2.2.1, r41.2.2.2.2.2.2.2.2.2.2.2.2.2.2.2.2.1, r41.2.2.2.2.2.2.2.2.2.2.2.2.2.2.2.2.2.1, r41.2.2.2.2.2.2.2.2.2.2.2.2.2.2.2.2.2.2.1, r41.2.2.2.2.2.2.2.2.2.2.2.2.2.2.2.2.2.2.2.1, r41.2.2.2.2.2.2.2.2.2.2.2.2.2.2.2.2.2.2.2.2.1, r41.2.2.2.2.2.2.2.2.2.2.2.2.2.2.2.2.2.2.2.2.2.1, r41.2.2.2.2.2.2.2.2.2.2.2.2.2.2.2.2.2.2.2.2.2.2.1, r41.2.2.2.2.2.2.2.2.2.2.2.2.2.2.2.2.2.2.2.2.2.2.2.1, r41.2.2.2.2.2.2.2.2.2.2.2.2.2.2.2.2.2.2.2.2.2.2.2.2.1, (upd r41.2.2.2.2.2.2.2.2.2.2.2.2.2.2.2.2.2.2.2.2.2.2.2.2.2.1 r32.1 r41.1), r41.2.2.2.2.2.2.2.2.2.2.2.2.2.2.2.2.2.2.2.2.2.2.2.2.2.2.1, r41.2.2.2.2.2.2.2.2.2.2.2.2.2.2.2.2.2.2.2.2.2.2.2.2.2.2.2.1, r41.2.2.2.2.2.2.2.2.2.2.2.2.2.2.2.2.2.2.2.2.2.2.2.2.2.2.2.2.1, r41.2.2.2.2.2.2.2.2.2.2.2.2.2.2.2.2.2.2.2.2.2.2.2.2.2.2.2.2.2.1, r41.2.2.2.2.2.2.2.2.2.2.2.2.2.2.2.2.2.2.2.2.2.2.2.2.2.2.2.2.2.2.1, r41.2.2.2.2.2.2.2.2.2.2.2.2.2.2.2.2.2.2.2.2.2.2.2.2.2.2.2.2.2.2.2.1, r41.2.2.2.2.2.2.2.2.2.2.2.2.2.2.2.2.2.2.2.2.2.2.2.2.2.2.2.2.2.2.2.2)) H := hP
              have hD : va_D A (zw dA za k9 tx u42 (r41.2.1, r41.2.2.1, r41.2.2.2.1, r41.2.2.2.2.1, r41.2.2.2.2.2.1, r41.2.2.2.2.2.2.1, r41.2.2.2.2.2.2.2.1, r41.2.2.2.2.2.2.2.2.1, r41.2.2.2.2.2.2.2.2.2.1, r41.2.2.2.2.2.2.2.2.2.2.1, r41.2.2.2.2.2.2.2.2.2.2.2.1, r41.2.2.2.2.2.2.2.2.2.2.2.2.1, r41.2.2.2.2.2.2.2.2.2.2.2.2.2.1, r41.2.2.2.2.2.2.2.2.2.2.2.2.2.2.1, r41.2.2.2.2.2.2.2.2.2.2.2.2.2.2.2.1, r41.2.2.2.2.2.2.2.2.2.2.2.2.2.2.2.2.1, r41.2.2.2.2.2.2.2.2.2.2.2.2.2.2.2.2.2.1, r41.2.2.2.2.2.2.2.2.2.2.2.2.2.2.2.2.2.2.1, r41.2.2.2.2.2.2.2.2.2.2.2.2.2.2.2.2.2.2.2.1, r41.2.2.2.2.2.2.2.2.2.2.2.2.2.2.2.2.2.2.2.2.1, r41.2.2.2.2.2.2.2.2.2.2.2.2.2.2.2.2.2.2.2.2.2.1, r41.2.2.2.2.2.2.2.2.2.2.2.2.2.2.2.2.2.2.2.2.2.2.1, r41.2.2.2.2.2.2.2.2.2.2.2.2.2.2.2.2.2.2.2.2.2.2.2.1, r41.2.2.2.2.2.2.2.2.2.2.2.2.2.2.2.2.2.2.2.2.2.2.2.2.1, (upd r41.2.2.2.2.2.2.2.2.2.2.2.2.2.2.2.2.2.2.2.2.2.2.2.2.2.1 r32.1 r41.1), r41.2.2.2.2.2.2.2.2.2.2.2.2.2.2.2.2.2.2.2.2.2.2.2.2.2.2.1, r41.2.2.2.2.2.2.2.2.2.2.2.2.2.2.2.2.2.2.2.2.2.2.2.2.2.2.2.1, r41.2.2.2.2.2.2.2.2.2.2.2.2.2.2.2.2.2.2.2.2.2.2.2.2.2.2.2.2.1, r41.2.2.2.2.2.2.2.2.2.2.2.2.2.2.2.2.2.2.2.2.2.2.2.2.2.2.2.2.2.1, r41.2.2.2.2.2.2.2.2.2.2.2.2.2.2.2.2.2.2.2.2.2.2.2.2.2.2.2.2.2.2.1, r41.2.2.2.2.2.2.2.2.2.2.2.2.2.2.2.2.2.2.2.2.2.2.2.2.2.2.2.2.2.2.2.1, r41.2.2.2.2.2.2.2.2.2.2.2.2.2.2.2.2.2.2.2.2.2.2.2.2.2.2.2.2.2.2.2.2)) := hD
              refine lv_aload_n hx hb dX2_personLine_63 rfl (lv_at hl 1 rfl) ?_
              refine va_get (D := D) (ci := 1) (v := .ref (za 4)) (C := RX2) (T := TX2) (N := 11) hx hb hts in_X2 hown hK.1 hP 0 rfl rfl 9 (by decide) (hts _ q235) (fun _ h9 => h9) rfl dX2_personLine_64 ?_
              refine va_get (D := D) (ci := 6) (v := .ref (za 5)) (C := RX8) (T := TX8) (N := 13) hx hb hts in_X8 hown hK.1 hP 4 rfl rfl 0 (by decide) (hts _ q459) (fun _ h9 => h9) rfl dX2_personLine_67 ?_
              refine lv_aload_n hx hb dX2_personLine_70 rfl (lv_at hl 1 rfl) ?_
              refine va_get (D := D) (ci := 1) (v := .ref (za 4)) (C := RX2) (T := TX2) (N := 11) hx hb hts in_X2 hown hK.1 hP 0 rfl rfl 9 (by decide) (hts _ q235) (fun _ h9 => h9) rfl dX2_personLine_71 ?_
              refine va_get (D := D) (ci := 6) (v := .int r41.2.2.2.2.2.2.2.2.2.2.1) (C := RX8) (T := TX8) (N := 13) hx hb hts in_X8 hown hK.1 hP 4 rfl rfl 8 (by decide) (hts _ q485) (fun _ h9 => h9) rfl dX2_personLine_74 ?_
              refine lv_aload_n hx hb dX2_personLine_77 rfl (lv_at hl 0 rfl) ?_
              obtain ⟨h49, hM⟩ := gi_inv hM
              obtain ⟨h47, hM⟩ := gall_inv hM
              refine z_ast hx hb hK hP hD hS hE.2.2.2 h47.1 h47.2.1 h47.2.2.1 h47.2.2.2 h49 dX2_personLine_78 (fun H locs hP hD hS => ?_)
              have hP : va_P D clG (zw dA za k9 tx u42 (r41.2.1, r41.2.2.1, r41.2.2.2.1, r41.2.2.2.2.1, r41.2.2.2.2.2.1, r41.2.2.2.2.2.2.1, r41.2.2.2.2.2.2.2.1, r41.2.2.2.2.2.2.2.2.1, r41.2.2.2.2.2.2.2.2.2.1, r41.2.2.2.2.2.2.2.2.2.2.1, r41.2.2.2.2.2.2.2.2.2.2.2.1, r41.2.2.2.2.2.2.2.2.2.2.2.2.1, r41.2.2.2.2.2.2.2.2.2.2.2.2.2.1, r41.2.2.2.2.2.2.2.2.2.2.2.2.2.2.1, r41.2.2.2.2.2.2.2.2.2.2.2.2.2.2.2.1, r41.2.2.2.2.2.2.2.2.2.2.2.2.2.2.2.2.1, r41.2.2.2.2.2.2.2.2.2.2.2.2.2.2.2.2.2.1, r41.2.2.2.2.2.2.2.2.2.2.2.2.2.2.2.2.2.2.1, r41.2.2.2.2.2.2.2.2.2.2.2.2.2.2.2.2.2.2.2.1, r41.2.2.2.2.2.2.2.2.2.2.2.2.2.2.2.2.2.2.2.2.1, r41.2.2.2.2.2.2.2.2.2.2.2.2.2.2.2.2.2.2.2.2.2.1, r41.2.2.2.2.2.2.2.2.2.2.2.2.2.2.2.2.2.2.2.2.2.2.1, r41.2.2.2.2.2.2.2.2.2.2.2.2.2.2.2.2.2.2.2.2.2.2.2.1, r41.2.2.2.2.2.2.2.2.2.2.2.2.2.2.2.2.2.2.2.2.2.2.2.2.1, (upd r41.2.2.2.2.2.2.2.2.2.2.2.2.2.2.2.2.2.2.2.2.2.2.2.2.2.1 r32.1 r41.1), r41.2.2.2.2.2.2.2.2.2.2.2.2.2.2.2.2.2.2.2.2.2.2.2.2.2.2.1, r41.2.2.2.2.2.2.2.2.2.2.2.2.2.2.2.2.2.2.2.2.2.2.2.2.2.2.2.1, r41.2.2.2.2.2.2.2.2.2.2.2.2.2.2.2.2.2.2.2.2.2.2.2.2.2.2.2.2.1, r41.2.2.2.2.2.2.2.2.2.2.2.2.2.2.2.2.2.2.2.2.2.2.2.2.2.2.2.2.2.1, r41.2.2.2.2.2.2.2.2.2.2.2.2.2.2.2.2.2.2.2.2.2.2.2.2.2.2.2.2.2.2.1, r41.2.2.2.2.2.2.2.2.2.2.2.2.2.2.2.2.2.2.2.2.2.2.2.2.2.2.2.2.2.2.2.1, (r41.2.2.2.2.2.2.2.2.2.2.2.2.2.2.2.2.2.2.2.2.2.2.2.2.2.2.2.2.2.2.2.2 + 1))) H := hP
              have hD : va_D A (zw dA za k9 tx u42 (r41.2.1, r41.2.2.1, r41.2.2.2.1, r41.2.2.2.2.1, r41.2.2.2.2.2.1, r41.2.2.2.2.2.2.1, r41.2.2.2.2.2.2.2.1, r41.2.2.2.2.2.2.2.2.1, r41.2.2.2.2.2.2.2.2.2.1, r41.2.2.2.2.2.2.2.2.2.2.1, r41.2.2.2.2.2.2.2.2.2.2.2.1, r41.2.2.2.2.2.2.2.2.2.2.2.2.1, r41.2.2.2.2.2.2.2.2.2.2.2.2.2.1, r41.2.2.2.2.2.2.2.2.2.2.2.2.2.2.1, r41.2.2.2.2.2.2.2.2.2.2.2.2.2.2.2.1, r41.2.2.2.2.2.2.2.2.2.2.2.2.2.2.2.2.1, r41.2.2.2.2.2.2.2.2.2.2.2.2.2.2.2.2.2.1, r41.2.2.2.2.2.2.2.2.2.2.2.2.2.2.2.2.2.2.1, r41.2.2.2.2.2.2.2.2.2.2.2.2.2.2.2.2.2.2.2.1, r41.2.2.2.2.2.2.2.2.2.2.2.2.2.2.2.2.2.2.2.2.1, r41.2.2.2.2.2.2.2.2.2.2.2.2.2.2.2.2.2.2.2.2.2.1, r41.2.2.2.2.2.2.2.2.2.2.2.2.2.2.2.2.2.2.2.2.2.2.1, r41.2.2.2.2.2.2.2.2.2.2.2.2.2.2.2.2.2.2.2.2.2.2.2.1, r41.2.2.2.2.2.2.2.2.2.2.2.2.2.2.2.2.2.2.2.2.2.2.2.2.1, (upd r41.2.2.2.2.2.2.2.2.2.2.2.2.2.2.2.2.2.2.2.2.2.2.2.2.2.1 r32.1 r41.1), r41.2.2.2.2.2.2.2.2.2.2.2.2.2.2.2.2.2.2.2.2.2.2.2.2.2.2.1, r41.2.2.2.2.2.2.2.2.2.2.2.2.2.2.2.2.2.2.2.2.2.2.2.2.2.2.2.1, r41.2.2.2.2.2.2.2.2.2.2.2.2.2.2.2.2.2.2.2.2.2.2.2.2.2.2.2.2.1, r41.2.2.2.2.2.2.2.2.2.2.2.2.2.2.2.2.2.2.2.2.2.2.2.2.2.2.2.2.2.1, r41.2.2.2.2.2.2.2.2.2.2.2.2.2.2.2.2.2.2.2.2.2.2.2.2.2.2.2.2.2.2.1, r41.2.2.2.2.2.2.2.2.2.2.2.2.2.2.2.2.2.2.2.2.2.2.2.2.2.2.2.2.2.2.2.1, (r41.2.2.2.2.2.2.2.2.2.2.2.2.2.2.2.2.2.2.2.2.2.2.2.2.2.2.2.2.2.2.2.2 + 1))) := hD
              refine lv_aload_n hx hb dX2_personLine_79 rfl (lv_at hl 1 rfl) ?_
              refine va_get (D := D) (ci := 1) (v := .ref (za 4)) (C := RX2) (T := TX2) (N := 11) hx hb hts in_X2 hown hK.1 hP 0 rfl rfl 9 (by decide) (hts _ q235) (fun _ h9 => h9) rfl dX2_personLine_80 ?_
              refine lv_dup hx hb dX2_personLine_83 rfl ?_
              refine va_get (D := D) (ci := 6) (v := .int r41.2.2.2.2.2.2.2.2.2.2.1) (C := RX8) (T := TX8) (N := 13) hx hb hts in_X8 hown hK.1 hP 4 rfl rfl 8 (by decide) (hts _ q485) (fun _ h9 => h9) rfl dX2_personLine_84 ?_
              refine lv_iconst (v := (1 : Int32)) hx hb dX2_personLine_87 (by decide) ?_
              refine lv_iadd hx hb dX2_personLine_88 ?_
              obtain ⟨v1_, hv1_⟩ : ∃ v_ : Int32, v_ = (r41.2.2.2.2.2.2.2.2.2.2.1 + (1 : Int32)) := ⟨_, rfl⟩
              rw [← hv1_]
              try rw [← hv1_] at hM
              refine va_put (D := D) (ci := 6) (v := .int v1_) (ty := .int) (C := RX8) (T := TX8) (N := 13) hx hb hts in_X8 tyX8 tyX8_ok nmX8 hown hK.1 hP hD hS 4 rfl rfl 8 (by decide) (hts _ q485) (fun _ h9 => h9) rfl (by decide +kernel) rfl rfl (Nat.le_of_ble_eq_true rfl) dX2_personLine_89 (fun H locs hP hD hS => ?_)
              have hP : va_P D clG (zw dA za k9 tx u42 (r41.2.1, r41.2.2.1, r41.2.2.2.1, r41.2.2.2.2.1, r41.2.2.2.2.2.1, r41.2.2.2.2.2.2.1, r41.2.2.2.2.2.2.2.1, r41.2.2.2.2.2.2.2.2.1, r41.2.2.2.2.2.2.2.2.2.1, v1_, r41.2.2.2.2.2.2.2.2.2.2.2.1, r41.2.2.2.2.2.2.2.2.2.2.2.2.1, r41.2.2.2.2.2.2.2.2.2.2.2.2.2.1, r41.2.2.2.2.2.2.2.2.2.2.2.2.2.2.1, r41.2.2.2.2.2.2.2.2.2.2.2.2.2.2.2.1, r41.2.2.2.2.2.2.2.2.2.2.2.2.2.2.2.2.1, r41.2.2.2.2.2.2.2.2.2.2.2.2.2.2.2.2.2.1, r41.2.2.2.2.2.2.2.2.2.2.2.2.2.2.2.2.2.2.1, r41.2.2.2.2.2.2.2.2.2.2.2.2.2.2.2.2.2.2.2.1, r41.2.2.2.2.2.2.2.2.2.2.2.2.2.2.2.2.2.2.2.2.1, r41.2.2.2.2.2.2.2.2.2.2.2.2.2.2.2.2.2.2.2.2.2.1, r41.2.2.2.2.2.2.2.2.2.2.2.2.2.2.2.2.2.2.2.2.2.2.1, r41.2.2.2.2.2.2.2.2.2.2.2.2.2.2.2.2.2.2.2.2.2.2.2.1, r41.2.2.2.2.2.2.2.2.2.2.2.2.2.2.2.2.2.2.2.2.2.2.2.2.1, (upd r41.2.2.2.2.2.2.2.2.2.2.2.2.2.2.2.2.2.2.2.2.2.2.2.2.2.1 r32.1 r41.1), r41.2.2.2.2.2.2.2.2.2.2.2.2.2.2.2.2.2.2.2.2.2.2.2.2.2.2.1, r41.2.2.2.2.2.2.2.2.2.2.2.2.2.2.2.2.2.2.2.2.2.2.2.2.2.2.2.1, r41.2.2.2.2.2.2.2.2.2.2.2.2.2.2.2.2.2.2.2.2.2.2.2.2.2.2.2.2.1, r41.2.2.2.2.2.2.2.2.2.2.2.2.2.2.2.2.2.2.2.2.2.2.2.2.2.2.2.2.2.1, r41.2.2.2.2.2.2.2.2.2.2.2.2.2.2.2.2.2.2.2.2.2.2.2.2.2.2.2.2.2.2.1, r41.2.2.2.2.2.2.2.2.2.2.2.2.2.2.2.2.2.2.2.2.2.2.2.2.2.2.2.2.2.2.2.1, (r41.2.2.2.2.2.2.2.2.2.2.2.2.2.2.2.2.2.2.2.2.2.2.2.2.2.2.2.2.2.2.2.2 + 1))) H := zP_set hP (Nat.le_of_ble_eq_true rfl) rfl rfl
              have hD : va_D A (zw dA za k9 tx u42 (r41.2.1, r41.2.2.1, r41.2.2.2.1, r41.2.2.2.2.1, r41.2.2.2.2.2.1, r41.2.2.2.2.2.2.1, r41.2.2.2.2.2.2.2.1, r41.2.2.2.2.2.2.2.2.1, r41.2.2.2.2.2.2.2.2.2.1, v1_, r41.2.2.2.2.2.2.2.2.2.2.2.1, r41.2.2.2.2.2.2.2.2.2.2.2.2.1, r41.2.2.2.2.2.2.2.2.2.2.2.2.2.1, r41.2.2.2.2.2.2.2.2.2.2.2.2.2.2.1, r41.2.2.2.2.2.2.2.2.2.2.2.2.2.2.2.1, r41.2.2.2.2.2.2.2.2.2.2.2.2.2.2.2.2.1, r41.2.2.2.2.2.2.2.2.2.2.2.2.2.2.2.2.2.1, r41.2.2.2.2.2.2.2.2.2.2.2.2.2.2.2.2.2.2.1, r41.2.2.2.2.2.2.2.2.2.2.2.2.2.2.2.2.2.2.2.1, r41.2.2.2.2.2.2.2.2.2.2.2.2.2.2.2.2.2.2.2.2.1, r41.2.2.2.2.2.2.2.2.2.2.2.2.2.2.2.2.2.2.2.2.2.1, r41.2.2.2.2.2.2.2.2.2.2.2.2.2.2.2.2.2.2.2.2.2.2.1, r41.2.2.2.2.2.2.2.2.2.2.2.2.2.2.2.2.2.2.2.2.2.2.2.1, r41.2.2.2.2.2.2.2.2.2.2.2.2.2.2.2.2.2.2.2.2.2.2.2.2.1, (upd r41.2.2.2.2.2.2.2.2.2.2.2.2.2.2.2.2.2.2.2.2.2.2.2.2.2.1 r32.1 r41.1), r41.2.2.2.2.2.2.2.2.2.2.2.2.2.2.2.2.2.2.2.2.2.2.2.2.2.2.1, r41.2.2.2.2.2.2.2.2.2.2.2.2.2.2.2.2.2.2.2.2.2.2.2.2.2.2.2.1, r41.2.2.2.2.2.2.2.2.2.2.2.2.2.2.2.2.2.2.2.2.2.2.2.2.2.2.2.2.1, r41.2.2.2.2.2.2.2.2.2.2.2.2.2.2.2.2.2.2.2.2.2.2.2.2.2.2.2.2.2.1, r41.2.2.2.2.2.2.2.2.2.2.2.2.2.2.2.2.2.2.2.2.2.2.2.2.2.2.2.2.2.2.1, r41.2.2.2.2.2.2.2.2.2.2.2.2.2.2.2.2.2.2.2.2.2.2.2.2.2.2.2.2.2.2.2.1, (r41.2.2.2.2.2.2.2.2.2.2.2.2.2.2.2.2.2.2.2.2.2.2.2.2.2.2.2.2.2.2.2.2 + 1))) := zD_set hD (Nat.le_of_ble_eq_true rfl) rfl rfl
              cases hM
set_option maxHeartbeats 40000000 in
theorem ctZ_line (l : Launch) (D : va_G) (dA : Nat → ClassId) (sz : Nat) (za : Nat → Nat) (h : ZH) (tx : AI) (k9 : Int32 × Int32 × Int32) (ka kv : Nat → Nat) (s : ZS) (r : ZS) (hM : MZ_line tx k9.1 s = some (.inr r)) : Met l yX2_line (ws_ yX2_line cX2_line 3 none) ({ frames := 10, cells := 21, slots := 127, locals := 393 }) (preX D dA (ZE ka kv) [.ref (za 0)] (zw dA za k9 tx h s) sz) (qz_ D (fun (u : ZH) => none) (fun u => zext h u s r) (fun u => zw dA za k9 tx u r) (va_A (zw dA za k9 tx h s) sz)) 21 127 (va_A (zw dA za k9 tx h s) sz) := by
  refine Met.ofW (cc := cX2_line) (maxL := 3) (ret := none) (by decide) rfl ?_
  intro p e s0 m args below meth c s₁ B hml hv
  obtain ⟨rfl, hsz, hP, hK, hD0, hE⟩ := hv
  have hx := B.exec
  have hb := B.bytes
  have hr := B.returns
  have hts := atoms_spec (ws := (ws_ yX2_line cX2_line 3 none)) B.pre
  have hts : ∀ w ∈ lw_all, w.before _ s0 = true := fun w h => hts w (List.mem_cons_of_mem _ h)
  have hown : s0.vm.findClass RX2 = some m.cls := findClass_of_methodNamed B.named
  have hlocks := B.notSynchronized
  subst hsz
  have hD := hD0.self (sz := s0.heap.size)
  generalize hAe : va_A (zw dA za k9 tx h s) s0.heap.size = A at hD hE ⊢
  have hA : ∀ q : Nat, s0.heap.size ≤ q → A q := fun q h => by rw [← hAe]; exact Or.inr h
  have hS : va_S A s0.heap s0.heap [] := va_S.rf
  have hl := lv_entry ([.ref (za 0)]) (n := 3) (Nat.le_of_ble_eq_true rfl)
  rw [lg_entry_eq]
  generalize (lg_sl ([.ref (za 0)]) ++ List.replicate (3 - (lg_sl ([.ref (za 0)])).length) Slot.unset).toArray = ls at hl ⊢
  have hl : lv_has ls 3 [(0, .ref (za 0))] := hl
  unfold MZ_line at hM
  refine lv_aload_n hx hb dX2_line_0 rfl (lv_at hl 0 rfl) ?_
  refine va_get (D := D) (ci := 1) (v := .int s.2.1) (C := RX2) (T := TX2) (N := 11) hx hb hts in_X2 hown hK.1 hP 0 rfl rfl 5 (by decide) (hts _ q231) (fun _ h9 => h9) rfl dX2_line_1 ?_
  refine lv_iconst (v := (2 : Int32)) hx hb dX2_line_4 (by decide) ?_
  refine lv_icmp_eq (tgt := 14) hx hb dX2_line_5 (by decide) (fun c1 => ?_) (fun c1 => ?_)
  · rw [if_pos c1] at hM
    refine lv_aload_n hx hb dX2_line_14 rfl (lv_at hl 0 rfl) ?_
    obtain ⟨i2, ei2, hM⟩ := b_inv hM
    obtain ⟨hi2, hM⟩ := gn_inv hM
    refine va_get (D := D) (ci := 1) (v := (zwv h s.2.2.2.2.1)) (C := RX2) (T := TX2) (N := 11) hx hb hts in_X2 hown hK.1 hP 0 rfl rfl 8 (by decide) (hts _ q234) (fun _ h9 => h9) rfl dX2_line_15 ?_
    refine lv_tor (v := .ref (h.1 i2)) (zwv_some ei2) ?_
    refine lv_astore_n (lv' := [(1, .ref (h.1 i2)), (0, .ref (za 0))]) hx hb dX2_line_18 rfl hl (by decide) rfl (fun ls hl => ?_)
    refine lv_iconst (v := (-1 : Int32)) hx hb dX2_line_19 (by decide) ?_
    refine lv_istore_n (lv' := [(2, .int (-1 : Int32)), (1, .ref (h.1 i2)), (0, .ref (za 0))]) hx hb dX2_line_20 rfl hl (by decide) rfl (fun ls hl => ?_)
    refine lv_aload_n hx hb dX2_line_21 rfl (lv_at hl 1 rfl) ?_
    obtain ⟨h3, hM⟩ := gn_inv hM
    obtain ⟨h4, hM⟩ := gn_inv hM
    have hC_ : [11 + i2, 11 + s.2.2.2.2.2.2.2.2.2.2.2.2.2.2.2.2.2.2.2.2.2.2.2.2.2.2.2.2.1 + i2].map (fun k_ => (zw dA za k9 tx h s)[k_]?) = ([scell (h.1 i2) (h.2.1 i2) (s.2.2.2.2.2.2.2.2.2.2.2.2.2.2.2.2.2.2.2.2.2.2.2.2.2.2.2.2.2.1 i2) (s.2.2.2.2.2.2.2.2.2.2.2.2.2.2.2.2.2.2.2.2.2.2.2.2.2.2.2.2.2.2.1 i2) (h.2.2.1 i2), bcell dA (h.2.1 i2) (s.2.2.2.2.2.2.2.2.2.2.2.2.2.2.2.2.2.2.2.2.2.2.2.2.2.2.2.2.2.1 i2) (s.2.2.2.2.2.2.2.2.2.2.2.2.2.2.2.2.2.2.2.2.2.2.2.2.2.2.2.2.2.2.1 i2)] : va_W).map some := by rw [List.map_cons, List.map_cons, List.map_nil, zw_so h3, zw_sb h3]; rfl
    have hP2 : va_P D clG [scell (h.1 i2) (h.2.1 i2) (s.2.2.2.2.2.2.2.2.2.2.2.2.2.2.2.2.2.2.2.2.2.2.2.2.2.2.2.2.2.1 i2) (s.2.2.2.2.2.2.2.2.2.2.2.2.2.2.2.2.2.2.2.2.2.2.2.2.2.2.2.2.2.2.1 i2) (h.2.2.1 i2), bcell dA (h.2.1 i2) (s.2.2.2.2.2.2.2.2.2.2.2.2.2.2.2.2.2.2.2.2.2.2.2.2.2.2.2.2.2.1 i2) (s.2.2.2.2.2.2.2.2.2.2.2.2.2.2.2.2.2.2.2.2.2.2.2.2.2.2.2.2.2.2.1 i2)] _ := pair_P (hP _ _ (zw_so h3)) (hP _ _ (zw_sb h3))
    have hD2 : va_D A [scell (h.1 i2) (h.2.1 i2) (s.2.2.2.2.2.2.2.2.2.2.2.2.2.2.2.2.2.2.2.2.2.2.2.2.2.2.2.2.2.1 i2) (s.2.2.2.2.2.2.2.2.2.2.2.2.2.2.2.2.2.2.2.2.2.2.2.2.2.2.2.2.2.2.1 i2) (h.2.2.1 i2), bcell dA (h.2.1 i2) (s.2.2.2.2.2.2.2.2.2.2.2.2.2.2.2.2.2.2.2.2.2.2.2.2.2.2.2.2.2.1 i2) (s.2.2.2.2.2.2.2.2.2.2.2.2.2.2.2.2.2.2.2.2.2.2.2.2.2.2.2.2.2.2.1 i2)] := hD.sub [11 + i2, 11 + s.2.2.2.2.2.2.2.2.2.2.2.2.2.2.2.2.2.2.2.2.2.2.2.2.2.2.2.2.1 + i2] (nd2 (by omega)) hC_
    have ok_ := ev_at OK_ok hE.1 hS (w_free hD2 hS hA)
    refine k_i0 [11 + i2, 11 + s.2.2.2.2.2.2.2.2.2.2.2.2.2.2.2.2.2.2.2.2.2.2.2.2.2.2.2.2.1 + i2] (va_runV (As := []) (rest := []) ⟨hx, hb, hml, hown, hts⟩ (ctJ3_hashCode l D dA _ _ _ _ _ _ (by omega)) (cwV 0 hts (lw_V q627 q628 q629 q124 q630) rfl rfl rfl (by decide +kernel) ⟨Nat.le_of_ble_eq_true rfl, Nat.le_of_ble_eq_true rfl⟩) (preX_V OK_ok hP2 hK hD2 ok_ hP2 (ci := 13) (q0 := 0) rfl rfl) rfl rfl hl.1 rfl (lv_room (Nat.le_of_ble_eq_true rfl)) dX2_line_22 ⟨Nat.le_of_ble_eq_true rfl, Nat.le_of_ble_eq_true rfl⟩) hP hD hS hA hC_ (fun _ => rfl) (fun u_ H locs hP hD hS => ?_)
    rw [zw_hash h3] at hP hD
    have hl : lv_has ls 3 [(2, .int (-1 : Int32)), (1, .ref ((zhs h i2).1 i2)), (0, .ref (za 0))] := hl
    by_cases c5 : (hashG (s.2.2.2.2.2.2.2.2.2.2.2.2.2.2.2.2.2.2.2.2.2.2.2.2.2.2.2.2.2.1 i2) (s.2.2.2.2.2.2.2.2.2.2.2.2.2.2.2.2.2.2.2.2.2.2.2.2.2.2.2.2.2.2.1 i2)) = (-991716523 : Int32)
    · rw [if_pos c5] at hM
      refine lv_lookup (off := 73) (tgt := 98) hx hb dX2_line_25 (by decide) (by rw [show ((hashG (s.2.2.2.2.2.2.2.2.2.2.2.2.2.2.2.2.2.2.2.2.2.2.2.2.2.2.2.2.2.1 i2) (s.2.2.2.2.2.2.2.2.2.2.2.2.2.2.2.2.2.2.2.2.2.2.2.2.2.2.2.2.2.2.1 i2))).toInt = -991716523 by rw [c5]; decide]; decide) (by decide) ?_
      refine lv_aload_n hx hb dX2_line_98 rfl (lv_at hl 1 rfl) ?_
      refine va_ldcS hx hb hown (hE.2.2.1 2 (Nat.zero_le _) (by decide)) dX2_line_99 ?_
      obtain ⟨h6, hM⟩ := gn_inv hM
      obtain ⟨h7, hM⟩ := gn_inv hM
      have sw_ := sv_world hts hK hP (zw_so h6) (zw_sb h6) rfl rfl (lt_nil (hP _ _ (zw_so h6)).lt) (lt_nil (hP _ _ (zw_sb h6)).lt)
      have sk_ := ev_at sv_ok (hE.2.1 2 (by decide)) hS (ev_nil hA hS)
      have ok_ := ev_at OK_ok hE.1 hS (ev_nil hA hS)
      have ab_ : (zhs h i2).1 i2 = ka 2 → (eqC (s.2.2.2.2.2.2.2.2.2.2.2.2.2.2.2.2.2.2.2.2.2.2.2.2.2.2.2.2.2.1 i2) (s.2.2.2.2.2.2.2.2.2.2.2.2.2.2.2.2.2.2.2.2.2.2.2.2.2.2.2.2.2.2.1 i2) (klen 2) (kby 2)) = 1 := fun h9 => absurd (hD.2 _ _ (zw_so h6)) (by rw [show (scell ((zhs h i2).1 i2) ((zhs h i2).2.1 i2) (s.2.2.2.2.2.2.2.2.2.2.2.2.2.2.2.2.2.2.2.2.2.2.2.2.2.2.2.2.2.1 i2) (s.2.2.2.2.2.2.2.2.2.2.2.2.2.2.2.2.2.2.2.2.2.2.2.2.2.2.2.2.2.2.1 i2) ((zhs h i2).2.2.1 i2)).1 = ka 2 from h9]; obtain ⟨⟨_, _, _, _, hn9⟩, _⟩ := hE.2.1 2 (by decide); exact hn9)
      refine k_i0 [] (va_runV (As := [.ref (ka 2)]) (rest := []) ⟨hx, hb, hml, hown, hts⟩ (ctJ3_equals l D dA _ _ _ _ _ _ _ _ _ (by omega) (klen_lt _) ab_) (cwV 1 hts (lw_V q681 q682 q683 q124 q684) rfl rfl rfl (by decide +kernel) ⟨Nat.le_of_ble_eq_true rfl, Nat.le_of_ble_eq_true rfl⟩) (preX_O (ev2_ok OK_ok (ev2_ok sv_ok sv_ok)) p_nil hK (A := A) d_nil ⟨ok_, sw_, sk_⟩ sw_.1) rfl rfl hl.1 rfl (lv_room (Nat.le_of_ble_eq_true rfl)) dX2_line_101 ⟨Nat.le_of_ble_eq_true rfl, Nat.le_of_ble_eq_true rfl⟩) hP hD hS hA rfl (fun _ => rfl) (fun u_ H locs hP hD hS => ?_)
      have hP : va_P D clG (zw dA za k9 tx (zhs h i2) s) H := hP
      have hD : va_D A (zw dA za k9 tx (zhs h i2) s) := hD
      refine lv_if_eq (tgt := 165) hx hb dX2_line_104 (by decide) (fun c8 => ?_) (fun c8 => ?_)
      · rw [if_pos c8] at hM
        refine lv_iload_n hx hb dX2_line_165 rfl (lv_at hl 0 rfl) ?_
        refine lv_tableOut (tgt := 246) hx hb dX2_line_166 (by decide) (by decide) ?_
        refine lv_aload_n hx hb dX2_line_246 rfl (lv_at hl 2 rfl) ?_
        refine lv_iconst (v := (1 : Int32)) hx hb dX2_line_247 (by decide) ?_
        have er9 : MX2_fail (1 : Int32) s.2.2.1 = some ((1 : Int32), s.2.2.1) := rfl
        refine k_r0 [0, 1] (va_runV (As := [.int (1 : Int32)]) (rest := []) ⟨hx, hb, hml, hown, hts⟩ (ctX2_fail l D dA _ (za 0) (za 1) (1 : Int32) k9.1 s.1 s.2.1 s.2.2.1 s.2.2.2.1 0 k9.2.1 k9.2.2 (.ref (za 2)) (.ref (za 3)) (zwv (zhs h i2) s.2.2.2.2.1) (.ref (za 4)) (zav (zhs h i2) s.2.2.2.2.2.1) .null .null .null .null .null _ er9) (cwV 1 hts (lw_V q619 q621 qs7 q114 q622) rfl rfl rfl (by decide +kernel) ⟨Nat.le_of_ble_eq_true rfl, Nat.le_of_ble_eq_true rfl⟩) (pre_V (hP.sub [0, 1] rfl) hK (hD.sub [0, 1] (by decide) rfl) (ci := 1) (q0 := 0) rfl rfl) rfl rfl hl.1 rfl (lv_room (Nat.le_of_ble_eq_true rfl)) dX2_line_248 ⟨Nat.le_of_ble_eq_true rfl, Nat.le_of_ble_eq_true rfl⟩) hP hD hS hA rfl (fun _ => rfl) (fun u10 H locs hP hD hS => ?_)
        have hP : va_P D clG (zw dA za (k9.1, (1 : Int32), s.2.2.1) tx (zhs h i2) s) H := hP
        have hD : va_D A (zw dA za (k9.1, (1 : Int32), s.2.2.1) tx (zhs h i2) s) := hD
        cases hM
      · rw [if_neg c8] at hM
        refine lv_iconst (v := (1 : Int32)) hx hb dX2_line_107 (by decide) ?_
        refine lv_istore_n (lv' := [(2, .int (1 : Int32)), (1, .ref ((zhs h i2).1 i2)), (0, .ref (za 0))]) hx hb dX2_line_108 rfl hl (by decide) rfl (fun ls hl => ?_)
        have hl := lv_sub (l' := [(2, .int (1 : Int32)), (0, .ref (za 0))]) hl [0, 2] rfl
        refine lv_goto (tgt := 165) hx hb dX2_line_109 (by decide) ?_
        refine lv_iload_n hx hb dX2_line_165 rfl (lv_at hl 0 rfl) ?_
        refine lv_tableIn (off := 45) (tgt := 211) hx hb dX2_line_166 (by decide) (by decide) rfl (by decide) ?_
        refine lv_aload_n hx hb dX2_line_211 rfl (lv_at hl 1 rfl) ?_
        obtain ⟨r11_, er11, hM⟩ := b_inv hM
        cases r11_ with
        | inl e9 =>
          dsimp only at hM
          cases hM
        | inr r11 =>
          dsimp only at hM
          refine k_w (va_runV (As := []) (rest := []) ⟨hx, hb, hml, hown, hts⟩ (ctZ_personLine l D dA _ za (zhs h i2) tx k9 ka kv s r11 er11 ) (cwV 0 hts (lw_V q712 q714 qs12 q114 q715) rfl rfl rfl (by decide +kernel) ⟨Nat.le_of_ble_eq_true rfl, Nat.le_of_ble_eq_true rfl⟩) (preX_V ZE_ok hP hK hD (ev_at ZE_ok hE hS (w_free hD hS hA)) hP (ci := 1) (q0 := 0) rfl rfl) rfl rfl hl.1 rfl (lv_room (Nat.le_of_ble_eq_true rfl)) dX2_line_212 ⟨Nat.le_of_ble_eq_true rfl, Nat.le_of_ble_eq_true rfl⟩) hD hS hA (fun u12 H locs x13 hP hD hS => ?_)
          refine W.widen (k := 21) (n := 127) (Nat.le_of_ble_eq_true rfl) (Nat.le_of_ble_eq_true rfl) ?_
          refine W.eq (g2 := F0 m 215 ls []) (by first | rfl | (rfl; rfl) | (rfl) | (simp only [*]; rfl) | simp only [*]) ?_
          refine lv_goto (tgt := 252) hx hb dX2_line_215 (by decide) ?_
          have hM := Sum.inr.inj (Option.some.inj hM)
          subst hM
          refine W.widen (k := 21) (n := 127) (Nat.le_of_ble_eq_true rfl) (Nat.le_of_ble_eq_true rfl) ?_
          exact W.vret hx hb hr (fun t ht hW => ⟨⟨u12, rfl, (zext_trans (zext_trans zext_rf zext_hs) x13), by rw [ht]; exact hP, hD⟩, hS.F ht⟩) hS.2.2 dX2_line_252
    · rw [if_neg c5] at hM
      by_cases c14 : (hashG (s.2.2.2.2.2.2.2.2.2.2.2.2.2.2.2.2.2.2.2.2.2.2.2.2.2.2.2.2.2.1 i2) (s.2.2.2.2.2.2.2.2.2.2.2.2.2.2.2.2.2.2.2.2.2.2.2.2.2.2.2.2.2.2.1 i2)) = (3053931 : Int32)
      · rw [if_pos c14] at hM
        refine lv_lookup (off := 59) (tgt := 84) hx hb dX2_line_25 (by decide) (by rw [show ((hashG (s.2.2.2.2.2.2.2.2.2.2.2.2.2.2.2.2.2.2.2.2.2.2.2.2.2.2.2.2.2.1 i2) (s.2.2.2.2.2.2.2.2.2.2.2.2.2.2.2.2.2.2.2.2.2.2.2.2.2.2.2.2.2.2.1 i2))).toInt = 3053931 by rw [c14]; decide]; decide) (by decide) ?_
        refine lv_aload_n hx hb dX2_line_84 rfl (lv_at hl 1 rfl) ?_
        refine va_ldcS hx hb hown (hE.2.2.1 1 (Nat.zero_le _) (by decide)) dX2_line_85 ?_
        obtain ⟨h15, hM⟩ := gn_inv hM
        obtain ⟨h16, hM⟩ := gn_inv hM
        have sw_ := sv_world hts hK hP (zw_so h15) (zw_sb h15) rfl rfl (lt_nil (hP _ _ (zw_so h15)).lt) (lt_nil (hP _ _ (zw_sb h15)).lt)
        have sk_ := ev_at sv_ok (hE.2.1 1 (by decide)) hS (ev_nil hA hS)
        have ok_ := ev_at OK_ok hE.1 hS (ev_nil hA hS)
        have ab_ : (zhs h i2).1 i2 = ka 1 → (eqC (s.2.2.2.2.2.2.2.2.2.2.2.2.2.2.2.2.2.2.2.2.2.2.2.2.2.2.2.2.2.1 i2) (s.2.2.2.2.2.2.2.2.2.2.2.2.2.2.2.2.2.2.2.2.2.2.2.2.2.2.2.2.2.2.1 i2) (klen 1) (kby 1)) = 1 := fun h9 => absurd (hD.2 _ _ (zw_so h15)) (by rw [show (scell ((zhs h i2).1 i2) ((zhs h i2).2.1 i2) (s.2.2.2.2.2.2.2.2.2.2.2.2.2.2.2.2.2.2.2.2.2.2.2.2.2.2.2.2.2.1 i2) (s.2.2.2.2.2.2.2.2.2.2.2.2.2.2.2.2.2.2.2.2.2.2.2.2.2.2.2.2.2.2.1 i2) ((zhs h i2).2.2.1 i2)).1 = ka 1 from h9]; obtain ⟨⟨_, _, _, _, hn9⟩, _⟩ := hE.2.1 1 (by decide); exact hn9)
        refine k_i0 [] (va_runV (As := [.ref (ka 1)]) (rest := []) ⟨hx, hb, hml, hown, hts⟩ (ctJ3_equals l D dA _ _ _ _ _ _ _ _ _ (by omega) (klen_lt _) ab_) (cwV 1 hts (lw_V q681 q682 q683 q124 q684) rfl rfl rfl (by decide +kernel) ⟨Nat.le_of_ble_eq_true rfl, Nat.le_of_ble_eq_true rfl⟩) (preX_O (ev2_ok OK_ok (ev2_ok sv_ok sv_ok)) p_nil hK (A := A) d_nil ⟨ok_, sw_, sk_⟩ sw_.1) rfl rfl hl.1 rfl (lv_room (Nat.le_of_ble_eq_true rfl)) dX2_line_87 ⟨Nat.le_of_ble_eq_true rfl, Nat.le_of_ble_eq_true rfl⟩) hP hD hS hA rfl (fun _ => rfl) (fun u_ H locs hP hD hS => ?_)
        have hP : va_P D clG (zw dA za k9 tx (zhs h i2) s) H := hP
        have hD : va_D A (zw dA za k9 tx (zhs h i2) s) := hD
        refine lv_if_eq (tgt := 165) hx hb dX2_line_90 (by decide) (fun c17 => ?_) (fun c17 => ?_)
        · rw [if_pos c17] at hM
          refine lv_iload_n hx hb dX2_line_165 rfl (lv_at hl 0 rfl) ?_
          refine lv_tableOut (tgt := 246) hx hb dX2_line_166 (by decide) (by decide) ?_
          refine lv_aload_n hx hb dX2_line_246 rfl (lv_at hl 2 rfl) ?_
          refine lv_iconst (v := (1 : Int32)) hx hb dX2_line_247 (by decide) ?_
          have er18 : MX2_fail (1 : Int32) s.2.2.1 = some ((1 : Int32), s.2.2.1) := rfl
          refine k_r0 [0, 1] (va_runV (As := [.int (1 : Int32)]) (rest := []) ⟨hx, hb, hml, hown, hts⟩ (ctX2_fail l D dA _ (za 0) (za 1) (1 : Int32) k9.1 s.1 s.2.1 s.2.2.1 s.2.2.2.1 0 k9.2.1 k9.2.2 (.ref (za 2)) (.ref (za 3)) (zwv (zhs h i2) s.2.2.2.2.1) (.ref (za 4)) (zav (zhs h i2) s.2.2.2.2.2.1) .null .null .null .null .null _ er18) (cwV 1 hts (lw_V q619 q621 qs7 q114 q622) rfl rfl rfl (by decide +kernel) ⟨Nat.le_of_ble_eq_true rfl, Nat.le_of_ble_eq_true rfl⟩) (pre_V (hP.sub [0, 1] rfl) hK (hD.sub [0, 1] (by decide) rfl) (ci := 1) (q0 := 0) rfl rfl) rfl rfl hl.1 rfl (lv_room (Nat.le_of_ble_eq_true rfl)) dX2_line_248 ⟨Nat.le_of_ble_eq_true rfl, Nat.le_of_ble_eq_true rfl⟩) hP hD hS hA rfl (fun _ => rfl) (fun u19 H locs hP hD hS => ?_)
          have hP : va_P D clG (zw dA za (k9.1, (1 : Int32), s.2.2.1) tx (zhs h i2) s) H := hP
          have hD : va_D A (zw dA za (k9.1, (1 : Int32), s.2.2.1) tx (zhs h i2) s) := hD
          cases hM
        · rw [if_neg c17] at hM
          refine lv_iconst (v := (0 : Int32)) hx hb dX2_line_93 (by decide) ?_
          refine lv_istore_n (lv' := [(2, .int (0 : Int32)), (1, .ref ((zhs h i2).1 i2)), (0, .ref (za 0))]) hx hb dX2_line_94 rfl hl (by decide) rfl (fun ls hl => ?_)
          have hl := lv_sub (l' := [(2, .int (0 : Int32)), (0, .ref (za 0))]) hl [0, 2] rfl
          refine lv_goto (tgt := 165) hx hb dX2_line_95 (by decide) ?_
          refine lv_iload_n hx hb dX2_line_165 rfl (lv_at hl 0 rfl) ?_
          refine lv_tableIn (off := 38) (tgt := 204) hx hb dX2_line_166 (by decide) (by decide) rfl (by decide) ?_
          refine lv_aload_n hx hb dX2_line_204 rfl (lv_at hl 1 rfl) ?_
          obtain ⟨r20_, er20, hM⟩ := b_inv hM
          cases r20_ with
          | inl e9 =>
            dsimp only at hM
            cases hM
          | inr r20 =>
            dsimp only at hM
            refine k_w (va_runV (As := []) (rest := []) ⟨hx, hb, hml, hown, hts⟩ (ctZ_cityLine l D dA _ za (zhs h i2) tx k9 ka kv s r20 er20 ) (cwV 0 hts (lw_V q694 q696 qs8 q114 q697) rfl rfl rfl (by decide +kernel) ⟨Nat.le_of_ble_eq_true rfl, Nat.le_of_ble_eq_true rfl⟩) (preX_V ZE_ok hP hK hD (ev_at ZE_ok hE hS (w_free hD hS hA)) hP (ci := 1) (q0 := 0) rfl rfl) rfl rfl hl.1 rfl (lv_room (Nat.le_of_ble_eq_true rfl)) dX2_line_205 ⟨Nat.le_of_ble_eq_true rfl, Nat.le_of_ble_eq_true rfl⟩) hD hS hA (fun u21 H locs x22 hP hD hS => ?_)
            refine W.widen (k := 10) (n := 60) (Nat.le_of_ble_eq_true rfl) (Nat.le_of_ble_eq_true rfl) ?_
            refine W.eq (g2 := F0 m 208 ls []) (by first | rfl | (rfl; rfl) | (rfl) | (simp only [*]; rfl) | simp only [*]) ?_
            refine lv_goto (tgt := 252) hx hb dX2_line_208 (by decide) ?_
            have hM := Sum.inr.inj (Option.some.inj hM)
            subst hM
            refine W.widen (k := 21) (n := 127) (Nat.le_of_ble_eq_true rfl) (Nat.le_of_ble_eq_true rfl) ?_
            exact W.vret hx hb hr (fun t ht hW => ⟨⟨u21, rfl, (zext_trans (zext_trans zext_rf zext_hs) x22), by rw [ht]; exact hP, hD⟩, hS.F ht⟩) hS.2.2 dX2_line_252
      · rw [if_neg c14] at hM
        by_cases c23 : (hashG (s.2.2.2.2.2.2.2.2.2.2.2.2.2.2.2.2.2.2.2.2.2.2.2.2.2.2.2.2.2.1 i2) (s.2.2.2.2.2.2.2.2.2.2.2.2.2.2.2.2.2.2.2.2.2.2.2.2.2.2.2.2.2.2.1 i2)) = (3377192 : Int32)
        · rw [if_pos c23] at hM
          refine lv_lookup (off := 87) (tgt := 112) hx hb dX2_line_25 (by decide) (by rw [show ((hashG (s.2.2.2.2.2.2.2.2.2.2.2.2.2.2.2.2.2.2.2.2.2.2.2.2.2.2.2.2.2.1 i2) (s.2.2.2.2.2.2.2.2.2.2.2.2.2.2.2.2.2.2.2.2.2.2.2.2.2.2.2.2.2.2.1 i2))).toInt = 3377192 by rw [c23]; decide]; decide) (by decide) ?_
          refine lv_aload_n hx hb dX2_line_112 rfl (lv_at hl 1 rfl) ?_
          refine va_ldcS hx hb hown (hE.2.2.1 3 (Nat.zero_le _) (by decide)) dX2_line_113 ?_
          obtain ⟨h24, hM⟩ := gn_inv hM
          obtain ⟨h25, hM⟩ := gn_inv hM
          have sw_ := sv_world hts hK hP (zw_so h24) (zw_sb h24) rfl rfl (lt_nil (hP _ _ (zw_so h24)).lt) (lt_nil (hP _ _ (zw_sb h24)).lt)
          have sk_ := ev_at sv_ok (hE.2.1 3 (by decide)) hS (ev_nil hA hS)
          have ok_ := ev_at OK_ok hE.1 hS (ev_nil hA hS)
          have ab_ : (zhs h i2).1 i2 = ka 3 → (eqC (s.2.2.2.2.2.2.2.2.2.2.2.2.2.2.2.2.2.2.2.2.2.2.2.2.2.2.2.2.2.1 i2) (s.2.2.2.2.2.2.2.2.2.2.2.2.2.2.2.2.2.2.2.2.2.2.2.2.2.2.2.2.2.2.1 i2) (klen 3) (kby 3)) = 1 := fun h9 => absurd (hD.2 _ _ (zw_so h24)) (by rw [show (scell ((zhs h i2).1 i2) ((zhs h i2).2.1 i2) (s.2.2.2.2.2.2.2.2.2.2.2.2.2.2.2.2.2.2.2.2.2.2.2.2.2.2.2.2.2.1 i2) (s.2.2.2.2.2.2.2.2.2.2.2.2.2.2.2.2.2.2.2.2.2.2.2.2.2.2.2.2.2.2.1 i2) ((zhs h i2).2.2.1 i2)).1 = ka 3 from h9]; obtain ⟨⟨_, _, _, _, hn9⟩, _⟩ := hE.2.1 3 (by decide); exact hn9)
          refine k_i0 [] (va_runV (As := [.ref (ka 3)]) (rest := []) ⟨hx, hb, hml, hown, hts⟩ (ctJ3_equals l D dA _ _ _ _ _ _ _ _ _ (by omega) (klen_lt _) ab_) (cwV 1 hts (lw_V q681 q682 q683 q124 q684) rfl rfl rfl (by decide +kernel) ⟨Nat.le_of_ble_eq_true rfl, Nat.le_of_ble_eq_true rfl⟩) (preX_O (ev2_ok OK_ok (ev2_ok sv_ok sv_ok)) p_nil hK (A := A) d_nil ⟨ok_, sw_, sk_⟩ sw_.1) rfl rfl hl.1 rfl (lv_room (Nat.le_of_ble_eq_true rfl)) dX2_line_115 ⟨Nat.le_of_ble_eq_true rfl, Nat.le_of_ble_eq_true rfl⟩) hP hD hS hA rfl (fun _ => rfl) (fun u_ H locs hP hD hS => ?_)
          have hP : va_P D clG (zw dA za k9 tx (zhs h i2) s) H := hP
          have hD : va_D A (zw dA za k9 tx (zhs h i2) s) := hD
          refine lv_if_eq (tgt := 165) hx hb dX2_line_118 (by decide) (fun c26 => ?_) (fun c26 => ?_)
          · rw [if_pos c26] at hM
            refine lv_iload_n hx hb dX2_line_165 rfl (lv_at hl 0 rfl) ?_
            refine lv_tableOut (tgt := 246) hx hb dX2_line_166 (by decide) (by decide) ?_
            refine lv_aload_n hx hb dX2_line_246 rfl (lv_at hl 2 rfl) ?_
            refine lv_iconst (v := (1 : Int32)) hx hb dX2_line_247 (by decide) ?_
            have er27 : MX2_fail (1 : Int32) s.2.2.1 = some ((1 : Int32), s.2.2.1) := rfl
            refine k_r0 [0, 1] (va_runV (As := [.int (1 : Int32)]) (rest := []) ⟨hx, hb, hml, hown, hts⟩ (ctX2_fail l D dA _ (za 0) (za 1) (1 : Int32) k9.1 s.1 s.2.1 s.2.2.1 s.2.2.2.1 0 k9.2.1 k9.2.2 (.ref (za 2)) (.ref (za 3)) (zwv (zhs h i2) s.2.2.2.2.1) (.ref (za 4)) (zav (zhs h i2) s.2.2.2.2.2.1) .null .null .null .null .null _ er27) (cwV 1 hts (lw_V q619 q621 qs7 q114 q622) rfl rfl rfl (by decide +kernel) ⟨Nat.le_of_ble_eq_true rfl, Nat.le_of_ble_eq_true rfl⟩) (pre_V (hP.sub [0, 1] rfl) hK (hD.sub [0, 1] (by decide) rfl) (ci := 1) (q0 := 0) rfl rfl) rfl rfl hl.1 rfl (lv_room (Nat.le_of_ble_eq_true rfl)) dX2_line_248 ⟨Nat.le_of_ble_eq_true rfl, Nat.le_of_ble_eq_true rfl⟩) hP hD hS hA rfl (fun _ => rfl) (fun u28 H locs hP hD hS => ?_)
            have hP : va_P D clG (zw dA za (k9.1, (1 : Int32), s.2.2.1) tx (zhs h i2) s) H := hP
            have hD : va_D A (zw dA za (k9.1, (1 : Int32), s.2.2.1) tx (zhs h i2) s) := hD
            cases hM
          · rw [if_neg c26] at hM
            refine lv_iconst (v := (2 : Int32)) hx hb dX2_line_121 (by decide) ?_
            refine lv_istore_n (lv' := [(2, .int (2 : Int32)), (1, .ref ((zhs h i2).1 i2)), (0, .ref (za 0))]) hx hb dX2_line_122 rfl hl (by decide) rfl (fun ls hl => ?_)
            have hl := lv_sub (l' := [(2, .int (2 : Int32)), (0, .ref (za 0))]) hl [0, 2] rfl
            refine lv_goto (tgt := 165) hx hb dX2_line_123 (by decide) ?_
            refine lv_iload_n hx hb dX2_line_165 rfl (lv_at hl 0 rfl) ?_
            refine lv_tableIn (off := 52) (tgt := 218) hx hb dX2_line_166 (by decide) (by decide) rfl (by decide) ?_
            refine lv_aload_n hx hb dX2_line_218 rfl (lv_at hl 1 rfl) ?_
            obtain ⟨r29_, er29, hM⟩ := b_inv hM
            cases r29_ with
            | inl e9 =>
              dsimp only at hM
              cases hM
            | inr r29 =>
              dsimp only at hM
              refine k_w (va_runV (As := []) (rest := []) ⟨hx, hb, hml, hown, hts⟩ (ctZ_nearLine l D dA _ za (zhs h i2) tx k9 ka kv s r29 er29 ) (cwV 0 hts (lw_V q829 q831 qs17 q114 q832) rfl rfl rfl (by decide +kernel) ⟨Nat.le_of_ble_eq_true rfl, Nat.le_of_ble_eq_true rfl⟩) (preX_V ZE_ok hP hK hD (ev_at ZE_ok hE hS (w_free hD hS hA)) hP (ci := 1) (q0 := 0) rfl rfl) rfl rfl hl.1 rfl (lv_room (Nat.le_of_ble_eq_true rfl)) dX2_line_219 ⟨Nat.le_of_ble_eq_true rfl, Nat.le_of_ble_eq_true rfl⟩) hD hS hA (fun u30 H locs x31 hP hD hS => ?_)
              refine W.widen (k := 6) (n := 36) (Nat.le_of_ble_eq_true rfl) (Nat.le_of_ble_eq_true rfl) ?_
              refine W.eq (g2 := F0 m 222 ls []) (by first | rfl | (rfl; rfl) | (rfl) | (simp only [*]; rfl) | simp only [*]) ?_
              refine lv_goto (tgt := 252) hx hb dX2_line_222 (by decide) ?_
              have hM := Sum.inr.inj (Option.some.inj hM)
              subst hM
              refine W.widen (k := 21) (n := 127) (Nat.le_of_ble_eq_true rfl) (Nat.le_of_ble_eq_true rfl) ?_
              exact W.vret hx hb hr (fun t ht hW => ⟨⟨u30, rfl, (zext_trans (zext_trans zext_rf zext_hs) x31), by rw [ht]; exact hP, hD⟩, hS.F ht⟩) hS.2.2 dX2_line_252
        · rw [if_neg c23] at hM
          by_cases c32 : (hashG (s.2.2.2.2.2.2.2.2.2.2.2.2.2.2.2.2.2.2.2.2.2.2.2.2.2.2.2.2.2.1 i2) (s.2.2.2.2.2.2.2.2.2.2.2.2.2.2.2.2.2.2.2.2.2.2.2.2.2.2.2.2.2.2.1 i2)) = (3645716 : Int32)
          · rw [if_pos c32] at hM
            refine lv_lookup (off := 129) (tgt := 154) hx hb dX2_line_25 (by decide) (by rw [show ((hashG (s.2.2.2.2.2.2.2.2.2.2.2.2.2.2.2.2.2.2.2.2.2.2.2.2.2.2.2.2.2.1 i2) (s.2.2.2.2.2.2.2.2.2.2.2.2.2.2.2.2.2.2.2.2.2.2.2.2.2.2.2.2.2.2.1 i2))).toInt = 3645716 by rw [c32]; decide]; decide) (by decide) ?_
            refine lv_aload_n hx hb dX2_line_154 rfl (lv_at hl 1 rfl) ?_
            refine va_ldcS hx hb hown (hE.2.2.1 6 (Nat.zero_le _) (by decide)) dX2_line_155 ?_
            obtain ⟨h33, hM⟩ := gn_inv hM
            obtain ⟨h34, hM⟩ := gn_inv hM
            have sw_ := sv_world hts hK hP (zw_so h33) (zw_sb h33) rfl rfl (lt_nil (hP _ _ (zw_so h33)).lt) (lt_nil (hP _ _ (zw_sb h33)).lt)
            have sk_ := ev_at sv_ok (hE.2.1 6 (by decide)) hS (ev_nil hA hS)
            have ok_ := ev_at OK_ok hE.1 hS (ev_nil hA hS)
            have ab_ : (zhs h i2).1 i2 = ka 6 → (eqC (s.2.2.2.2.2.2.2.2.2.2.2.2.2.2.2.2.2.2.2.2.2.2.2.2.2.2.2.2.2.1 i2) (s.2.2.2.2.2.2.2.2.2.2.2.2.2.2.2.2.2.2.2.2.2.2.2.2.2.2.2.2.2.2.1 i2) (klen 6) (kby 6)) = 1 := fun h9 => absurd (hD.2 _ _ (zw_so h33)) (by rw [show (scell ((zhs h i2).1 i2) ((zhs h i2).2.1 i2) (s.2.2.2.2.2.2.2.2.2.2.2.2.2.2.2.2.2.2.2.2.2.2.2.2.2.2.2.2.2.1 i2) (s.2.2.2.2.2.2.2.2.2.2.2.2.2.2.2.2.2.2.2.2.2.2.2.2.2.2.2.2.2.2.1 i2) ((zhs h i2).2.2.1 i2)).1 = ka 6 from h9]; obtain ⟨⟨_, _, _, _, hn9⟩, _⟩ := hE.2.1 6 (by decide); exact hn9)
            refine k_i0 [] (va_runV (As := [.ref (ka 6)]) (rest := []) ⟨hx, hb, hml, hown, hts⟩ (ctJ3_equals l D dA _ _ _ _ _ _ _ _ _ (by omega) (klen_lt _) ab_) (cwV 1 hts (lw_V q681 q682 q683 q124 q684) rfl rfl rfl (by decide +kernel) ⟨Nat.le_of_ble_eq_true rfl, Nat.le_of_ble_eq_true rfl⟩) (preX_O (ev2_ok OK_ok (ev2_ok sv_ok sv_ok)) p_nil hK (A := A) d_nil ⟨ok_, sw_, sk_⟩ sw_.1) rfl rfl hl.1 rfl (lv_room (Nat.le_of_ble_eq_true rfl)) dX2_line_157 ⟨Nat.le_of_ble_eq_true rfl, Nat.le_of_ble_eq_true rfl⟩) hP hD hS hA rfl (fun _ => rfl) (fun u_ H locs hP hD hS => ?_)
            have hP : va_P D clG (zw dA za k9 tx (zhs h i2) s) H := hP
            have hD : va_D A (zw dA za k9 tx (zhs h i2) s) := hD
            refine lv_if_eq (tgt := 165) hx hb dX2_line_160 (by decide) (fun c35 => ?_) (fun c35 => ?_)
            · rw [if_pos c35] at hM
              refine lv_iload_n hx hb dX2_line_165 rfl (lv_at hl 0 rfl) ?_
              refine lv_tableOut (tgt := 246) hx hb dX2_line_166 (by decide) (by decide) ?_
              refine lv_aload_n hx hb dX2_line_246 rfl (lv_at hl 2 rfl) ?_
              refine lv_iconst (v := (1 : Int32)) hx hb dX2_line_247 (by decide) ?_
              have er36 : MX2_fail (1 : Int32) s.2.2.1 = some ((1 : Int32), s.2.2.1) := rfl
              refine k_r0 [0, 1] (va_runV (As := [.int (1 : Int32)]) (rest := []) ⟨hx, hb, hml, hown, hts⟩ (ctX2_fail l D dA _ (za 0) (za 1) (1 : Int32) k9.1 s.1 s.2.1 s.2.2.1 s.2.2.2.1 0 k9.2.1 k9.2.2 (.ref (za 2)) (.ref (za 3)) (zwv (zhs h i2) s.2.2.2.2.1) (.ref (za 4)) (zav (zhs h i2) s.2.2.2.2.2.1) .null .null .null .null .null _ er36) (cwV 1 hts (lw_V q619 q621 qs7 q114 q622) rfl rfl rfl (by decide +kernel) ⟨Nat.le_of_ble_eq_true rfl, Nat.le_of_ble_eq_true rfl⟩) (pre_V (hP.sub [0, 1] rfl) hK (hD.sub [0, 1] (by decide) rfl) (ci := 1) (q0 := 0) rfl rfl) rfl rfl hl.1 rfl (lv_room (Nat.le_of_ble_eq_true rfl)) dX2_line_248 ⟨Nat.le_of_ble_eq_true rfl, Nat.le_of_ble_eq_true rfl⟩) hP hD hS hA rfl (fun _ => rfl) (fun u37 H locs hP hD hS => ?_)
              have hP : va_P D clG (zw dA za (k9.1, (1 : Int32), s.2.2.1) tx (zhs h i2) s) H := hP
              have hD : va_D A (zw dA za (k9.1, (1 : Int32), s.2.2.1) tx (zhs h i2) s) := hD
              cases hM
            · rw [if_neg c35] at hM
              refine lv_iconst (v := (5 : Int32)) hx hb dX2_line_163 (by decide) ?_
              refine lv_istore_n (lv' := [(2, .int (5 : Int32)), (1, .ref ((zhs h i2).1 i2)), (0, .ref (za 0))]) hx hb dX2_line_164 rfl hl (by decide) rfl (fun ls hl => ?_)
              have hl := lv_sub (l' := [(2, .int (5 : Int32)), (0, .ref (za 0))]) hl [0, 2] rfl
              refine lv_iload_n hx hb dX2_line_165 rfl (lv_at hl 0 rfl) ?_
              refine lv_tableIn (off := 73) (tgt := 239) hx hb dX2_line_166 (by decide) (by decide) rfl (by decide) ?_
              refine lv_aload_n hx hb dX2_line_239 rfl (lv_at hl 1 rfl) ?_
              obtain ⟨r38_, er38, hM⟩ := b_inv hM
              cases r38_ with
              | inl e9 =>
                dsimp only at hM
                cases hM
              | inr r38 =>
                dsimp only at hM
                refine k_w (va_runV (As := []) (rest := []) ⟨hx, hb, hml, hown, hts⟩ (ctZ_wentLine l D dA _ za (zhs h i2) tx k9 ka kv s r38 er38 ) (cwV 0 hts (lw_V q886 q888 qs23 q114 q889) rfl rfl rfl (by decide +kernel) ⟨Nat.le_of_ble_eq_true rfl, Nat.le_of_ble_eq_true rfl⟩) (preX_V ZE_ok hP hK hD (ev_at ZE_ok hE hS (w_free hD hS hA)) hP (ci := 1) (q0 := 0) rfl rfl) rfl rfl hl.1 rfl (lv_room (Nat.le_of_ble_eq_true rfl)) dX2_line_240 ⟨Nat.le_of_ble_eq_true rfl, Nat.le_of_ble_eq_true rfl⟩) hD hS hA (fun u39 H locs x40 hP hD hS => ?_)
                refine W.widen (k := 8) (n := 48) (Nat.le_of_ble_eq_true rfl) (Nat.le_of_ble_eq_true rfl) ?_
                refine W.eq (g2 := F0 m 243 ls []) (by first | rfl | (rfl; rfl) | (rfl) | (simp only [*]; rfl) | simp only [*]) ?_
                refine lv_goto (tgt := 252) hx hb dX2_line_243 (by decide) ?_
                have hM := Sum.inr.inj (Option.some.inj hM)
                subst hM
                refine W.widen (k := 21) (n := 127) (Nat.le_of_ble_eq_true rfl) (Nat.le_of_ble_eq_true rfl) ?_
                exact W.vret hx hb hr (fun t ht hW => ⟨⟨u39, rfl, (zext_trans (zext_trans zext_rf zext_hs) x40), by rw [ht]; exact hP, hD⟩, hS.F ht⟩) hS.2.2 dX2_line_252
          · rw [if_neg c32] at hM
            by_cases c41 : (hashG (s.2.2.2.2.2.2.2.2.2.2.2.2.2.2.2.2.2.2.2.2.2.2.2.2.2.2.2.2.2.1 i2) (s.2.2.2.2.2.2.2.2.2.2.2.2.2.2.2.2.2.2.2.2.2.2.2.2.2.2.2.2.2.2.1 i2)) = (93113560 : Int32)
            · rw [if_pos c41] at hM
              refine lv_lookup (off := 101) (tgt := 126) hx hb dX2_line_25 (by decide) (by rw [show ((hashG (s.2.2.2.2.2.2.2.2.2.2.2.2.2.2.2.2.2.2.2.2.2.2.2.2.2.2.2.2.2.1 i2) (s.2.2.2.2.2.2.2.2.2.2.2.2.2.2.2.2.2.2.2.2.2.2.2.2.2.2.2.2.2.2.1 i2))).toInt = 93113560 by rw [c41]; decide]; decide) (by decide) ?_
              refine lv_aload_n hx hb dX2_line_126 rfl (lv_at hl 1 rfl) ?_
              refine va_ldcS hx hb hown (hE.2.2.1 4 (Nat.zero_le _) (by decide)) dX2_line_127 ?_
              obtain ⟨h42, hM⟩ := gn_inv hM
              obtain ⟨h43, hM⟩ := gn_inv hM
              have sw_ := sv_world hts hK hP (zw_so h42) (zw_sb h42) rfl rfl (lt_nil (hP _ _ (zw_so h42)).lt) (lt_nil (hP _ _ (zw_sb h42)).lt)
              have sk_ := ev_at sv_ok (hE.2.1 4 (by decide)) hS (ev_nil hA hS)
              have ok_ := ev_at OK_ok hE.1 hS (ev_nil hA hS)
              have ab_ : (zhs h i2).1 i2 = ka 4 → (eqC (s.2.2.2.2.2.2.2.2.2.2.2.2.2.2.2.2.2.2.2.2.2.2.2.2.2.2.2.2.2.1 i2) (s.2.2.2.2.2.2.2.2.2.2.2.2.2.2.2.2.2.2.2.2.2.2.2.2.2.2.2.2.2.2.1 i2) (klen 4) (kby 4)) = 1 := fun h9 => absurd (hD.2 _ _ (zw_so h42)) (by rw [show (scell ((zhs h i2).1 i2) ((zhs h i2).2.1 i2) (s.2.2.2.2.2.2.2.2.2.2.2.2.2.2.2.2.2.2.2.2.2.2.2.2.2.2.2.2.2.1 i2) (s.2.2.2.2.2.2.2.2.2.2.2.2.2.2.2.2.2.2.2.2.2.2.2.2.2.2.2.2.2.2.1 i2) ((zhs h i2).2.2.1 i2)).1 = ka 4 from h9]; obtain ⟨⟨_, _, _, _, hn9⟩, _⟩ := hE.2.1 4 (by decide); exact hn9)
              refine k_i0 [] (va_runV (As := [.ref (ka 4)]) (rest := []) ⟨hx, hb, hml, hown, hts⟩ (ctJ3_equals l D dA _ _ _ _ _ _ _ _ _ (by omega) (klen_lt _) ab_) (cwV 1 hts (lw_V q681 q682 q683 q124 q684) rfl rfl rfl (by decide +kernel) ⟨Nat.le_of_ble_eq_true rfl, Nat.le_of_ble_eq_true rfl⟩) (preX_O (ev2_ok OK_ok (ev2_ok sv_ok sv_ok)) p_nil hK (A := A) d_nil ⟨ok_, sw_, sk_⟩ sw_.1) rfl rfl hl.1 rfl (lv_room (Nat.le_of_ble_eq_true rfl)) dX2_line_129 ⟨Nat.le_of_ble_eq_true rfl, Nat.le_of_ble_eq_true rfl⟩) hP hD hS hA rfl (fun _ => rfl) (fun u_ H locs hP hD hS => ?_)
              have hP : va_P D clG (zw dA za k9 tx (zhs h i2) s) H := hP
              have hD : va_D A (zw dA za k9 tx (zhs h i2) s) := hD
              refine lv_if_eq (tgt := 165) hx hb dX2_line_132 (by decide) (fun c44 => ?_) (fun c44 => ?_)
              · rw [if_pos c44] at hM
                refine lv_iload_n hx hb dX2_line_165 rfl (lv_at hl 0 rfl) ?_
                refine lv_tableOut (tgt := 246) hx hb dX2_line_166 (by decide) (by decide) ?_
                refine lv_aload_n hx hb dX2_line_246 rfl (lv_at hl 2 rfl) ?_
                refine lv_iconst (v := (1 : Int32)) hx hb dX2_line_247 (by decide) ?_
                have er45 : MX2_fail (1 : Int32) s.2.2.1 = some ((1 : Int32), s.2.2.1) := rfl
                refine k_r0 [0, 1] (va_runV (As := [.int (1 : Int32)]) (rest := []) ⟨hx, hb, hml, hown, hts⟩ (ctX2_fail l D dA _ (za 0) (za 1) (1 : Int32) k9.1 s.1 s.2.1 s.2.2.1 s.2.2.2.1 0 k9.2.1 k9.2.2 (.ref (za 2)) (.ref (za 3)) (zwv (zhs h i2) s.2.2.2.2.1) (.ref (za 4)) (zav (zhs h i2) s.2.2.2.2.2.1) .null .null .null .null .null _ er45) (cwV 1 hts (lw_V q619 q621 qs7 q114 q622) rfl rfl rfl (by decide +kernel) ⟨Nat.le_of_ble_eq_true rfl, Nat.le_of_ble_eq_true rfl⟩) (pre_V (hP.sub [0, 1] rfl) hK (hD.sub [0, 1] (by decide) rfl) (ci := 1) (q0 := 0) rfl rfl) rfl rfl hl.1 rfl (lv_room (Nat.le_of_ble_eq_true rfl)) dX2_line_248 ⟨Nat.le_of_ble_eq_true rfl, Nat.le_of_ble_eq_true rfl⟩) hP hD hS hA rfl (fun _ => rfl) (fun u46 H locs hP hD hS => ?_)
                have hP : va_P D clG (zw dA za (k9.1, (1 : Int32), s.2.2.1) tx (zhs h i2) s) H := hP
                have hD : va_D A (zw dA za (k9.1, (1 : Int32), s.2.2.1) tx (zhs h i2) s) := hD
                cases hM
              · rw [if_neg c44] at hM
                refine lv_iconst (v := (3 : Int32)) hx hb dX2_line_135 (by decide) ?_
                refine lv_istore_n (lv' := [(2, .int (3 : Int32)), (1, .ref ((zhs h i2).1 i2)), (0, .ref (za 0))]) hx hb dX2_line_136 rfl hl (by decide) rfl (fun ls hl => ?_)
                have hl := lv_sub (l' := [(2, .int (3 : Int32)), (0, .ref (za 0))]) hl [0, 2] rfl
                refine lv_goto (tgt := 165) hx hb dX2_line_137 (by decide) ?_
                refine lv_iload_n hx hb dX2_line_165 rfl (lv_at hl 0 rfl) ?_
                refine lv_tableIn (off := 59) (tgt := 225) hx hb dX2_line_166 (by decide) (by decide) rfl (by decide) ?_
                refine lv_aload_n hx hb dX2_line_225 rfl (lv_at hl 1 rfl) ?_
                obtain ⟨r47_, er47, hM⟩ := b_inv hM
                cases r47_ with
                | inl e9 =>
                  dsimp only at hM
                  cases hM
                | inr r47 =>
                  dsimp only at hM
                  refine k_w (va_runV (As := []) (rest := []) ⟨hx, hb, hml, hown, hts⟩ (ctZ_askedLine l D dA _ za (zhs h i2) tx k9 ka kv s r47 er47 ) (cwV 0 hts (lw_V q840 q842 qs19 q114 q843) rfl rfl rfl (by decide +kernel) ⟨Nat.le_of_ble_eq_true rfl, Nat.le_of_ble_eq_true rfl⟩) (preX_V ZE_ok hP hK hD (ev_at ZE_ok hE hS (w_free hD hS hA)) hP (ci := 1) (q0 := 0) rfl rfl) rfl rfl hl.1 rfl (lv_room (Nat.le_of_ble_eq_true rfl)) dX2_line_226 ⟨Nat.le_of_ble_eq_true rfl, Nat.le_of_ble_eq_true rfl⟩) hD hS hA (fun u48 H locs x49 hP hD hS => ?_)
                  refine W.widen (k := 10) (n := 60) (Nat.le_of_ble_eq_true rfl) (Nat.le_of_ble_eq_true rfl) ?_
                  refine W.eq (g2 := F0 m 229 ls []) (by first | rfl | (rfl; rfl) | (rfl) | (simp only [*]; rfl) | simp only [*]) ?_
                  refine lv_goto (tgt := 252) hx hb dX2_line_229 (by decide) ?_
                  have hM := Sum.inr.inj (Option.some.inj hM)
                  subst hM
                  refine W.widen (k := 21) (n := 127) (Nat.le_of_ble_eq_true rfl) (Nat.le_of_ble_eq_true rfl) ?_
                  exact W.vret hx hb hr (fun t ht hW => ⟨⟨u48, rfl, (zext_trans (zext_trans zext_rf zext_hs) x49), by rw [ht]; exact hP, hD⟩, hS.F ht⟩) hS.2.2 dX2_line_252
            · rw [if_neg c41] at hM
              by_cases c50 : (hashG (s.2.2.2.2.2.2.2.2.2.2.2.2.2.2.2.2.2.2.2.2.2.2.2.2.2.2.2.2.2.1 i2) (s.2.2.2.2.2.2.2.2.2.2.2.2.2.2.2.2.2.2.2.2.2.2.2.2.2.2.2.2.2.2.1 i2)) = (99151926 : Int32)
              · rw [if_pos c50] at hM
                refine lv_lookup (off := 115) (tgt := 140) hx hb dX2_line_25 (by decide) (by rw [show ((hashG (s.2.2.2.2.2.2.2.2.2.2.2.2.2.2.2.2.2.2.2.2.2.2.2.2.2.2.2.2.2.1 i2) (s.2.2.2.2.2.2.2.2.2.2.2.2.2.2.2.2.2.2.2.2.2.2.2.2.2.2.2.2.2.2.1 i2))).toInt = 99151926 by rw [c50]; decide]; decide) (by decide) ?_
                refine lv_aload_n hx hb dX2_line_140 rfl (lv_at hl 1 rfl) ?_
                refine va_ldcS hx hb hown (hE.2.2.1 5 (Nat.zero_le _) (by decide)) dX2_line_141 ?_
                obtain ⟨h51, hM⟩ := gn_inv hM
                obtain ⟨h52, hM⟩ := gn_inv hM
                have sw_ := sv_world hts hK hP (zw_so h51) (zw_sb h51) rfl rfl (lt_nil (hP _ _ (zw_so h51)).lt) (lt_nil (hP _ _ (zw_sb h51)).lt)
                have sk_ := ev_at sv_ok (hE.2.1 5 (by decide)) hS (ev_nil hA hS)
                have ok_ := ev_at OK_ok hE.1 hS (ev_nil hA hS)
                have ab_ : (zhs h i2).1 i2 = ka 5 → (eqC (s.2.2.2.2.2.2.2.2.2.2.2.2.2.2.2.2.2.2.2.2.2.2.2.2.2.2.2.2.2.1 i2) (s.2.2.2.2.2.2.2.2.2.2.2.2.2.2.2.2.2.2.2.2.2.2.2.2.2.2.2.2.2.2.1 i2) (klen 5) (kby 5)) = 1 := fun h9 => absurd (hD.2 _ _ (zw_so h51)) (by rw [show (scell ((zhs h i2).1 i2) ((zhs h i2).2.1 i2) (s.2.2.2.2.2.2.2.2.2.2.2.2.2.2.2.2.2.2.2.2.2.2.2.2.2.2.2.2.2.1 i2) (s.2.2.2.2.2.2.2.2.2.2.2.2.2.2.2.2.2.2.2.2.2.2.2.2.2.2.2.2.2.2.1 i2) ((zhs h i2).2.2.1 i2)).1 = ka 5 from h9]; obtain ⟨⟨_, _, _, _, hn9⟩, _⟩ := hE.2.1 5 (by decide); exact hn9)
                refine k_i0 [] (va_runV (As := [.ref (ka 5)]) (rest := []) ⟨hx, hb, hml, hown, hts⟩ (ctJ3_equals l D dA _ _ _ _ _ _ _ _ _ (by omega) (klen_lt _) ab_) (cwV 1 hts (lw_V q681 q682 q683 q124 q684) rfl rfl rfl (by decide +kernel) ⟨Nat.le_of_ble_eq_true rfl, Nat.le_of_ble_eq_true rfl⟩) (preX_O (ev2_ok OK_ok (ev2_ok sv_ok sv_ok)) p_nil hK (A := A) d_nil ⟨ok_, sw_, sk_⟩ sw_.1) rfl rfl hl.1 rfl (lv_room (Nat.le_of_ble_eq_true rfl)) dX2_line_143 ⟨Nat.le_of_ble_eq_true rfl, Nat.le_of_ble_eq_true rfl⟩) hP hD hS hA rfl (fun _ => rfl) (fun u_ H locs hP hD hS => ?_)
                have hP : va_P D clG (zw dA za k9 tx (zhs h i2) s) H := hP
                have hD : va_D A (zw dA za k9 tx (zhs h i2) s) := hD
                refine lv_if_eq (tgt := 165) hx hb dX2_line_146 (by decide) (fun c53 => ?_) (fun c53 => ?_)
                · rw [if_pos c53] at hM
                  refine lv_iload_n hx hb dX2_line_165 rfl (lv_at hl 0 rfl) ?_
                  refine lv_tableOut (tgt := 246) hx hb dX2_line_166 (by decide) (by decide) ?_
                  refine lv_aload_n hx hb dX2_line_246 rfl (lv_at hl 2 rfl) ?_
                  refine lv_iconst (v := (1 : Int32)) hx hb dX2_line_247 (by decide) ?_
                  have er54 : MX2_fail (1 : Int32) s.2.2.1 = some ((1 : Int32), s.2.2.1) := rfl
                  refine k_r0 [0, 1] (va_runV (As := [.int (1 : Int32)]) (rest := []) ⟨hx, hb, hml, hown, hts⟩ (ctX2_fail l D dA _ (za 0) (za 1) (1 : Int32) k9.1 s.1 s.2.1 s.2.2.1 s.2.2.2.1 0 k9.2.1 k9.2.2 (.ref (za 2)) (.ref (za 3)) (zwv (zhs h i2) s.2.2.2.2.1) (.ref (za 4)) (zav (zhs h i2) s.2.2.2.2.2.1) .null .null .null .null .null _ er54) (cwV 1 hts (lw_V q619 q621 qs7 q114 q622) rfl rfl rfl (by decide +kernel) ⟨Nat.le_of_ble_eq_true rfl, Nat.le_of_ble_eq_true rfl⟩) (pre_V (hP.sub [0, 1] rfl) hK (hD.sub [0, 1] (by decide) rfl) (ci := 1) (q0 := 0) rfl rfl) rfl rfl hl.1 rfl (lv_room (Nat.le_of_ble_eq_true rfl)) dX2_line_248 ⟨Nat.le_of_ble_eq_true rfl, Nat.le_of_ble_eq_true rfl⟩) hP hD hS hA rfl (fun _ => rfl) (fun u55 H locs hP hD hS => ?_)
                  have hP : va_P D clG (zw dA za (k9.1, (1 : Int32), s.2.2.1) tx (zhs h i2) s) H := hP
                  have hD : va_D A (zw dA za (k9.1, (1 : Int32), s.2.2.1) tx (zhs h i2) s) := hD
                  cases hM
                · rw [if_neg c53] at hM
                  refine lv_iconst (v := (4 : Int32)) hx hb dX2_line_149 (by decide) ?_
                  refine lv_istore_n (lv' := [(2, .int (4 : Int32)), (1, .ref ((zhs h i2).1 i2)), (0, .ref (za 0))]) hx hb dX2_line_150 rfl hl (by decide) rfl (fun ls hl => ?_)
                  have hl := lv_sub (l' := [(2, .int (4 : Int32)), (0, .ref (za 0))]) hl [0, 2] rfl
                  refine lv_goto (tgt := 165) hx hb dX2_line_151 (by decide) ?_
                  refine lv_iload_n hx hb dX2_line_165 rfl (lv_at hl 0 rfl) ?_
                  refine lv_tableIn (off := 66) (tgt := 232) hx hb dX2_line_166 (by decide) (by decide) rfl (by decide) ?_
                  refine lv_aload_n hx hb dX2_line_232 rfl (lv_at hl 1 rfl) ?_
                  obtain ⟨r56_, er56, hM⟩ := b_inv hM
                  cases r56_ with
                  | inl e9 =>
                    dsimp only at hM
                    cases hM
                  | inr r56 =>
                    dsimp only at hM
                    refine k_w (va_runV (As := []) (rest := []) ⟨hx, hb, hml, hown, hts⟩ (ctZ_heardLine l D dA _ za (zhs h i2) tx k9 ka kv s r56 er56 ) (cwV 0 hts (lw_V q881 q883 qs22 q114 q884) rfl rfl rfl (by decide +kernel) ⟨Nat.le_of_ble_eq_true rfl, Nat.le_of_ble_eq_true rfl⟩) (preX_V ZE_ok hP hK hD (ev_at ZE_ok hE hS (w_free hD hS hA)) hP (ci := 1) (q0 := 0) rfl rfl) rfl rfl hl.1 rfl (lv_room (Nat.le_of_ble_eq_true rfl)) dX2_line_233 ⟨Nat.le_of_ble_eq_true rfl, Nat.le_of_ble_eq_true rfl⟩) hD hS hA (fun u57 H locs x58 hP hD hS => ?_)
                    refine W.widen (k := 14) (n := 84) (Nat.le_of_ble_eq_true rfl) (Nat.le_of_ble_eq_true rfl) ?_
                    refine W.eq (g2 := F0 m 236 ls []) (by first | rfl | (rfl; rfl) | (rfl) | (simp only [*]; rfl) | simp only [*]) ?_
                    refine lv_goto (tgt := 252) hx hb dX2_line_236 (by decide) ?_
                    have hM := Sum.inr.inj (Option.some.inj hM)
                    subst hM
                    refine W.widen (k := 21) (n := 127) (Nat.le_of_ble_eq_true rfl) (Nat.le_of_ble_eq_true rfl) ?_
                    exact W.vret hx hb hr (fun t ht hW => ⟨⟨u57, rfl, (zext_trans (zext_trans zext_rf zext_hs) x58), by rw [ht]; exact hP, hD⟩, hS.F ht⟩) hS.2.2 dX2_line_252
              · rw [if_neg c50] at hM
                refine lv_lookup (off := 140) (tgt := 165) hx hb dX2_line_25 (by decide) (by show Op.lookupswitch.offset [(-991716523, 73), (3053931, 59), (3377192, 87), (3645716, 129), (93113560, 101), (99151926, 115)] _ _ = _; rw [lv_osw (k := (-991716523 : Int32)) c5 (by decide), lv_osw (k := (3053931 : Int32)) c14 (by decide), lv_osw (k := (3377192 : Int32)) c23 (by decide), lv_osw (k := (3645716 : Int32)) c32 (by decide), lv_osw (k := (93113560 : Int32)) c41 (by decide), lv_osw (k := (99151926 : Int32)) c50 (by decide)]; rfl) (by decide) ?_
                refine lv_iload_n hx hb dX2_line_165 rfl (lv_at hl 0 rfl) ?_
                refine lv_tableOut (tgt := 246) hx hb dX2_line_166 (by decide) (by decide) ?_
                refine lv_aload_n hx hb dX2_line_246 rfl (lv_at hl 2 rfl) ?_
                refine lv_iconst (v := (1 : Int32)) hx hb dX2_line_247 (by decide) ?_
                have er59 : MX2_fail (1 : Int32) s.2.2.1 = some ((1 : Int32), s.2.2.1) := rfl
                refine k_r0 [0, 1] (va_runV (As := [.int (1 : Int32)]) (rest := []) ⟨hx, hb, hml, hown, hts⟩ (ctX2_fail l D dA _ (za 0) (za 1) (1 : Int32) k9.1 s.1 s.2.1 s.2.2.1 s.2.2.2.1 0 k9.2.1 k9.2.2 (.ref (za 2)) (.ref (za 3)) (zwv (zhs h i2) s.2.2.2.2.1) (.ref (za 4)) (zav (zhs h i2) s.2.2.2.2.2.1) .null .null .null .null .null _ er59) (cwV 1 hts (lw_V q619 q621 qs7 q114 q622) rfl rfl rfl (by decide +kernel) ⟨Nat.le_of_ble_eq_true rfl, Nat.le_of_ble_eq_true rfl⟩) (pre_V (hP.sub [0, 1] rfl) hK (hD.sub [0, 1] (by decide) rfl) (ci := 1) (q0 := 0) rfl rfl) rfl rfl hl.1 rfl (lv_room (Nat.le_of_ble_eq_true rfl)) dX2_line_248 ⟨Nat.le_of_ble_eq_true rfl, Nat.le_of_ble_eq_true rfl⟩) hP hD hS hA rfl (fun _ => rfl) (fun u60 H locs hP hD hS => ?_)
                have hP : va_P D clG (zw dA za (k9.1, (1 : Int32), s.2.2.1) tx (zhs h i2) s) H := hP
                have hD : va_D A (zw dA za (k9.1, (1 : Int32), s.2.2.1) tx (zhs h i2) s) := hD
                cases hM
  · rw [if_neg c1] at hM
    refine lv_aload_n hx hb dX2_line_8 rfl (lv_at hl 0 rfl) ?_
    refine lv_iconst (v := (1 : Int32)) hx hb dX2_line_9 (by decide) ?_
    have er61 : MX2_fail (1 : Int32) s.2.2.1 = some ((1 : Int32), s.2.2.1) := rfl
    refine k_r0 [0, 1] (va_runV (As := [.int (1 : Int32)]) (rest := []) ⟨hx, hb, hml, hown, hts⟩ (ctX2_fail l D dA _ (za 0) (za 1) (1 : Int32) k9.1 s.1 s.2.1 s.2.2.1 s.2.2.2.1 0 k9.2.1 k9.2.2 (.ref (za 2)) (.ref (za 3)) (zwv h s.2.2.2.2.1) (.ref (za 4)) (zav h s.2.2.2.2.2.1) .null .null .null .null .null _ er61) (cwV 1 hts (lw_V q619 q621 qs7 q114 q622) rfl rfl rfl (by decide +kernel) ⟨Nat.le_of_ble_eq_true rfl, Nat.le_of_ble_eq_true rfl⟩) (pre_V (hP.sub [0, 1] rfl) hK (hD.sub [0, 1] (by decide) rfl) (ci := 1) (q0 := 0) rfl rfl) rfl rfl hl.1 rfl (lv_room (Nat.le_of_ble_eq_true rfl)) dX2_line_10 ⟨Nat.le_of_ble_eq_true rfl, Nat.le_of_ble_eq_true rfl⟩) hP hD hS hA rfl (fun _ => rfl) (fun u62 H locs hP hD hS => ?_)
    have hP : va_P D clG (zw dA za (k9.1, (1 : Int32), s.2.2.1) tx h s) H := hP
    have hD : va_D A (zw dA za (k9.1, (1 : Int32), s.2.2.1) tx h s) := hD
    cases hM
set_option maxHeartbeats 40000000 in
theorem ceZ_line (l : Launch) (D : va_G) (dA : Nat → ClassId) (sz : Nat) (za : Nat → Nat) (h : ZH) (tx : AI) (k9 : Int32 × Int32 × Int32) (ka kv : Nat → Nat) (s : ZS) (er : Int32 × Int32) (hM : MZ_line tx k9.1 s = some (.inl er)) : vy_Met l yX2_line (ws_ yX2_line cX2_line 3 none) ({ frames := 10, cells := 21, slots := 127, locals := 393 }) (preX D dA (ZE ka kv) [.ref (za 0)] (zw dA za k9 tx h s) sz) (fun _ _ _ _ => False) (zQ D dA za tx er (va_A (zw dA za k9 tx h s) sz)) 21 127 (va_A (zw dA za k9 tx h s) sz) := by
  refine vy_ofW (cc := cX2_line) (maxL := 3) (ret := none) (by decide) rfl ?_
  intro p e s0 m args below meth c s₁ B hml hout hv
  obtain ⟨rfl, hsz, hP, hK, hD0, hE⟩ := hv
  have hx := B.exec
  have hb := B.bytes
  have hr := B.returns
  have hts := atoms_spec (ws := (ws_ yX2_line cX2_line 3 none)) B.pre
  have hts : ∀ w ∈ lw_all, w.before _ s0 = true := fun w h => hts w (List.mem_cons_of_mem _ h)
  have hown : s0.vm.findClass RX2 = some m.cls := findClass_of_methodNamed B.named
  have hlocks := B.notSynchronized
  subst hsz
  have hD := hD0.self (sz := s0.heap.size)
  generalize hAe : va_A (zw dA za k9 tx h s) s0.heap.size = A at hD hE ⊢
  have hA : ∀ q : Nat, s0.heap.size ≤ q → A q := fun q h => by rw [← hAe]; exact Or.inr h
  have hS : va_S A s0.heap s0.heap [] := va_S.rf
  have hl := lv_entry ([.ref (za 0)]) (n := 3) (Nat.le_of_ble_eq_true rfl)
  rw [lg_entry_eq]
  generalize (lg_sl ([.ref (za 0)]) ++ List.replicate (3 - (lg_sl ([.ref (za 0)])).length) Slot.unset).toArray = ls at hl ⊢
  have hl : lv_has ls 3 [(0, .ref (za 0))] := hl
  unfold MZ_line at hM
  refine lv_aload_n hx hb dX2_line_0 rfl (lv_at hl 0 rfl) ?_
  refine va_get (D := D) (ci := 1) (v := .int s.2.1) (C := RX2) (T := TX2) (N := 11) hx hb hts in_X2 hown hK.1 hP 0 rfl rfl 5 (by decide) (hts _ q231) (fun _ h9 => h9) rfl dX2_line_1 ?_
  refine lv_iconst (v := (2 : Int32)) hx hb dX2_line_4 (by decide) ?_
  refine lv_icmp_eq (tgt := 14) hx hb dX2_line_5 (by decide) (fun c1 => ?_) (fun c1 => ?_)
  · rw [if_pos c1] at hM
    refine lv_aload_n hx hb dX2_line_14 rfl (lv_at hl 0 rfl) ?_
    obtain ⟨i2, ei2, hM⟩ := b_inv hM
    obtain ⟨hi2, hM⟩ := gn_inv hM
    refine va_get (D := D) (ci := 1) (v := (zwv h s.2.2.2.2.1)) (C := RX2) (T := TX2) (N := 11) hx hb hts in_X2 hown hK.1 hP 0 rfl rfl 8 (by decide) (hts _ q234) (fun _ h9 => h9) rfl dX2_line_15 ?_
    refine lv_tor (v := .ref (h.1 i2)) (zwv_some ei2) ?_
    refine lv_astore_n (lv' := [(1, .ref (h.1 i2)), (0, .ref (za 0))]) hx hb dX2_line_18 rfl hl (by decide) rfl (fun ls hl => ?_)
    refine lv_iconst (v := (-1 : Int32)) hx hb dX2_line_19 (by decide) ?_
    refine lv_istore_n (lv' := [(2, .int (-1 : Int32)), (1, .ref (h.1 i2)), (0, .ref (za 0))]) hx hb dX2_line_20 rfl hl (by decide) rfl (fun ls hl => ?_)
    refine lv_aload_n hx hb dX2_line_21 rfl (lv_at hl 1 rfl) ?_
    obtain ⟨h3, hM⟩ := gn_inv hM
    obtain ⟨h4, hM⟩ := gn_inv hM
    have hC_ : [11 + i2, 11 + s.2.2.2.2.2.2.2.2.2.2.2.2.2.2.2.2.2.2.2.2.2.2.2.2.2.2.2.2.1 + i2].map (fun k_ => (zw dA za k9 tx h s)[k_]?) = ([scell (h.1 i2) (h.2.1 i2) (s.2.2.2.2.2.2.2.2.2.2.2.2.2.2.2.2.2.2.2.2.2.2.2.2.2.2.2.2.2.1 i2) (s.2.2.2.2.2.2.2.2.2.2.2.2.2.2.2.2.2.2.2.2.2.2.2.2.2.2.2.2.2.2.1 i2) (h.2.2.1 i2), bcell dA (h.2.1 i2) (s.2.2.2.2.2.2.2.2.2.2.2.2.2.2.2.2.2.2.2.2.2.2.2.2.2.2.2.2.2.1 i2) (s.2.2.2.2.2.2.2.2.2.2.2.2.2.2.2.2.2.2.2.2.2.2.2.2.2.2.2.2.2.2.1 i2)] : va_W).map some := by rw [List.map_cons, List.map_cons, List.map_nil, zw_so h3, zw_sb h3]; rfl
    have hP2 : va_P D clG [scell (h.1 i2) (h.2.1 i2) (s.2.2.2.2.2.2.2.2.2.2.2.2.2.2.2.2.2.2.2.2.2.2.2.2.2.2.2.2.2.1 i2) (s.2.2.2.2.2.2.2.2.2.2.2.2.2.2.2.2.2.2.2.2.2.2.2.2.2.2.2.2.2.2.1 i2) (h.2.2.1 i2), bcell dA (h.2.1 i2) (s.2.2.2.2.2.2.2.2.2.2.2.2.2.2.2.2.2.2.2.2.2.2.2.2.2.2.2.2.2.1 i2) (s.2.2.2.2.2.2.2.2.2.2.2.2.2.2.2.2.2.2.2.2.2.2.2.2.2.2.2.2.2.2.1 i2)] _ := pair_P (hP _ _ (zw_so h3)) (hP _ _ (zw_sb h3))
    have hD2 : va_D A [scell (h.1 i2) (h.2.1 i2) (s.2.2.2.2.2.2.2.2.2.2.2.2.2.2.2.2.2.2.2.2.2.2.2.2.2.2.2.2.2.1 i2) (s.2.2.2.2.2.2.2.2.2.2.2.2.2.2.2.2.2.2.2.2.2.2.2.2.2.2.2.2.2.2.1 i2) (h.2.2.1 i2), bcell dA (h.2.1 i2) (s.2.2.2.2.2.2.2.2.2.2.2.2.2.2.2.2.2.2.2.2.2.2.2.2.2.2.2.2.2.1 i2) (s.2.2.2.2.2.2.2.2.2.2.2.2.2.2.2.2.2.2.2.2.2.2.2.2.2.2.2.2.2.2.1 i2)] := hD.sub [11 + i2, 11 + s.2.2.2.2.2.2.2.2.2.2.2.2.2.2.2.2.2.2.2.2.2.2.2.2.2.2.2.2.1 + i2] (nd2 (by omega)) hC_
    have ok_ := ev_at OK_ok hE.1 hS (w_free hD2 hS hA)
    refine k_i0 [11 + i2, 11 + s.2.2.2.2.2.2.2.2.2.2.2.2.2.2.2.2.2.2.2.2.2.2.2.2.2.2.2.2.1 + i2] (va_runV (As := []) (rest := []) ⟨hx, hb, hml, hown, hts⟩ (ctJ3_hashCode l D dA _ _ _ _ _ _ (by omega)) (cwV 0 hts (lw_V q627 q628 q629 q124 q630) rfl rfl rfl (by decide +kernel) ⟨Nat.le_of_ble_eq_true rfl, Nat.le_of_ble_eq_true rfl⟩) (preX_V OK_ok hP2 hK hD2 ok_ hP2 (ci := 13) (q0 := 0) rfl rfl) rfl rfl hl.1 rfl (lv_room (Nat.le_of_ble_eq_true rfl)) dX2_line_22 ⟨Nat.le_of_ble_eq_true rfl, Nat.le_of_ble_eq_true rfl⟩) hP hD hS hA hC_ (fun _ => rfl) (fun u_ H locs hP hD hS => ?_)
    rw [zw_hash h3] at hP hD
    have hl : lv_has ls 3 [(2, .int (-1 : Int32)), (1, .ref ((zhs h i2).1 i2)), (0, .ref (za 0))] := hl
    by_cases c5 : (hashG (s.2.2.2.2.2.2.2.2.2.2.2.2.2.2.2.2.2.2.2.2.2.2.2.2.2.2.2.2.2.1 i2) (s.2.2.2.2.2.2.2.2.2.2.2.2.2.2.2.2.2.2.2.2.2.2.2.2.2.2.2.2.2.2.1 i2)) = (-991716523 : Int32)
    · rw [if_pos c5] at hM
      refine lv_lookup (off := 73) (tgt := 98) hx hb dX2_line_25 (by decide) (by rw [show ((hashG (s.2.2.2.2.2.2.2.2.2.2.2.2.2.2.2.2.2.2.2.2.2.2.2.2.2.2.2.2.2.1 i2) (s.2.2.2.2.2.2.2.2.2.2.2.2.2.2.2.2.2.2.2.2.2.2.2.2.2.2.2.2.2.2.1 i2))).toInt = -991716523 by rw [c5]; decide]; decide) (by decide) ?_
      refine lv_aload_n hx hb dX2_line_98 rfl (lv_at hl 1 rfl) ?_
      refine va_ldcS hx hb hown (hE.2.2.1 2 (Nat.zero_le _) (by decide)) dX2_line_99 ?_
      obtain ⟨h6, hM⟩ := gn_inv hM
      obtain ⟨h7, hM⟩ := gn_inv hM
      have sw_ := sv_world hts hK hP (zw_so h6) (zw_sb h6) rfl rfl (lt_nil (hP _ _ (zw_so h6)).lt) (lt_nil (hP _ _ (zw_sb h6)).lt)
      have sk_ := ev_at sv_ok (hE.2.1 2 (by decide)) hS (ev_nil hA hS)
      have ok_ := ev_at OK_ok hE.1 hS (ev_nil hA hS)
      have ab_ : (zhs h i2).1 i2 = ka 2 → (eqC (s.2.2.2.2.2.2.2.2.2.2.2.2.2.2.2.2.2.2.2.2.2.2.2.2.2.2.2.2.2.1 i2) (s.2.2.2.2.2.2.2.2.2.2.2.2.2.2.2.2.2.2.2.2.2.2.2.2.2.2.2.2.2.2.1 i2) (klen 2) (kby 2)) = 1 := fun h9 => absurd (hD.2 _ _ (zw_so h6)) (by rw [show (scell ((zhs h i2).1 i2) ((zhs h i2).2.1 i2) (s.2.2.2.2.2.2.2.2.2.2.2.2.2.2.2.2.2.2.2.2.2.2.2.2.2.2.2.2.2.1 i2) (s.2.2.2.2.2.2.2.2.2.2.2.2.2.2.2.2.2.2.2.2.2.2.2.2.2.2.2.2.2.2.1 i2) ((zhs h i2).2.2.1 i2)).1 = ka 2 from h9]; obtain ⟨⟨_, _, _, _, hn9⟩, _⟩ := hE.2.1 2 (by decide); exact hn9)
      refine k_i0 [] (va_runV (As := [.ref (ka 2)]) (rest := []) ⟨hx, hb, hml, hown, hts⟩ (ctJ3_equals l D dA _ _ _ _ _ _ _ _ _ (by omega) (klen_lt _) ab_) (cwV 1 hts (lw_V q681 q682 q683 q124 q684) rfl rfl rfl (by decide +kernel) ⟨Nat.le_of_ble_eq_true rfl, Nat.le_of_ble_eq_true rfl⟩) (preX_O (ev2_ok OK_ok (ev2_ok sv_ok sv_ok)) p_nil hK (A := A) d_nil ⟨ok_, sw_, sk_⟩ sw_.1) rfl rfl hl.1 rfl (lv_room (Nat.le_of_ble_eq_true rfl)) dX2_line_101 ⟨Nat.le_of_ble_eq_true rfl, Nat.le_of_ble_eq_true rfl⟩) hP hD hS hA rfl (fun _ => rfl) (fun u_ H locs hP hD hS => ?_)
      have hP : va_P D clG (zw dA za k9 tx (zhs h i2) s) H := hP
      have hD : va_D A (zw dA za k9 tx (zhs h i2) s) := hD
      refine lv_if_eq (tgt := 165) hx hb dX2_line_104 (by decide) (fun c8 => ?_) (fun c8 => ?_)
      · rw [if_pos c8] at hM
        refine lv_iload_n hx hb dX2_line_165 rfl (lv_at hl 0 rfl) ?_
        refine lv_tableOut (tgt := 246) hx hb dX2_line_166 (by decide) (by decide) ?_
        refine lv_aload_n hx hb dX2_line_246 rfl (lv_at hl 2 rfl) ?_
        refine lv_iconst (v := (1 : Int32)) hx hb dX2_line_247 (by decide) ?_
        have er9 : MX2_fail (1 : Int32) s.2.2.1 = some ((1 : Int32), s.2.2.1) := rfl
        refine k_r0 [0, 1] (va_runV (As := [.int (1 : Int32)]) (rest := []) ⟨hx, hb, hml, hown, hts⟩ (ctX2_fail l D dA _ (za 0) (za 1) (1 : Int32) k9.1 s.1 s.2.1 s.2.2.1 s.2.2.2.1 0 k9.2.1 k9.2.2 (.ref (za 2)) (.ref (za 3)) (zwv (zhs h i2) s.2.2.2.2.1) (.ref (za 4)) (zav (zhs h i2) s.2.2.2.2.2.1) .null .null .null .null .null _ er9) (cwV 1 hts (lw_V q619 q621 qs7 q114 q622) rfl rfl rfl (by decide +kernel) ⟨Nat.le_of_ble_eq_true rfl, Nat.le_of_ble_eq_true rfl⟩) (pre_V (hP.sub [0, 1] rfl) hK (hD.sub [0, 1] (by decide) rfl) (ci := 1) (q0 := 0) rfl rfl) rfl rfl hl.1 rfl (lv_room (Nat.le_of_ble_eq_true rfl)) dX2_line_248 ⟨Nat.le_of_ble_eq_true rfl, Nat.le_of_ble_eq_true rfl⟩) hP hD hS hA rfl (fun _ => rfl) (fun u10 H locs hP hD hS => ?_)
        have hP : va_P D clG (zw dA za (k9.1, (1 : Int32), s.2.2.1) tx (zhs h i2) s) H := hP
        have hD : va_D A (zw dA za (k9.1, (1 : Int32), s.2.2.1) tx (zhs h i2) s) := hD
        have hM := Sum.inl.inj (Option.some.inj hM)
        subst hM
        exact z_throw hx hb dX2_line_251 hK hP hD hS hout hlocks rfl (Nat.le_of_ble_eq_true rfl) (Nat.le_of_ble_eq_true rfl)
      · rw [if_neg c8] at hM
        refine lv_iconst (v := (1 : Int32)) hx hb dX2_line_107 (by decide) ?_
        refine lv_istore_n (lv' := [(2, .int (1 : Int32)), (1, .ref ((zhs h i2).1 i2)), (0, .ref (za 0))]) hx hb dX2_line_108 rfl hl (by decide) rfl (fun ls hl => ?_)
        have hl := lv_sub (l' := [(2, .int (1 : Int32)), (0, .ref (za 0))]) hl [0, 2] rfl
        refine lv_goto (tgt := 165) hx hb dX2_line_109 (by decide) ?_
        refine lv_iload_n hx hb dX2_line_165 rfl (lv_at hl 0 rfl) ?_
        refine lv_tableIn (off := 45) (tgt := 211) hx hb dX2_line_166 (by decide) (by decide) rfl (by decide) ?_
        refine lv_aload_n hx hb dX2_line_211 rfl (lv_at hl 1 rfl) ?_
        obtain ⟨r11_, er11, hM⟩ := b_inv hM
        cases r11_ with
        | inl e9 =>
          dsimp only at hM
          have hM := Sum.inl.inj (Option.some.inj hM)
          subst hM
          exact z_err (vy_runV (As := []) (rest := []) ⟨hx, hb, hml, hown, hts⟩ (ceZ_personLine l D dA _ za (zhs h i2) tx k9 ka kv s e9 er11 ) (cwV 0 hts (lw_V q712 q714 qs12 q114 q715) rfl rfl rfl (by decide +kernel) ⟨Nat.le_of_ble_eq_true rfl, Nat.le_of_ble_eq_true rfl⟩) (preX_V ZE_ok hP hK hD (ev_at ZE_ok hE hS (w_free hD hS hA)) hP (ci := 1) (q0 := 0) rfl rfl) rfl rfl hl.1 rfl (lv_room (Nat.le_of_ble_eq_true rfl)) dX2_line_212 ⟨Nat.le_of_ble_eq_true rfl, Nat.le_of_ble_eq_true rfl⟩) hD hS hA hout hlocks (Nat.le_of_ble_eq_true rfl) (Nat.le_of_ble_eq_true rfl)
        | inr r11 =>
          dsimp only at hM
          refine k_w (va_runV (As := []) (rest := []) ⟨hx, hb, hml, hown, hts⟩ (ctZ_personLine l D dA _ za (zhs h i2) tx k9 ka kv s r11 er11 ) (cwV 0 hts (lw_V q712 q714 qs12 q114 q715) rfl rfl rfl (by decide +kernel) ⟨Nat.le_of_ble_eq_true rfl, Nat.le_of_ble_eq_true rfl⟩) (preX_V ZE_ok hP hK hD (ev_at ZE_ok hE hS (w_free hD hS hA)) hP (ci := 1) (q0 := 0) rfl rfl) rfl rfl hl.1 rfl (lv_room (Nat.le_of_ble_eq_true rfl)) dX2_line_212 ⟨Nat.le_of_ble_eq_true rfl, Nat.le_of_ble_eq_true rfl⟩) hD hS hA (fun u12 H locs x13 hP hD hS => ?_)
          refine W.widen (k := 21) (n := 127) (Nat.le_of_ble_eq_true rfl) (Nat.le_of_ble_eq_true rfl) ?_
          refine W.eq (g2 := F0 m 215 ls []) (by first | rfl | (rfl; rfl) | (rfl) | (simp only [*]; rfl) | simp only [*]) ?_
          refine lv_goto (tgt := 252) hx hb dX2_line_215 (by decide) ?_
          cases hM
    · rw [if_neg c5] at hM
      by_cases c14 : (hashG (s.2.2.2.2.2.2.2.2.2.2.2.2.2.2.2.2.2.2.2.2.2.2.2.2.2.2.2.2.2.1 i2) (s.2.2.2.2.2.2.2.2.2.2.2.2.2.2.2.2.2.2.2.2.2.2.2.2.2.2.2.2.2.2.1 i2)) = (3053931 : Int32)
      · rw [if_pos c14] at hM
        refine lv_lookup (off := 59) (tgt := 84) hx hb dX2_line_25 (by decide) (by rw [show ((hashG (s.2.2.2.2.2.2.2.2.2.2.2.2.2.2.2.2.2.2.2.2.2.2.2.2.2.2.2.2.2.1 i2) (s.2.2.2.2.2.2.2.2.2.2.2.2.2.2.2.2.2.2.2.2.2.2.2.2.2.2.2.2.2.2.1 i2))).toInt = 3053931 by rw [c14]; decide]; decide) (by decide) ?_
        refine lv_aload_n hx hb dX2_line_84 rfl (lv_at hl 1 rfl) ?_
        refine va_ldcS hx hb hown (hE.2.2.1 1 (Nat.zero_le _) (by decide)) dX2_line_85 ?_
        obtain ⟨h15, hM⟩ := gn_inv hM
        obtain ⟨h16, hM⟩ := gn_inv hM
        have sw_ := sv_world hts hK hP (zw_so h15) (zw_sb h15) rfl rfl (lt_nil (hP _ _ (zw_so h15)).lt) (lt_nil (hP _ _ (zw_sb h15)).lt)
        have sk_ := ev_at sv_ok (hE.2.1 1 (by decide)) hS (ev_nil hA hS)
        have ok_ := ev_at OK_ok hE.1 hS (ev_nil hA hS)
        have ab_ : (zhs h i2).1 i2 = ka 1 → (eqC (s.2.2.2.2.2.2.2.2.2.2.2.2.2.2.2.2.2.2.2.2.2.2.2.2.2.2.2.2.2.1 i2) (s.2.2.2.2.2.2.2.2.2.2.2.2.2.2.2.2.2.2.2.2.2.2.2.2.2.2.2.2.2.2.1 i2) (klen 1) (kby 1)) = 1 := fun h9 => absurd (hD.2 _ _ (zw_so h15)) (by rw [show (scell ((zhs h i2).1 i2) ((zhs h i2).2.1 i2) (s.2.2.2.2.2.2.2.2.2.2.2.2.2.2.2.2.2.2.2.2.2.2.2.2.2.2.2.2.2.1 i2) (s.2.2.2.2.2.2.2.2.2.2.2.2.2.2.2.2.2.2.2.2.2.2.2.2.2.2.2.2.2.2.1 i2) ((zhs h i2).2.2.1 i2)).1 = ka 1 from h9]; obtain ⟨⟨_, _, _, _, hn9⟩, _⟩ := hE.2.1 1 (by decide); exact hn9)
        refine k_i0 [] (va_runV (As := [.ref (ka 1)]) (rest := []) ⟨hx, hb, hml, hown, hts⟩ (ctJ3_equals l D dA _ _ _ _ _ _ _ _ _ (by omega) (klen_lt _) ab_) (cwV 1 hts (lw_V q681 q682 q683 q124 q684) rfl rfl rfl (by decide +kernel) ⟨Nat.le_of_ble_eq_true rfl, Nat.le_of_ble_eq_true rfl⟩) (preX_O (ev2_ok OK_ok (ev2_ok sv_ok sv_ok)) p_nil hK (A := A) d_nil ⟨ok_, sw_, sk_⟩ sw_.1) rfl rfl hl.1 rfl (lv_room (Nat.le_of_ble_eq_true rfl)) dX2_line_87 ⟨Nat.le_of_ble_eq_true rfl, Nat.le_of_ble_eq_true rfl⟩) hP hD hS hA rfl (fun _ => rfl) (fun u_ H locs hP hD hS => ?_)
        have hP : va_P D clG (zw dA za k9 tx (zhs h i2) s) H := hP
        have hD : va_D A (zw dA za k9 tx (zhs h i2) s) := hD
        refine lv_if_eq (tgt := 165) hx hb dX2_line_90 (by decide) (fun c17 => ?_) (fun c17 => ?_)
        · rw [if_pos c17] at hM
          refine lv_iload_n hx hb dX2_line_165 rfl (lv_at hl 0 rfl) ?_
          refine lv_tableOut (tgt := 246) hx hb dX2_line_166 (by decide) (by decide) ?_
          refine lv_aload_n hx hb dX2_line_246 rfl (lv_at hl 2 rfl) ?_
          refine lv_iconst (v := (1 : Int32)) hx hb dX2_line_247 (by decide) ?_
          have er18 : MX2_fail (1 : Int32) s.2.2.1 = some ((1 : Int32), s.2.2.1) := rfl
          refine k_r0 [0, 1] (va_runV (As := [.int (1 : Int32)]) (rest := []) ⟨hx, hb, hml, hown, hts⟩ (ctX2_fail l D dA _ (za 0) (za 1) (1 : Int32) k9.1 s.1 s.2.1 s.2.2.1 s.2.2.2.1 0 k9.2.1 k9.2.2 (.ref (za 2)) (.ref (za 3)) (zwv (zhs h i2) s.2.2.2.2.1) (.ref (za 4)) (zav (zhs h i2) s.2.2.2.2.2.1) .null .null .null .null .null _ er18) (cwV 1 hts (lw_V q619 q621 qs7 q114 q622) rfl rfl rfl (by decide +kernel) ⟨Nat.le_of_ble_eq_true rfl, Nat.le_of_ble_eq_true rfl⟩) (pre_V (hP.sub [0, 1] rfl) hK (hD.sub [0, 1] (by decide) rfl) (ci := 1) (q0 := 0) rfl rfl) rfl rfl hl.1 rfl (lv_room (Nat.le_of_ble_eq_true rfl)) dX2_line_248 ⟨Nat.le_of_ble_eq_true rfl, Nat.le_of_ble_eq_true rfl⟩) hP hD hS hA rfl (fun _ => rfl) (fun u19 H locs hP hD hS => ?_)
          have hP : va_P D clG (zw dA za (k9.1, (1 : Int32), s.2.2.1) tx (zhs h i2) s) H := hP
          have hD : va_D A (zw dA za (k9.1, (1 : Int32), s.2.2.1) tx (zhs h i2) s) := hD
          have hM := Sum.inl.inj (Option.some.inj hM)
          subst hM
          exact z_throw hx hb dX2_line_251 hK hP hD hS hout hlocks rfl (Nat.le_of_ble_eq_true rfl) (Nat.le_of_ble_eq_true rfl)
        · rw [if_neg c17] at hM
          refine lv_iconst (v := (0 : Int32)) hx hb dX2_line_93 (by decide) ?_
          refine lv_istore_n (lv' := [(2, .int (0 : Int32)), (1, .ref ((zhs h i2).1 i2)), (0, .ref (za 0))]) hx hb dX2_line_94 rfl hl (by decide) rfl (fun ls hl => ?_)
          have hl := lv_sub (l' := [(2, .int (0 : Int32)), (0, .ref (za 0))]) hl [0, 2] rfl
          refine lv_goto (tgt := 165) hx hb dX2_line_95 (by decide) ?_
          refine lv_iload_n hx hb dX2_line_165 rfl (lv_at hl 0 rfl) ?_
          refine lv_tableIn (off := 38) (tgt := 204) hx hb dX2_line_166 (by decide) (by decide) rfl (by decide) ?_
          refine lv_aload_n hx hb dX2_line_204 rfl (lv_at hl 1 rfl) ?_
          obtain ⟨r20_, er20, hM⟩ := b_inv hM
          cases r20_ with
          | inl e9 =>
            dsimp only at hM
            have hM := Sum.inl.inj (Option.some.inj hM)
            subst hM
            exact z_err (vy_runV (As := []) (rest := []) ⟨hx, hb, hml, hown, hts⟩ (ceZ_cityLine l D dA _ za (zhs h i2) tx k9 ka kv s e9 er20 ) (cwV 0 hts (lw_V q694 q696 qs8 q114 q697) rfl rfl rfl (by decide +kernel) ⟨Nat.le_of_ble_eq_true rfl, Nat.le_of_ble_eq_true rfl⟩) (preX_V ZE_ok hP hK hD (ev_at ZE_ok hE hS (w_free hD hS hA)) hP (ci := 1) (q0 := 0) rfl rfl) rfl rfl hl.1 rfl (lv_room (Nat.le_of_ble_eq_true rfl)) dX2_line_205 ⟨Nat.le_of_ble_eq_true rfl, Nat.le_of_ble_eq_true rfl⟩) hD hS hA hout hlocks (Nat.le_of_ble_eq_true rfl) (Nat.le_of_ble_eq_true rfl)
          | inr r20 =>
            dsimp only at hM
            refine k_w (va_runV (As := []) (rest := []) ⟨hx, hb, hml, hown, hts⟩ (ctZ_cityLine l D dA _ za (zhs h i2) tx k9 ka kv s r20 er20 ) (cwV 0 hts (lw_V q694 q696 qs8 q114 q697) rfl rfl rfl (by decide +kernel) ⟨Nat.le_of_ble_eq_true rfl, Nat.le_of_ble_eq_true rfl⟩) (preX_V ZE_ok hP hK hD (ev_at ZE_ok hE hS (w_free hD hS hA)) hP (ci := 1) (q0 := 0) rfl rfl) rfl rfl hl.1 rfl (lv_room (Nat.le_of_ble_eq_true rfl)) dX2_line_205 ⟨Nat.le_of_ble_eq_true rfl, Nat.le_of_ble_eq_true rfl⟩) hD hS hA (fun u21 H locs x22 hP hD hS => ?_)
            refine W.widen (k := 10) (n := 60) (Nat.le_of_ble_eq_true rfl) (Nat.le_of_ble_eq_true rfl) ?_
            refine W.eq (g2 := F0 m 208 ls []) (by first | rfl | (rfl; rfl) | (rfl) | (simp only [*]; rfl) | simp only [*]) ?_
            refine lv_goto (tgt := 252) hx hb dX2_line_208 (by decide) ?_
            cases hM
      · rw [if_neg c14] at hM
        by_cases c23 : (hashG (s.2.2.2.2.2.2.2.2.2.2.2.2.2.2.2.2.2.2.2.2.2.2.2.2.2.2.2.2.2.1 i2) (s.2.2.2.2.2.2.2.2.2.2.2.2.2.2.2.2.2.2.2.2.2.2.2.2.2.2.2.2.2.2.1 i2)) = (3377192 : Int32)
        · rw [if_pos c23] at hM
          refine lv_lookup (off := 87) (tgt := 112) hx hb dX2_line_25 (by decide) (by rw [show ((hashG (s.2.2.2.2.2.2.2.2.2.2.2.2.2.2.2.2.2.2.2.2.2.2.2.2.2.2.2.2.2.1 i2) (s.2.2.2.2.2.2.2.2.2.2.2.2.2.2.2.2.2.2.2.2.2.2.2.2.2.2.2.2.2.2.1 i2))).toInt = 3377192 by rw [c23]; decide]; decide) (by decide) ?_
          refine lv_aload_n hx hb dX2_line_112 rfl (lv_at hl 1 rfl) ?_
          refine va_ldcS hx hb hown (hE.2.2.1 3 (Nat.zero_le _) (by decide)) dX2_line_113 ?_
          obtain ⟨h24, hM⟩ := gn_inv hM
          obtain ⟨h25, hM⟩ := gn_inv hM
          have sw_ := sv_world hts hK hP (zw_so h24) (zw_sb h24) rfl rfl (lt_nil (hP _ _ (zw_so h24)).lt) (lt_nil (hP _ _ (zw_sb h24)).lt)
          have sk_ := ev_at sv_ok (hE.2.1 3 (by decide)) hS (ev_nil hA hS)
          have ok_ := ev_at OK_ok hE.1 hS (ev_nil hA hS)
          have ab_ : (zhs h i2).1 i2 = ka 3 → (eqC (s.2.2.2.2.2.2.2.2.2.2.2.2.2.2.2.2.2.2.2.2.2.2.2.2.2.2.2.2.2.1 i2) (s.2.2.2.2.2.2.2.2.2.2.2.2.2.2.2.2.2.2.2.2.2.2.2.2.2.2.2.2.2.2.1 i2) (klen 3) (kby 3)) = 1 := fun h9 => absurd (hD.2 _ _ (zw_so h24)) (by rw [show (scell ((zhs h i2).1 i2) ((zhs h i2).2.1 i2) (s.2.2.2.2.2.2.2.2.2.2.2.2.2.2.2.2.2.2.2.2.2.2.2.2.2.2.2.2.2.1 i2) (s.2.2.2.2.2.2.2.2.2.2.2.2.2.2.2.2.2.2.2.2.2.2.2.2.2.2.2.2.2.2.1 i2) ((zhs h i2).2.2.1 i2)).1 = ka 3 from h9]; obtain ⟨⟨_, _, _, _, hn9⟩, _⟩ := hE.2.1 3 (by decide); exact hn9)
          refine k_i0 [] (va_runV (As := [.ref (ka 3)]) (rest := []) ⟨hx, hb, hml, hown, hts⟩ (ctJ3_equals l D dA _ _ _ _ _ _ _ _ _ (by omega) (klen_lt _) ab_) (cwV 1 hts (lw_V q681 q682 q683 q124 q684) rfl rfl rfl (by decide +kernel) ⟨Nat.le_of_ble_eq_true rfl, Nat.le_of_ble_eq_true rfl⟩) (preX_O (ev2_ok OK_ok (ev2_ok sv_ok sv_ok)) p_nil hK (A := A) d_nil ⟨ok_, sw_, sk_⟩ sw_.1) rfl rfl hl.1 rfl (lv_room (Nat.le_of_ble_eq_true rfl)) dX2_line_115 ⟨Nat.le_of_ble_eq_true rfl, Nat.le_of_ble_eq_true rfl⟩) hP hD hS hA rfl (fun _ => rfl) (fun u_ H locs hP hD hS => ?_)
          have hP : va_P D clG (zw dA za k9 tx (zhs h i2) s) H := hP
          have hD : va_D A (zw dA za k9 tx (zhs h i2) s) := hD
          refine lv_if_eq (tgt := 165) hx hb dX2_line_118 (by decide) (fun c26 => ?_) (fun c26 => ?_)
          · rw [if_pos c26] at hM
            refine lv_iload_n hx hb dX2_line_165 rfl (lv_at hl 0 rfl) ?_
            refine lv_tableOut (tgt := 246) hx hb dX2_line_166 (by decide) (by decide) ?_
            refine lv_aload_n hx hb dX2_line_246 rfl (lv_at hl 2 rfl) ?_
            refine lv_iconst (v := (1 : Int32)) hx hb dX2_line_247 (by decide) ?_
            have er27 : MX2_fail (1 : Int32) s.2.2.1 = some ((1 : Int32), s.2.2.1) := rfl
            refine k_r0 [0, 1] (va_runV (As := [.int (1 : Int32)]) (rest := []) ⟨hx, hb, hml, hown, hts⟩ (ctX2_fail l D dA _ (za 0) (za 1) (1 : Int32) k9.1 s.1 s.2.1 s.2.2.1 s.2.2.2.1 0 k9.2.1 k9.2.2 (.ref (za 2)) (.ref (za 3)) (zwv (zhs h i2) s.2.2.2.2.1) (.ref (za 4)) (zav (zhs h i2) s.2.2.2.2.2.1) .null .null .null .null .null _ er27) (cwV 1 hts (lw_V q619 q621 qs7 q114 q622) rfl rfl rfl (by decide +kernel) ⟨Nat.le_of_ble_eq_true rfl, Nat.le_of_ble_eq_true rfl⟩) (pre_V (hP.sub [0, 1] rfl) hK (hD.sub [0, 1] (by decide) rfl) (ci := 1) (q0 := 0) rfl rfl) rfl rfl hl.1 rfl (lv_room (Nat.le_of_ble_eq_true rfl)) dX2_line_248 ⟨Nat.le_of_ble_eq_true rfl, Nat.le_of_ble_eq_true rfl⟩) hP hD hS hA rfl (fun _ => rfl) (fun u28 H locs hP hD hS => ?_)
            have hP : va_P D clG (zw dA za (k9.1, (1 : Int32), s.2.2.1) tx (zhs h i2) s) H := hP
            have hD : va_D A (zw dA za (k9.1, (1 : Int32), s.2.2.1) tx (zhs h i2) s) := hD
            have hM := Sum.inl.inj (Option.some.inj hM)
            subst hM
            exact z_throw hx hb dX2_line_251 hK hP hD hS hout hlocks rfl (Nat.le_of_ble_eq_true rfl) (Nat.le_of_ble_eq_true rfl)
          · rw [if_neg c26] at hM
            refine lv_iconst (v := (2 : Int32)) hx hb dX2_line_121 (by decide) ?_
            refine lv_istore_n (lv' := [(2, .int (2 : Int32)), (1, .ref ((zhs h i2).1 i2)), (0, .ref (za 0))]) hx hb dX2_line_122 rfl hl (by decide) rfl (fun ls hl => ?_)
            have hl := lv_sub (l' := [(2, .int (2 : Int32)), (0, .ref (za 0))]) hl [0, 2] rfl
            refine lv_goto (tgt := 165) hx hb dX2_line_123 (by decide) ?_
            refine lv_iload_n hx hb dX2_line_165 rfl (lv_at hl 0 rfl) ?_
            refine lv_tableIn (off := 52) (tgt := 218) hx hb dX2_line_166 (by decide) (by decide) rfl (by decide) ?_
            refine lv_aload_n hx hb dX2_line_218 rfl (lv_at hl 1 rfl) ?_
            obtain ⟨r29_, er29, hM⟩ := b_inv hM
            cases r29_ with
            | inl e9 =>
              dsimp only at hM
              have hM := Sum.inl.inj (Option.some.inj hM)
              subst hM
              exact z_err (vy_runV (As := []) (rest := []) ⟨hx, hb, hml, hown, hts⟩ (ceZ_nearLine l D dA _ za (zhs h i2) tx k9 ka kv s e9 er29 ) (cwV 0 hts (lw_V q829 q831 qs17 q114 q832) rfl rfl rfl (by decide +kernel) ⟨Nat.le_of_ble_eq_true rfl, Nat.le_of_ble_eq_true rfl⟩) (preX_V ZE_ok hP hK hD (ev_at ZE_ok hE hS (w_free hD hS hA)) hP (ci := 1) (q0 := 0) rfl rfl) rfl rfl hl.1 rfl (lv_room (Nat.le_of_ble_eq_true rfl)) dX2_line_219 ⟨Nat.le_of_ble_eq_true rfl, Nat.le_of_ble_eq_true rfl⟩) hD hS hA hout hlocks (Nat.le_of_ble_eq_true rfl) (Nat.le_of_ble_eq_true rfl)
            | inr r29 =>
              dsimp only at hM
              refine k_w (va_runV (As := []) (rest := []) ⟨hx, hb, hml, hown, hts⟩ (ctZ_nearLine l D dA _ za (zhs h i2) tx k9 ka kv s r29 er29 ) (cwV 0 hts (lw_V q829 q831 qs17 q114 q832) rfl rfl rfl (by decide +kernel) ⟨Nat.le_of_ble_eq_true rfl, Nat.le_of_ble_eq_true rfl⟩) (preX_V ZE_ok hP hK hD (ev_at ZE_ok hE hS (w_free hD hS hA)) hP (ci := 1) (q0 := 0) rfl rfl) rfl rfl hl.1 rfl (lv_room (Nat.le_of_ble_eq_true rfl)) dX2_line_219 ⟨Nat.le_of_ble_eq_true rfl, Nat.le_of_ble_eq_true rfl⟩) hD hS hA (fun u30 H locs x31 hP hD hS => ?_)
              refine W.widen (k := 6) (n := 36) (Nat.le_of_ble_eq_true rfl) (Nat.le_of_ble_eq_true rfl) ?_
              refine W.eq (g2 := F0 m 222 ls []) (by first | rfl | (rfl; rfl) | (rfl) | (simp only [*]; rfl) | simp only [*]) ?_
              refine lv_goto (tgt := 252) hx hb dX2_line_222 (by decide) ?_
              cases hM
        · rw [if_neg c23] at hM
          by_cases c32 : (hashG (s.2.2.2.2.2.2.2.2.2.2.2.2.2.2.2.2.2.2.2.2.2.2.2.2.2.2.2.2.2.1 i2) (s.2.2.2.2.2.2.2.2.2.2.2.2.2.2.2.2.2.2.2.2.2.2.2.2.2.2.2.2.2.2.1 i2)) = (3645716 : Int32)
          · rw [if_pos c32] at hM
            refine lv_lookup (off := 129) (tgt := 154) hx hb dX2_line_25 (by decide) (by rw [show ((hashG (s.2.2.2.2.2.2.2.2.2.2.2.2.2.2.2.2.2.2.2.2.2.2.2.2.2.2.2.2.2.1 i2) (s.2.2.2.2.2.2.2.2.2.2.2.2.2.2.2.2.2.2.2.2.2.2.2.2.2.2.2.2.2.2.1 i2))).toInt = 3645716 by rw [c32]; decide]; decide) (by decide) ?_
            refine lv_aload_n hx hb dX2_line_154 rfl (lv_at hl 1 rfl) ?_
            refine va_ldcS hx hb hown (hE.2.2.1 6 (Nat.zero_le _) (by decide)) dX2_line_155 ?_
            obtain ⟨h33, hM⟩ := gn_inv hM
            obtain ⟨h34, hM⟩ := gn_inv hM
            have sw_ := sv_world hts hK hP (zw_so h33) (zw_sb h33) rfl rfl (lt_nil (hP _ _ (zw_so h33)).lt) (lt_nil (hP _ _ (zw_sb h33)).lt)
            have sk_ := ev_at sv_ok (hE.2.1 6 (by decide)) hS (ev_nil hA hS)
            have ok_ := ev_at OK_ok hE.1 hS (ev_nil hA hS)
            have ab_ : (zhs h i2).1 i2 = ka 6 → (eqC (s.2.2.2.2.2.2.2.2.2.2.2.2.2.2.2.2.2.2.2.2.2.2.2.2.2.2.2.2.2.1 i2) (s.2.2.2.2.2.2.2.2.2.2.2.2.2.2.2.2.2.2.2.2.2.2.2.2.2.2.2.2.2.2.1 i2) (klen 6) (kby 6)) = 1 := fun h9 => absurd (hD.2 _ _ (zw_so h33)) (by rw [show (scell ((zhs h i2).1 i2) ((zhs h i2).2.1 i2) (s.2.2.2.2.2.2.2.2.2.2.2.2.2.2.2.2.2.2.2.2.2.2.2.2.2.2.2.2.2.1 i2) (s.2.2.2.2.2.2.2.2.2.2.2.2.2.2.2.2.2.2.2.2.2.2.2.2.2.2.2.2.2.2.1 i2) ((zhs h i2).2.2.1 i2)).1 = ka 6 from h9]; obtain ⟨⟨_, _, _, _, hn9⟩, _⟩ := hE.2.1 6 (by decide); exact hn9)
            refine k_i0 [] (va_runV (As := [.ref (ka 6)]) (rest := []) ⟨hx, hb, hml, hown, hts⟩ (ctJ3_equals l D dA _ _ _ _ _ _ _ _ _ (by omega) (klen_lt _) ab_) (cwV 1 hts (lw_V q681 q682 q683 q124 q684) rfl rfl rfl (by decide +kernel) ⟨Nat.le_of_ble_eq_true rfl, Nat.le_of_ble_eq_true rfl⟩) (preX_O (ev2_ok OK_ok (ev2_ok sv_ok sv_ok)) p_nil hK (A := A) d_nil ⟨ok_, sw_, sk_⟩ sw_.1) rfl rfl hl.1 rfl (lv_room (Nat.le_of_ble_eq_true rfl)) dX2_line_157 ⟨Nat.le_of_ble_eq_true rfl, Nat.le_of_ble_eq_true rfl⟩) hP hD hS hA rfl (fun _ => rfl) (fun u_ H locs hP hD hS => ?_)
            have hP : va_P D clG (zw dA za k9 tx (zhs h i2) s) H := hP
            have hD : va_D A (zw dA za k9 tx (zhs h i2) s) := hD
            refine lv_if_eq (tgt := 165) hx hb dX2_line_160 (by decide) (fun c35 => ?_) (fun c35 => ?_)
            · rw [if_pos c35] at hM
              refine lv_iload_n hx hb dX2_line_165 rfl (lv_at hl 0 rfl) ?_
              refine lv_tableOut (tgt := 246) hx hb dX2_line_166 (by decide) (by decide) ?_
              refine lv_aload_n hx hb dX2_line_246 rfl (lv_at hl 2 rfl) ?_
              refine lv_iconst (v := (1 : Int32)) hx hb dX2_line_247 (by decide) ?_
              have er36 : MX2_fail (1 : Int32) s.2.2.1 = some ((1 : Int32), s.2.2.1) := rfl
              refine k_r0 [0, 1] (va_runV (As := [.int (1 : Int32)]) (rest := []) ⟨hx, hb, hml, hown, hts⟩ (ctX2_fail l D dA _ (za 0) (za 1) (1 : Int32) k9.1 s.1 s.2.1 s.2.2.1 s.2.2.2.1 0 k9.2.1 k9.2.2 (.ref (za 2)) (.ref (za 3)) (zwv (zhs h i2) s.2.2.2.2.1) (.ref (za 4)) (zav (zhs h i2) s.2.2.2.2.2.1) .null .null .null .null .null _ er36) (cwV 1 hts (lw_V q619 q621 qs7 q114 q622) rfl rfl rfl (by decide +kernel) ⟨Nat.le_of_ble_eq_true rfl, Nat.le_of_ble_eq_true rfl⟩) (pre_V (hP.sub [0, 1] rfl) hK (hD.sub [0, 1] (by decide) rfl) (ci := 1) (q0 := 0) rfl rfl) rfl rfl hl.1 rfl (lv_room (Nat.le_of_ble_eq_true rfl)) dX2_line_248 ⟨Nat.le_of_ble_eq_true rfl, Nat.le_of_ble_eq_true rfl⟩) hP hD hS hA rfl (fun _ => rfl) (fun u37 H locs hP hD hS => ?_)
              have hP : va_P D clG (zw dA za (k9.1, (1 : Int32), s.2.2.1) tx (zhs h i2) s) H := hP
              have hD : va_D A (zw dA za (k9.1, (1 : Int32), s.2.2.1) tx (zhs h i2) s) := hD
              have hM := Sum.inl.inj (Option.some.inj hM)
              subst hM
              exact z_throw hx hb dX2_line_251 hK hP hD hS hout hlocks rfl (Nat.le_of_ble_eq_true rfl) (Nat.le_of_ble_eq_true rfl)
            · rw [if_neg c35] at hM
              refine lv_iconst (v := (5 : Int32)) hx hb dX2_line_163 (by decide) ?_
              refine lv_istore_n (lv' := [(2, .int (5 : Int32)), (1, .ref ((zhs h i2).1 i2)), (0, .ref (za 0))]) hx hb dX2_line_164 rfl hl (by decide) rfl (fun ls hl => ?_)
              have hl := lv_sub (l' := [(2, .int (5 : Int32)), (0, .ref (za 0))]) hl [0, 2] rfl
              refine lv_iload_n hx hb dX2_line_165 rfl (lv_at hl 0 rfl) ?_
              refine lv_tableIn (off := 73) (tgt := 239) hx hb dX2_line_166 (by decide) (by decide) rfl (by decide) ?_
              refine lv_aload_n hx hb dX2_line_239 rfl (lv_at hl 1 rfl) ?_
              obtain ⟨r38_, er38, hM⟩ := b_inv hM
              cases r38_ with
              | inl e9 =>
                dsimp only at hM
                have hM := Sum.inl.inj (Option.some.inj hM)
                subst hM
                exact z_err (vy_runV (As := []) (rest := []) ⟨hx, hb, hml, hown, hts⟩ (ceZ_wentLine l D dA _ za (zhs h i2) tx k9 ka kv s e9 er38 ) (cwV 0 hts (lw_V q886 q888 qs23 q114 q889) rfl rfl rfl (by decide +kernel) ⟨Nat.le_of_ble_eq_true rfl, Nat.le_of_ble_eq_true rfl⟩) (preX_V ZE_ok hP hK hD (ev_at ZE_ok hE hS (w_free hD hS hA)) hP (ci := 1) (q0 := 0) rfl rfl) rfl rfl hl.1 rfl (lv_room (Nat.le_of_ble_eq_true rfl)) dX2_line_240 ⟨Nat.le_of_ble_eq_true rfl, Nat.le_of_ble_eq_true rfl⟩) hD hS hA hout hlocks (Nat.le_of_ble_eq_true rfl) (Nat.le_of_ble_eq_true rfl)
              | inr r38 =>
                dsimp only at hM
                refine k_w (va_runV (As := []) (rest := []) ⟨hx, hb, hml, hown, hts⟩ (ctZ_wentLine l D dA _ za (zhs h i2) tx k9 ka kv s r38 er38 ) (cwV 0 hts (lw_V q886 q888 qs23 q114 q889) rfl rfl rfl (by decide +kernel) ⟨Nat.le_of_ble_eq_true rfl, Nat.le_of_ble_eq_true rfl⟩) (preX_V ZE_ok hP hK hD (ev_at ZE_ok hE hS (w_free hD hS hA)) hP (ci := 1) (q0 := 0) rfl rfl) rfl rfl hl.1 rfl (lv_room (Nat.le_of_ble_eq_true rfl)) dX2_line_240 ⟨Nat.le_of_ble_eq_true rfl, Nat.le_of_ble_eq_true rfl⟩) hD hS hA (fun u39 H locs x40 hP hD hS => ?_)
                refine W.widen (k := 8) (n := 48) (Nat.le_of_ble_eq_true rfl) (Nat.le_of_ble_eq_true rfl) ?_
                refine W.eq (g2 := F0 m 243 ls []) (by first | rfl | (rfl; rfl) | (rfl) | (simp only [*]; rfl) | simp only [*]) ?_
                refine lv_goto (tgt := 252) hx hb dX2_line_243 (by decide) ?_
                cases hM
          · rw [if_neg c32] at hM
            by_cases c41 : (hashG (s.2.2.2.2.2.2.2.2.2.2.2.2.2.2.2.2.2.2.2.2.2.2.2.2.2.2.2.2.2.1 i2) (s.2.2.2.2.2.2.2.2.2.2.2.2.2.2.2.2.2.2.2.2.2.2.2.2.2.2.2.2.2.2.1 i2)) = (93113560 : Int32)
            · rw [if_pos c41] at hM
              refine lv_lookup (off := 101) (tgt := 126) hx hb dX2_line_25 (by decide) (by rw [show ((hashG (s.2.2.2.2.2.2.2.2.2.2.2.2.2.2.2.2.2.2.2.2.2.2.2.2.2.2.2.2.2.1 i2) (s.2.2.2.2.2.2.2.2.2.2.2.2.2.2.2.2.2.2.2.2.2.2.2.2.2.2.2.2.2.2.1 i2))).toInt = 93113560 by rw [c41]; decide]; decide) (by decide) ?_
              refine lv_aload_n hx hb dX2_line_126 rfl (lv_at hl 1 rfl) ?_
              refine va_ldcS hx hb hown (hE.2.2.1 4 (Nat.zero_le _) (by decide)) dX2_line_127 ?_
              obtain ⟨h42, hM⟩ := gn_inv hM
              obtain ⟨h43, hM⟩ := gn_inv hM
              have sw_ := sv_world hts hK hP (zw_so h42) (zw_sb h42) rfl rfl (lt_nil (hP _ _ (zw_so h42)).lt) (lt_nil (hP _ _ (zw_sb h42)).lt)
              have sk_ := ev_at sv_ok (hE.2.1 4 (by decide)) hS (ev_nil hA hS)
              have ok_ := ev_at OK_ok hE.1 hS (ev_nil hA hS)
              have ab_ : (zhs h i2).1 i2 = ka 4 → (eqC (s.2.2.2.2.2.2.2.2.2.2.2.2.2.2.2.2.2.2.2.2.2.2.2.2.2.2.2.2.2.1 i2) (s.2.2.2.2.2.2.2.2.2.2.2.2.2.2.2.2.2.2.2.2.2.2.2.2.2.2.2.2.2.2.1 i2) (klen 4) (kby 4)) = 1 := fun h9 => absurd (hD.2 _ _ (zw_so h42)) (by rw [show (scell ((zhs h i2).1 i2) ((zhs h i2).2.1 i2) (s.2.2.2.2.2.2.2.2.2.2.2.2.2.2.2.2.2.2.2.2.2.2.2.2.2.2.2.2.2.1 i2) (s.2.2.2.2.2.2.2.2.2.2.2.2.2.2.2.2.2.2.2.2.2.2.2.2.2.2.2.2.2.2.1 i2) ((zhs h i2).2.2.1 i2)).1 = ka 4 from h9]; obtain ⟨⟨_, _, _, _, hn9⟩, _⟩ := hE.2.1 4 (by decide); exact hn9)
              refine k_i0 [] (va_runV (As := [.ref (ka 4)]) (rest := []) ⟨hx, hb, hml, hown, hts⟩ (ctJ3_equals l D dA _ _ _ _ _ _ _ _ _ (by omega) (klen_lt _) ab_) (cwV 1 hts (lw_V q681 q682 q683 q124 q684) rfl rfl rfl (by decide +kernel) ⟨Nat.le_of_ble_eq_true rfl, Nat.le_of_ble_eq_true rfl⟩) (preX_O (ev2_ok OK_ok (ev2_ok sv_ok sv_ok)) p_nil hK (A := A) d_nil ⟨ok_, sw_, sk_⟩ sw_.1) rfl rfl hl.1 rfl (lv_room (Nat.le_of_ble_eq_true rfl)) dX2_line_129 ⟨Nat.le_of_ble_eq_true rfl, Nat.le_of_ble_eq_true rfl⟩) hP hD hS hA rfl (fun _ => rfl) (fun u_ H locs hP hD hS => ?_)
              have hP : va_P D clG (zw dA za k9 tx (zhs h i2) s) H := hP
              have hD : va_D A (zw dA za k9 tx (zhs h i2) s) := hD
              refine lv_if_eq (tgt := 165) hx hb dX2_line_132 (by decide) (fun c44 => ?_) (fun c44 => ?_)
              · rw [if_pos c44] at hM
                refine lv_iload_n hx hb dX2_line_165 rfl (lv_at hl 0 rfl) ?_
                refine lv_tableOut (tgt := 246) hx hb dX2_line_166 (by decide) (by decide) ?_
                refine lv_aload_n hx hb dX2_line_246 rfl (lv_at hl 2 rfl) ?_
                refine lv_iconst (v := (1 : Int32)) hx hb dX2_line_247 (by decide) ?_
                have er45 : MX2_fail (1 : Int32) s.2.2.1 = some ((1 : Int32), s.2.2.1) := rfl
                refine k_r0 [0, 1] (va_runV (As := [.int (1 : Int32)]) (rest := []) ⟨hx, hb, hml, hown, hts⟩ (ctX2_fail l D dA _ (za 0) (za 1) (1 : Int32) k9.1 s.1 s.2.1 s.2.2.1 s.2.2.2.1 0 k9.2.1 k9.2.2 (.ref (za 2)) (.ref (za 3)) (zwv (zhs h i2) s.2.2.2.2.1) (.ref (za 4)) (zav (zhs h i2) s.2.2.2.2.2.1) .null .null .null .null .null _ er45) (cwV 1 hts (lw_V q619 q621 qs7 q114 q622) rfl rfl rfl (by decide +kernel) ⟨Nat.le_of_ble_eq_true rfl, Nat.le_of_ble_eq_true rfl⟩) (pre_V (hP.sub [0, 1] rfl) hK (hD.sub [0, 1] (by decide) rfl) (ci := 1) (q0 := 0) rfl rfl) rfl rfl hl.1 rfl (lv_room (Nat.le_of_ble_eq_true rfl)) dX2_line_248 ⟨Nat.le_of_ble_eq_true rfl, Nat.le_of_ble_eq_true rfl⟩) hP hD hS hA rfl (fun _ => rfl) (fun u46 H locs hP hD hS => ?_)
                have hP : va_P D clG (zw dA za (k9.1, (1 : Int32), s.2.2.1) tx (zhs h i2) s) H := hP
                have hD : va_D A (zw dA za (k9.1, (1 : Int32), s.2.2.1) tx (zhs h i2) s) := hD
                have hM := Sum.inl.inj (Option.some.inj hM)
                subst hM
                exact z_throw hx hb dX2_line_251 hK hP hD hS hout hlocks rfl (Nat.le_of_ble_eq_true rfl) (Nat.le_of_ble_eq_true rfl)
              · rw [if_neg c44] at hM
                refine lv_iconst (v := (3 : Int32)) hx hb dX2_line_135 (by decide) ?_
                refine lv_istore_n (lv' := [(2, .int (3 : Int32)), (1, .ref ((zhs h i2).1 i2)), (0, .ref (za 0))]) hx hb dX2_line_136 rfl hl (by decide) rfl (fun ls hl => ?_)
                have hl := lv_sub (l' := [(2, .int (3 : Int32)), (0, .ref (za 0))]) hl [0, 2] rfl
                refine lv_goto (tgt := 165) hx hb dX2_line_137 (by decide) ?_
                refine lv_iload_n hx hb dX2_line_165 rfl (lv_at hl 0 rfl) ?_
                refine lv_tableIn (off := 59) (tgt := 225) hx hb dX2_line_166 (by decide) (by decide) rfl (by decide) ?_
                refine lv_aload_n hx hb dX2_line_225 rfl (lv_at hl 1 rfl) ?_
                obtain ⟨r47_, er47, hM⟩ := b_inv hM
                cases r47_ with
                | inl e9 =>
                  dsimp only at hM
                  have hM := Sum.inl.inj (Option.some.inj hM)
                  subst hM
                  exact z_err (vy_runV (As := []) (rest := []) ⟨hx, hb, hml, hown, hts⟩ (ceZ_askedLine l D dA _ za (zhs h i2) tx k9 ka kv s e9 er47 ) (cwV 0 hts (lw_V q840 q842 qs19 q114 q843) rfl rfl rfl (by decide +kernel) ⟨Nat.le_of_ble_eq_true rfl, Nat.le_of_ble_eq_true rfl⟩) (preX_V ZE_ok hP hK hD (ev_at ZE_ok hE hS (w_free hD hS hA)) hP (ci := 1) (q0 := 0) rfl rfl) rfl rfl hl.1 rfl (lv_room (Nat.le_of_ble_eq_true rfl)) dX2_line_226 ⟨Nat.le_of_ble_eq_true rfl, Nat.le_of_ble_eq_true rfl⟩) hD hS hA hout hlocks (Nat.le_of_ble_eq_true rfl) (Nat.le_of_ble_eq_true rfl)
                | inr r47 =>
                  dsimp only at hM
                  refine k_w (va_runV (As := []) (rest := []) ⟨hx, hb, hml, hown, hts⟩ (ctZ_askedLine l D dA _ za (zhs h i2) tx k9 ka kv s r47 er47 ) (cwV 0 hts (lw_V q840 q842 qs19 q114 q843) rfl rfl rfl (by decide +kernel) ⟨Nat.le_of_ble_eq_true rfl, Nat.le_of_ble_eq_true rfl⟩) (preX_V ZE_ok hP hK hD (ev_at ZE_ok hE hS (w_free hD hS hA)) hP (ci := 1) (q0 := 0) rfl rfl) rfl rfl hl.1 rfl (lv_room (Nat.le_of_ble_eq_true rfl)) dX2_line_226 ⟨Nat.le_of_ble_eq_true rfl, Nat.le_of_ble_eq_true rfl⟩) hD hS hA (fun u48 H locs x49 hP hD hS => ?_)
                  refine W.widen (k := 10) (n := 60) (Nat.le_of_ble_eq_true rfl) (Nat.le_of_ble_eq_true rfl) ?_
                  refine W.eq (g2 := F0 m 229 ls []) (by first | rfl | (rfl; rfl) | (rfl) | (simp only [*]; rfl) | simp only [*]) ?_
                  refine lv_goto (tgt := 252) hx hb dX2_line_229 (by decide) ?_
                  cases hM
            · rw [if_neg c41] at hM
              by_cases c50 : (hashG (s.2.2.2.2.2.2.2.2.2.2.2.2.2.2.2.2.2.2.2.2.2.2.2.2.2.2.2.2.2.1 i2) (s.2.2.2.2.2.2.2.2.2.2.2.2.2.2.2.2.2.2.2.2.2.2.2.2.2.2.2.2.2.2.1 i2)) = (99151926 : Int32)
              · rw [if_pos c50] at hM
                refine lv_lookup (off := 115) (tgt := 140) hx hb dX2_line_25 (by decide) (by rw [show ((hashG (s.2.2.2.2.2.2.2.2.2.2.2.2.2.2.2.2.2.2.2.2.2.2.2.2.2.2.2.2.2.1 i2) (s.2.2.2.2.2.2.2.2.2.2.2.2.2.2.2.2.2.2.2.2.2.2.2.2.2.2.2.2.2.2.1 i2))).toInt = 99151926 by rw [c50]; decide]; decide) (by decide) ?_
                refine lv_aload_n hx hb dX2_line_140 rfl (lv_at hl 1 rfl) ?_
                refine va_ldcS hx hb hown (hE.2.2.1 5 (Nat.zero_le _) (by decide)) dX2_line_141 ?_
                obtain ⟨h51, hM⟩ := gn_inv hM
                obtain ⟨h52, hM⟩ := gn_inv hM
                have sw_ := sv_world hts hK hP (zw_so h51) (zw_sb h51) rfl rfl (lt_nil (hP _ _ (zw_so h51)).lt) (lt_nil (hP _ _ (zw_sb h51)).lt)
                have sk_ := ev_at sv_ok (hE.2.1 5 (by decide)) hS (ev_nil hA hS)
                have ok_ := ev_at OK_ok hE.1 hS (ev_nil hA hS)
                have ab_ : (zhs h i2).1 i2 = ka 5 → (eqC (s.2.2.2.2.2.2.2.2.2.2.2.2.2.2.2.2.2.2.2.2.2.2.2.2.2.2.2.2.2.1 i2) (s.2.2.2.2.2.2.2.2.2.2.2.2.2.2.2.2.2.2.2.2.2.2.2.2.2.2.2.2.2.2.1 i2) (klen 5) (kby 5)) = 1 := fun h9 => absurd (hD.2 _ _ (zw_so h51)) (by rw [show (scell ((zhs h i2).1 i2) ((zhs h i2).2.1 i2) (s.2.2.2.2.2.2.2.2.2.2.2.2.2.2.2.2.2.2.2.2.2.2.2.2.2.2.2.2.2.1 i2) (s.2.2.2.2.2.2.2.2.2.2.2.2.2.2.2.2.2.2.2.2.2.2.2.2.2.2.2.2.2.2.1 i2) ((zhs h i2).2.2.1 i2)).1 = ka 5 from h9]; obtain ⟨⟨_, _, _, _, hn9⟩, _⟩ := hE.2.1 5 (by decide); exact hn9)
                refine k_i0 [] (va_runV (As := [.ref (ka 5)]) (rest := []) ⟨hx, hb, hml, hown, hts⟩ (ctJ3_equals l D dA _ _ _ _ _ _ _ _ _ (by omega) (klen_lt _) ab_) (cwV 1 hts (lw_V q681 q682 q683 q124 q684) rfl rfl rfl (by decide +kernel) ⟨Nat.le_of_ble_eq_true rfl, Nat.le_of_ble_eq_true rfl⟩) (preX_O (ev2_ok OK_ok (ev2_ok sv_ok sv_ok)) p_nil hK (A := A) d_nil ⟨ok_, sw_, sk_⟩ sw_.1) rfl rfl hl.1 rfl (lv_room (Nat.le_of_ble_eq_true rfl)) dX2_line_143 ⟨Nat.le_of_ble_eq_true rfl, Nat.le_of_ble_eq_true rfl⟩) hP hD hS hA rfl (fun _ => rfl) (fun u_ H locs hP hD hS => ?_)
                have hP : va_P D clG (zw dA za k9 tx (zhs h i2) s) H := hP
                have hD : va_D A (zw dA za k9 tx (zhs h i2) s) := hD
                refine lv_if_eq (tgt := 165) hx hb dX2_line_146 (by decide) (fun c53 => ?_) (fun c53 => ?_)
                · rw [if_pos c53] at hM
                  refine lv_iload_n hx hb dX2_line_165 rfl (lv_at hl 0 rfl) ?_
                  refine lv_tableOut (tgt := 246) hx hb dX2_line_166 (by decide) (by decide) ?_
                  refine lv_aload_n hx hb dX2_line_246 rfl (lv_at hl 2 rfl) ?_
                  refine lv_iconst (v := (1 : Int32)) hx hb dX2_line_247 (by decide) ?_
                  have er54 : MX2_fail (1 : Int32) s.2.2.1 = some ((1 : Int32), s.2.2.1) := rfl
                  refine k_r0 [0, 1] (va_runV (As := [.int (1 : Int32)]) (rest := []) ⟨hx, hb, hml, hown, hts⟩ (ctX2_fail l D dA _ (za 0) (za 1) (1 : Int32) k9.1 s.1 s.2.1 s.2.2.1 s.2.2.2.1 0 k9.2.1 k9.2.2 (.ref (za 2)) (.ref (za 3)) (zwv (zhs h i2) s.2.2.2.2.1) (.ref (za 4)) (zav (zhs h i2) s.2.2.2.2.2.1) .null .null .null .null .null _ er54) (cwV 1 hts (lw_V q619 q621 qs7 q114 q622) rfl rfl rfl (by decide +kernel) ⟨Nat.le_of_ble_eq_true rfl, Nat.le_of_ble_eq_true rfl⟩) (pre_V (hP.sub [0, 1] rfl) hK (hD.sub [0, 1] (by decide) rfl) (ci := 1) (q0 := 0) rfl rfl) rfl rfl hl.1 rfl (lv_room (Nat.le_of_ble_eq_true rfl)) dX2_line_248 ⟨Nat.le_of_ble_eq_true rfl, Nat.le_of_ble_eq_true rfl⟩) hP hD hS hA rfl (fun _ => rfl) (fun u55 H locs hP hD hS => ?_)
                  have hP : va_P D clG (zw dA za (k9.1, (1 : Int32), s.2.2.1) tx (zhs h i2) s) H := hP
                  have hD : va_D A (zw dA za (k9.1, (1 : Int32), s.2.2.1) tx (zhs h i2) s) := hD
                  have hM := Sum.inl.inj (Option.some.inj hM)
                  subst hM
                  exact z_throw hx hb dX2_line_251 hK hP hD hS hout hlocks rfl (Nat.le_of_ble_eq_true rfl) (Nat.le_of_ble_eq_true rfl)
                · rw [if_neg c53] at hM
                  refine lv_iconst (v := (4 : Int32)) hx hb dX2_line_149 (by decide) ?_
                  refine lv_istore_n (lv' := [(2, .int (4 : Int32)), (1, .ref ((zhs h i2).1 i2)), (0, .ref (za 0))]) hx hb dX2_line_150 rfl hl (by decide) rfl (fun ls hl => ?_)
                  have hl := lv_sub (l' := [(2, .int (4 : Int32)), (0, .ref (za 0))]) hl [0, 2] rfl
                  refine lv_goto (tgt := 165) hx hb dX2_line_151 (by decide) ?_
                  refine lv_iload_n hx hb dX2_line_165 rfl (lv_at hl 0 rfl) ?_
                  refine lv_tableIn (off := 66) (tgt := 232) hx hb dX2_line_166 (by decide) (by decide) rfl (by decide) ?_
                  refine lv_aload_n hx hb dX2_line_232 rfl (lv_at hl 1 rfl) ?_
                  obtain ⟨r56_, er56, hM⟩ := b_inv hM
                  cases r56_ with
                  | inl e9 =>
                    dsimp only at hM
                    have hM := Sum.inl.inj (Option.some.inj hM)
                    subst hM
                    exact z_err (vy_runV (As := []) (rest := []) ⟨hx, hb, hml, hown, hts⟩ (ceZ_heardLine l D dA _ za (zhs h i2) tx k9 ka kv s e9 er56 ) (cwV 0 hts (lw_V q881 q883 qs22 q114 q884) rfl rfl rfl (by decide +kernel) ⟨Nat.le_of_ble_eq_true rfl, Nat.le_of_ble_eq_true rfl⟩) (preX_V ZE_ok hP hK hD (ev_at ZE_ok hE hS (w_free hD hS hA)) hP (ci := 1) (q0 := 0) rfl rfl) rfl rfl hl.1 rfl (lv_room (Nat.le_of_ble_eq_true rfl)) dX2_line_233 ⟨Nat.le_of_ble_eq_true rfl, Nat.le_of_ble_eq_true rfl⟩) hD hS hA hout hlocks (Nat.le_of_ble_eq_true rfl) (Nat.le_of_ble_eq_true rfl)
                  | inr r56 =>
                    dsimp only at hM
                    refine k_w (va_runV (As := []) (rest := []) ⟨hx, hb, hml, hown, hts⟩ (ctZ_heardLine l D dA _ za (zhs h i2) tx k9 ka kv s r56 er56 ) (cwV 0 hts (lw_V q881 q883 qs22 q114 q884) rfl rfl rfl (by decide +kernel) ⟨Nat.le_of_ble_eq_true rfl, Nat.le_of_ble_eq_true rfl⟩) (preX_V ZE_ok hP hK hD (ev_at ZE_ok hE hS (w_free hD hS hA)) hP (ci := 1) (q0 := 0) rfl rfl) rfl rfl hl.1 rfl (lv_room (Nat.le_of_ble_eq_true rfl)) dX2_line_233 ⟨Nat.le_of_ble_eq_true rfl, Nat.le_of_ble_eq_true rfl⟩) hD hS hA (fun u57 H locs x58 hP hD hS => ?_)
                    refine W.widen (k := 14) (n := 84) (Nat.le_of_ble_eq_true rfl) (Nat.le_of_ble_eq_true rfl) ?_
                    refine W.eq (g2 := F0 m 236 ls []) (by first | rfl | (rfl; rfl) | (rfl) | (simp only [*]; rfl) | simp only [*]) ?_
                    refine lv_goto (tgt := 252) hx hb dX2_line_236 (by decide) ?_
                    cases hM
              · rw [if_neg c50] at hM
                refine lv_lookup (off := 140) (tgt := 165) hx hb dX2_line_25 (by decide) (by show Op.lookupswitch.offset [(-991716523, 73), (3053931, 59), (3377192, 87), (3645716, 129), (93113560, 101), (99151926, 115)] _ _ = _; rw [lv_osw (k := (-991716523 : Int32)) c5 (by decide), lv_osw (k := (3053931 : Int32)) c14 (by decide), lv_osw (k := (3377192 : Int32)) c23 (by decide), lv_osw (k := (3645716 : Int32)) c32 (by decide), lv_osw (k := (93113560 : Int32)) c41 (by decide), lv_osw (k := (99151926 : Int32)) c50 (by decide)]; rfl) (by decide) ?_
                refine lv_iload_n hx hb dX2_line_165 rfl (lv_at hl 0 rfl) ?_
                refine lv_tableOut (tgt := 246) hx hb dX2_line_166 (by decide) (by decide) ?_
                refine lv_aload_n hx hb dX2_line_246 rfl (lv_at hl 2 rfl) ?_
                refine lv_iconst (v := (1 : Int32)) hx hb dX2_line_247 (by decide) ?_
                have er59 : MX2_fail (1 : Int32) s.2.2.1 = some ((1 : Int32), s.2.2.1) := rfl
                refine k_r0 [0, 1] (va_runV (As := [.int (1 : Int32)]) (rest := []) ⟨hx, hb, hml, hown, hts⟩ (ctX2_fail l D dA _ (za 0) (za 1) (1 : Int32) k9.1 s.1 s.2.1 s.2.2.1 s.2.2.2.1 0 k9.2.1 k9.2.2 (.ref (za 2)) (.ref (za 3)) (zwv (zhs h i2) s.2.2.2.2.1) (.ref (za 4)) (zav (zhs h i2) s.2.2.2.2.2.1) .null .null .null .null .null _ er59) (cwV 1 hts (lw_V q619 q621 qs7 q114 q622) rfl rfl rfl (by decide +kernel) ⟨Nat.le_of_ble_eq_true rfl, Nat.le_of_ble_eq_true rfl⟩) (pre_V (hP.sub [0, 1] rfl) hK (hD.sub [0, 1] (by decide) rfl) (ci := 1) (q0 := 0) rfl rfl) rfl rfl hl.1 rfl (lv_room (Nat.le_of_ble_eq_true rfl)) dX2_line_248 ⟨Nat.le_of_ble_eq_true rfl, Nat.le_of_ble_eq_true rfl⟩) hP hD hS hA rfl (fun _ => rfl) (fun u60 H locs hP hD hS => ?_)
                have hP : va_P D clG (zw dA za (k9.1, (1 : Int32), s.2.2.1) tx (zhs h i2) s) H := hP
                have hD : va_D A (zw dA za (k9.1, (1 : Int32), s.2.2.1) tx (zhs h i2) s) := hD
                have hM := Sum.inl.inj (Option.some.inj hM)
                subst hM
                exact z_throw hx hb dX2_line_251 hK hP hD hS hout hlocks rfl (Nat.le_of_ble_eq_true rfl) (Nat.le_of_ble_eq_true rfl)
  · rw [if_neg c1] at hM
    refine lv_aload_n hx hb dX2_line_8 rfl (lv_at hl 0 rfl) ?_
    refine lv_iconst (v := (1 : Int32)) hx hb dX2_line_9 (by decide) ?_
    have er61 : MX2_fail (1 : Int32) s.2.2.1 = some ((1 : Int32), s.2.2.1) := rfl
    refine k_r0 [0, 1] (va_runV (As := [.int (1 : Int32)]) (rest := []) ⟨hx, hb, hml, hown, hts⟩ (ctX2_fail l D dA _ (za 0) (za 1) (1 : Int32) k9.1 s.1 s.2.1 s.2.2.1 s.2.2.2.1 0 k9.2.1 k9.2.2 (.ref (za 2)) (.ref (za 3)) (zwv h s.2.2.2.2.1) (.ref (za 4)) (zav h s.2.2.2.2.2.1) .null .null .null .null .null _ er61) (cwV 1 hts (lw_V q619 q621 qs7 q114 q622) rfl rfl rfl (by decide +kernel) ⟨Nat.le_of_ble_eq_true rfl, Nat.le_of_ble_eq_true rfl⟩) (pre_V (hP.sub [0, 1] rfl) hK (hD.sub [0, 1] (by decide) rfl) (ci := 1) (q0 := 0) rfl rfl) rfl rfl hl.1 rfl (lv_room (Nat.le_of_ble_eq_true rfl)) dX2_line_10 ⟨Nat.le_of_ble_eq_true rfl, Nat.le_of_ble_eq_true rfl⟩) hP hD hS hA rfl (fun _ => rfl) (fun u62 H locs hP hD hS => ?_)
    have hP : va_P D clG (zw dA za (k9.1, (1 : Int32), s.2.2.1) tx h s) H := hP
    have hD : va_D A (zw dA za (k9.1, (1 : Int32), s.2.2.1) tx h s) := hD
    have hM := Sum.inl.inj (Option.some.inj hM)
    subst hM
    exact z_throw hx hb dX2_line_13 hK hP hD hS hout hlocks rfl (Nat.le_of_ble_eq_true rfl) (Nat.le_of_ble_eq_true rfl)

