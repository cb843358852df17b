set_option maxRecDepth 100000
set_option maxHeartbeats 40000000 in
theorem ceZ_wentLine (l : Launch) (D : va_G) (dA : Nat → ClassId) (sz : Nat) (za : Nat → Nat) (h : ZH) (tx : AI) (k9 : Int32 × Int32 × Int32) (ka kv : Nat → Nat) (s : ZS) (er : Int32 × Int32) (hM : MZ_wentLine tx k9.1 s = some (.inl er)) : vy_Met l yX2_wentLine (ws_ yX2_wentLine cX2_wentLine 4 none) ({ frames := 7, cells := 8, slots := 48, locals := 343 }) (preX D dA (ZE ka kv) [.ref (za 0)] (zw dA za k9 tx h s) sz) (fun _ _ _ _ => False) (zQ D dA za tx er (va_A (zw dA za k9 tx h s) sz)) 8 48 (va_A (zw dA za k9 tx h s) sz) := by
  refine vy_ofW (cc := cX2_wentLine) (maxL := 4) (ret := none) (by decide) rfl ?_
  intro p e s0 m args below meth c s₁ B hml hout hv
  obtain ⟨rfl, hsz, hP, hK, hD0, hE⟩ := hv
  have hx := B.exec
  have hb := B.bytes
  have hr := B.returns
  have hts := atoms_spec (ws := (ws_ yX2_wentLine cX2_wentLine 4 none)) B.pre
  have hts : ∀ w ∈ lw_all, w.before _ s0 = true := fun w h => hts w (List.mem_cons_of_mem _ h)
  have hown : s0.vm.findClass RX2 = some m.cls := findClass_of_methodNamed B.named
  have hlocks := B.notSynchronized
  subst hsz
  have hD := hD0.self (sz := s0.heap.size)
  generalize hAe : va_A (zw dA za k9 tx h s) s0.heap.size = A at hD hE ⊢
  have hA : ∀ q : Nat, s0.heap.size ≤ q → A q := fun q h => by rw [← hAe]; exact Or.inr h
  have hS : va_S A s0.heap s0.heap [] := va_S.rf
  have hl := lv_entry ([.ref (za 0)]) (n := 4) (Nat.le_of_ble_eq_true rfl)
  rw [lg_entry_eq]
  generalize (lg_sl ([.ref (za 0)]) ++ List.replicate (4 - (lg_sl ([.ref (za 0)])).length) Slot.unset).toArray = ls at hl ⊢
  have hl : lv_has ls 4 [(0, .ref (za 0))] := hl
  unfold MZ_wentLine at hM
  refine lv_aload_n hx hb dX2_wentLine_0 rfl (lv_at hl 0 rfl) ?_
  refine lv_iconst (v := (1 : Int32)) hx hb dX2_wentLine_1 (by decide) ?_
  obtain ⟨r1_, er1, hM⟩ := b_inv hM
  cases r1_ with
  | inl e9 =>
    dsimp only at hM
    have hM := Sum.inl.inj (Option.some.inj hM)
    subst hM
    exact z_err (vy_runV (As := [.int (1 : Int32)]) (rest := []) ⟨hx, hb, hml, hown, hts⟩ (ceZ_begins l D dA _ za h tx k9 ka kv s true e9 er1 ) (cwV 1 hts (lw_V q716 q718 qs13 q114 q719) rfl rfl rfl (by decide +kernel) ⟨Nat.le_of_ble_eq_true rfl, Nat.le_of_ble_eq_true rfl⟩) (preX_V ZE_ok hP hK hD (ev_at ZE_ok hE hS (w_free hD hS hA)) hP (ci := 1) (q0 := 0) rfl rfl) rfl rfl hl.1 rfl (lv_room (Nat.le_of_ble_eq_true rfl)) dX2_wentLine_2 ⟨Nat.le_of_ble_eq_true rfl, Nat.le_of_ble_eq_true rfl⟩) hD hS hA hout hlocks (Nat.le_of_ble_eq_true rfl) (Nat.le_of_ble_eq_true rfl)
  | inr r1 =>
    dsimp only at hM
    refine k_w (va_runV (As := [.int (1 : Int32)]) (rest := []) ⟨hx, hb, hml, hown, hts⟩ (ctZ_begins l D dA _ za h tx k9 ka kv s true r1 er1 ) (cwV 1 hts (lw_V q716 q718 qs13 q114 q719) rfl rfl rfl (by decide +kernel) ⟨Nat.le_of_ble_eq_true rfl, Nat.le_of_ble_eq_true rfl⟩) (preX_V ZE_ok hP hK hD (ev_at ZE_ok hE hS (w_free hD hS hA)) hP (ci := 1) (q0 := 0) rfl rfl) rfl rfl hl.1 rfl (lv_room (Nat.le_of_ble_eq_true rfl)) dX2_wentLine_2 ⟨Nat.le_of_ble_eq_true rfl, Nat.le_of_ble_eq_true rfl⟩) hD hS hA (fun u2 H locs x3 hP hD hS => ?_)
    refine W.widen (k := 2) (n := 12) (Nat.le_of_ble_eq_true rfl) (Nat.le_of_ble_eq_true rfl) ?_
    refine W.eq (g2 := F0 m 5 ls []) (by first | rfl | (rfl; rfl) | (rfl) | (simp only [*]; rfl) | simp only [*]) ?_
    refine lv_aload_n hx hb dX2_wentLine_5 rfl (lv_at hl 0 rfl) ?_
    obtain ⟨r4_, er4, hM⟩ := b_inv hM
    cases r4_ with
    | inl e9 =>
      dsimp only at hM
      have hM := Sum.inl.inj (Option.some.inj hM)
      subst hM
      exact z_err (vy_runV (As := []) (rest := []) ⟨hx, hb, hml, hown, hts⟩ (ceZ_personHere l D dA _ za u2 tx k9 ka kv r1 e9 er4 ) (cwV 0 hts (lw_V q833 q835 qs18 q114 q836) rfl rfl rfl (by decide +kernel) ⟨Nat.le_of_ble_eq_true rfl, Nat.le_of_ble_eq_true rfl⟩) (preX_V ZE_ok hP hK hD (ev_at ZE_ok hE hS (w_free hD hS hA)) hP (ci := 1) (q0 := 0) rfl rfl) rfl rfl hl.1 rfl (lv_room (Nat.le_of_ble_eq_true rfl)) dX2_wentLine_6 ⟨Nat.le_of_ble_eq_true rfl, Nat.le_of_ble_eq_true rfl⟩) hD hS hA hout hlocks (Nat.le_of_ble_eq_true rfl) (Nat.le_of_ble_eq_true rfl)
    | inr r4 =>
      dsimp only at hM
      refine k_w (va_runV (As := []) (rest := []) ⟨hx, hb, hml, hown, hts⟩ (ctZ_personHere l D dA _ za u2 tx k9 ka kv r1 r4 er4 ) (cwV 0 hts (lw_V q833 q835 qs18 q114 q836) rfl rfl rfl (by decide +kernel) ⟨Nat.le_of_ble_eq_true rfl, Nat.le_of_ble_eq_true rfl⟩) (preX_V ZE_ok hP hK hD (ev_at ZE_ok hE hS (w_free hD hS hA)) hP (ci := 1) (q0 := 0) rfl rfl) rfl rfl hl.1 rfl (lv_room (Nat.le_of_ble_eq_true rfl)) dX2_wentLine_6 ⟨Nat.le_of_ble_eq_true rfl, Nat.le_of_ble_eq_true rfl⟩) hD hS hA (fun u5 H locs x6 hP hD hS => ?_)
      refine W.eq (g2 := F0 m 9 ls [.ref (u5.2.2.2.1 r4.1)]) (by first | rfl | (rfl; rfl) | (rfl) | (simp only [*]; rfl) | simp only [*]) ?_
      refine lv_astore_n (lv' := [(1, .ref (u5.2.2.2.1 r4.1)), (0, .ref (za 0))]) hx hb dX2_wentLine_9 rfl hl (by decide) rfl (fun ls hl => ?_)
      refine lv_aload_n hx hb dX2_wentLine_10 rfl (lv_at hl 0 rfl) ?_
      obtain ⟨h7, hM⟩ := gn_inv hM
      obtain ⟨h8, hM⟩ := gn_inv hM
      refine pp_getf hx hb hts hown hK hP zX_len h7 h8 6 (by decide) (hts _ q765) (fun _ h9 => h9) (v := .int (r4.2.2.2.2.2.2.2.2.2.2.2.2.2.2.2.2.2.2.2.2.2.2.2.2.2.2.2.2.1 r4.1)) rfl dX2_wentLine_11 ?_
      refine lv_iconst (v := (-1 : Int32)) hx hb dX2_wentLine_14 (by decide) ?_
      refine lv_icmp_eq (tgt := 24) hx hb dX2_wentLine_15 (by decide) (fun c9 => ?_) (fun c9 => ?_)
      · rw [if_pos c9] at hM
        refine lv_aload_n hx hb dX2_wentLine_24 rfl (lv_at hl 1 rfl) ?_
        obtain ⟨h13, hM⟩ := gn_inv hM
        obtain ⟨r10, er10, hM⟩ := b_inv hM
        refine k_w (va_runV (As := []) (rest := []) ⟨hx, hb, hml, hown, hts⟩ (ctZ_step l D dA _ za u5 tx k9 ka kv r4.2 r10 er10 ) (cwV 0 hts (lw_V q521 q523 qs4 q114 q524) rfl rfl rfl (by decide +kernel) ⟨Nat.le_of_ble_eq_true rfl, Nat.le_of_ble_eq_true rfl⟩) (preX_V ZE_ok hP hK hD (ev_at ZE_ok hE hS (w_free hD hS hA)) hP (ci := 1) (q0 := 0) rfl rfl) rfl rfl hl.1 rfl (lv_room (Nat.le_of_ble_eq_true rfl)) dX2_wentLine_25 ⟨Nat.le_of_ble_eq_true rfl, Nat.le_of_ble_eq_true rfl⟩) hD hS hA (fun u11 H locs x12 hP hD hS => ?_)
        have hl : lv_has ls 4 [(1, .ref (u11.2.2.2.1 r4.1)), (0, .ref (za 0))] := by simp only [x12.2.1 r4.1 h13]; exact hl
        refine W.widen (k := 4) (n := 24) (Nat.le_of_ble_eq_true rfl) (Nat.le_of_ble_eq_true rfl) ?_
        refine W.eq (g2 := F0 m 28 ls []) (by first | rfl | (rfl; rfl) | (rfl) | (simp only [*]; rfl) | simp only [*]) ?_
        refine lv_bipush (v := (-2 : Int32)) hx hb dX2_wentLine_28 (by decide) ?_
        refine lv_istore_n (lv' := [(2, .int (-2 : Int32)), (1, .ref (u11.2.2.2.1 r4.1)), (0, .ref (za 0))]) hx hb dX2_wentLine_30 rfl hl (by decide) rfl (fun ls hl => ?_)
        refine lv_aload_n hx hb dX2_wentLine_31 rfl (lv_at hl 2 rfl) ?_
        refine va_ldcS hx hb hown (hE.2.2.1 9 (Nat.zero_le _) (by decide)) dX2_wentLine_32 ?_
        obtain ⟨h17, hM⟩ := gn_inv hM
        obtain ⟨r14, er14, hM⟩ := b_inv hM
        refine k_w (va_runV (As := [.ref (ka 9)]) (rest := []) ⟨hx, hb, hml, hown, hts⟩ (ctZ_takes l D dA _ za u11 tx k9 ka kv r10 9 r14 er14 (by decide)) (cwV 1 hts (lw_V q707 q709 qs11 q114 q710) rfl rfl rfl (by decide +kernel) ⟨Nat.le_of_ble_eq_true rfl, Nat.le_of_ble_eq_true rfl⟩) (preX_V ZE_ok hP hK hD (ev_at ZE_ok hE hS (w_free hD hS hA)) hP (ci := 1) (q0 := 0) rfl rfl) rfl rfl hl.1 rfl (lv_room (Nat.le_of_ble_eq_true rfl)) dX2_wentLine_34 ⟨Nat.le_of_ble_eq_true rfl, Nat.le_of_ble_eq_true rfl⟩) hD hS hA (fun u15 H locs x16 hP hD hS => ?_)
        have hl : lv_has ls 4 [(2, .int (-2 : Int32)), (1, .ref (u15.2.2.2.1 r4.1)), (0, .ref (za 0))] := by simp only [x16.2.1 r4.1 h17]; exact hl
        refine W.widen (k := 6) (n := 36) (Nat.le_of_ble_eq_true rfl) (Nat.le_of_ble_eq_true rfl) ?_
        refine W.eq (g2 := F0 m 37 ls [.int (b2i r14.1)]) (by first | rfl | (rfl; rfl) | (rfl) | (simp only [*]; rfl) | simp only [*]) ?_
        refine lv_if_ne (tgt := 65) hx hb dX2_wentLine_37 (by decide) (fun c18 => ?_) (fun c18 => ?_)
        · rw [if_neg c18] at hM
          refine lv_aload_n hx hb dX2_wentLine_65 rfl (lv_at hl 1 rfl) ?_
          refine lv_iload_n hx hb dX2_wentLine_66 rfl (lv_at hl 0 rfl) ?_
          obtain ⟨h19, hM⟩ := gn_inv hM
          obtain ⟨h20, hM⟩ := gn_inv hM
          refine zz_put6 hx hb hts hown hK hP hD hS h19 h20 (-2 : Int32) (hts _ q765) dX2_wentLine_67 (fun H locs hP hD hS => ?_)
          have hP : va_P D clG (zw dA za k9 tx u15 (r14.2.1, r14.2.2.1, r14.2.2.2.1, r14.2.2.2.2.1, r14.2.2.2.2.2.1, r14.2.2.2.2.2.2.1, r14.2.2.2.2.2.2.2.1, r14.2.2.2.2.2.2.2.2.1, r14.2.2.2.2.2.2.2.2.2.1, r14.2.2.2.2.2.2.2.2.2.2.1, r14.2.2.2.2.2.2.2.2.2.2.2.1, r14.2.2.2.2.2.2.2.2.2.2.2.2.1, r14.2.2.2.2.2.2.2.2.2.2.2.2.2.1, r14.2.2.2.2.2.2.2.2.2.2.2.2.2.2.1, r14.2.2.2.2.2.2.2.2.2.2.2.2.2.2.2.1, r14.2.2.2.2.2.2.2.2.2.2.2.2.2.2.2.2.1, r14.2.2.2.2.2.2.2.2.2.2.2.2.2.2.2.2.2.1, r14.2.2.2.2.2.2.2.2.2.2.2.2.2.2.2.2.2.2.1, r14.2.2.2.2.2.2.2.2.2.2.2.2.2.2.2.2.2.2.2.1, r14.2.2.2.2.2.2.2.2.2.2.2.2.2.2.2.2.2.2.2.2.1, r14.2.2.2.2.2.2.2.2.2.2.2.2.2.2.2.2.2.2.2.2.2.1, r14.2.2.2.2.2.2.2.2.2.2.2.2.2.2.2.2.2.2.2.2.2.2.1, r14.2.2.2.2.2.2.2.2.2.2.2.2.2.2.2.2.2.2.2.2.2.2.2.1, r14.2.2.2.2.2.2.2.2.2.2.2.2.2.2.2.2.2.2.2.2.2.2.2.2.1, r14.2.2.2.2.2.2.2.2.2.2.2.2.2.2.2.2.2.2.2.2.2.2.2.2.2.1, r14.2.2.2.2.2.2.2.2.2.2.2.2.2.2.2.2.2.2.2.2.2.2.2.2.2.2.1, r14.2.2.2.2.2.2.2.2.2.2.2.2.2.2.2.2.2.2.2.2.2.2.2.2.2.2.2.1, (upd r14.2.2.2.2.2.2.2.2.2.2.2.2.2.2.2.2.2.2.2.2.2.2.2.2.2.2.2.2.1 r4.1 (-2 : Int32)), r14.2.2.2.2.2.2.2.2.2.2.2.2.2.2.2.2.2.2.2.2.2.2.2.2.2.2.2.2.2.1, r14.2.2.2.2.2.2.2.2.2.2.2.2.2.2.2.2.2.2.2.2.2.2.2.2.2.2.2.2.2.2.1, r14.2.2.2.2.2.2.2.2.2.2.2.2.2.2.2.2.2.2.2.2.2.2.2.2.2.2.2.2.2.2.2.1, r14.2.2.2.2.2.2.2.2.2.2.2.2.2.2.2.2.2.2.2.2.2.2.2.2.2.2.2.2.2.2.2.2)) H := hP
          have hD : va_D A (zw dA za k9 tx u15 (r14.2.1, r14.2.2.1, r14.2.2.2.1, r14.2.2.2.2.1, r14.2.2.2.2.2.1, r14.2.2.2.2.2.2.1, r14.2.2.2.2.2.2.2.1, r14.2.2.2.2.2.2.2.2.1, r14.2.2.2.2.2.2.2.2.2.1, r14.2.2.2.2.2.2.2.2.2.2.1, r14.2.2.2.2.2.2.2.2.2.2.2.1, r14.2.2.2.2.2.2.2.2.2.2.2.2.1, r14.2.2.2.2.2.2.2.2.2.2.2.2.2.1, r14.2.2.2.2.2.2.2.2.2.2.2.2.2.2.1, r14.2.2.2.2.2.2.2.2.2.2.2.2.2.2.2.1, r14.2.2.2.2.2.2.2.2.2.2.2.2.2.2.2.2.1, r14.2.2.2.2.2.2.2.2.2.2.2.2.2.2.2.2.2.1, r14.2.2.2.2.2.2.2.2.2.2.2.2.2.2.2.2.2.2.1, r14.2.2.2.2.2.2.2.2.2.2.2.2.2.2.2.2.2.2.2.1, r14.2.2.2.2.2.2.2.2.2.2.2.2.2.2.2.2.2.2.2.2.1, r14.2.2.2.2.2.2.2.2.2.2.2.2.2.2.2.2.2.2.2.2.2.1, r14.2.2.2.2.2.2.2.2.2.2.2.2.2.2.2.2.2.2.2.2.2.2.1, r14.2.2.2.2.2.2.2.2.2.2.2.2.2.2.2.2.2.2.2.2.2.2.2.1, r14.2.2.2.2.2.2.2.2.2.2.2.2.2.2.2.2.2.2.2.2.2.2.2.2.1, r14.2.2.2.2.2.2.2.2.2.2.2.2.2.2.2.2.2.2.2.2.2.2.2.2.2.1, r14.2.2.2.2.2.2.2.2.2.2.2.2.2.2.2.2.2.2.2.2.2.2.2.2.2.2.1, r14.2.2.2.2.2.2.2.2.2.2.2.2.2.2.2.2.2.2.2.2.2.2.2.2.2.2.2.1, (upd r14.2.2.2.2.2.2.2.2.2.2.2.2.2.2.2.2.2.2.2.2.2.2.2.2.2.2.2.2.1 r4.1 (-2 : Int32)), r14.2.2.2.2.2.2.2.2.2.2.2.2.2.2.2.2.2.2.2.2.2.2.2.2.2.2.2.2.2.1, r14.2.2.2.2.2.2.2.2.2.2.2.2.2.2.2.2.2.2.2.2.2.2.2.2.2.2.2.2.2.2.1, r14.2.2.2.2.2.2.2.2.2.2.2.2.2.2.2.2.2.2.2.2.2.2.2.2.2.2.2.2.2.2.2.1, r14.2.2.2.2.2.2.2.2.2.2.2.2.2.2.2.2.2.2.2.2.2.2.2.2.2.2.2.2.2.2.2.2)) := hD
          refine lv_aload_n hx hb dX2_wentLine_70 rfl (lv_at hl 2 rfl) ?_
          refine va_get (D := D) (ci := 1) (v := .ref (za 4)) (C := RX2) (T := TX2) (N := 11) hx hb hts in_X2 hown hK.1 hP 0 rfl rfl 9 (by decide) (hts _ q235) (fun _ h9 => h9) rfl dX2_wentLine_71 ?_
          refine lv_dup hx hb dX2_wentLine_74 rfl ?_
          refine va_get (D := D) (ci := 6) (v := .int r14.2.2.2.2.2.2.2.2.2.2.2.2.2.2.1) (C := RX8) (T := TX8) (N := 13) hx hb hts in_X8 hown hK.1 hP 4 rfl rfl 12 (by decide) (hts _ q492) (fun _ h9 => h9) rfl dX2_wentLine_75 ?_
          refine lv_iconst (v := (1 : Int32)) hx hb dX2_wentLine_78 (by decide) ?_
          refine lv_iadd hx hb dX2_wentLine_79 ?_
          obtain ⟨v0_, hv0_⟩ : ∃ v_ : Int32, v_ = (r14.2.2.2.2.2.2.2.2.2.2.2.2.2.2.1 + (1 : Int32)) := ⟨_, rfl⟩
          rw [← hv0_]
          try rw [← hv0_] at hM
          refine va_put (D := D) (ci := 6) (v := .int v0_) (ty := .int) (C := RX8) (T := TX8) (N := 13) hx hb hts in_X8 tyX8 tyX8_ok nmX8 hown hK.1 hP hD hS 4 rfl rfl 12 (by decide) (hts _ q492) (fun _ h9 => h9) rfl (by decide +kernel) rfl rfl (Nat.le_of_ble_eq_true rfl) dX2_wentLine_80 (fun H locs hP hD hS => ?_)
          have hP : va_P D clG (zw dA za k9 tx u15 (r14.2.1, r14.2.2.1, r14.2.2.2.1, r14.2.2.2.2.1, r14.2.2.2.2.2.1, r14.2.2.2.2.2.2.1, r14.2.2.2.2.2.2.2.1, r14.2.2.2.2.2.2.2.2.1, r14.2.2.2.2.2.2.2.2.2.1, r14.2.2.2.2.2.2.2.2.2.2.1, r14.2.2.2.2.2.2.2.2.2.2.2.1, r14.2.2.2.2.2.2.2.2.2.2.2.2.1, r14.2.2.2.2.2.2.2.2.2.2.2.2.2.1, v0_, r14.2.2.2.2.2.2.2.2.2.2.2.2.2.2.2.1, r14.2.2.2.2.2.2.2.2.2.2.2.2.2.2.2.2.1, r14.2.2.2.2.2.2.2.2.2.2.2.2.2.2.2.2.2.1, r14.2.2.2.2.2.2.2.2.2.2.2.2.2.2.2.2.2.2.1, r14.2.2.2.2.2.2.2.2.2.2.2.2.2.2.2.2.2.2.2.1, r14.2.2.2.2.2.2.2.2.2.2.2.2.2.2.2.2.2.2.2.2.1, r14.2.2.2.2.2.2.2.2.2.2.2.2.2.2.2.2.2.2.2.2.2.1, r14.2.2.2.2.2.2.2.2.2.2.2.2.2.2.2.2.2.2.2.2.2.2.1, r14.2.2.2.2.2.2.2.2.2.2.2.2.2.2.2.2.2.2.2.2.2.2.2.1, r14.2.2.2.2.2.2.2.2.2.2.2.2.2.2.2.2.2.2.2.2.2.2.2.2.1, r14.2.2.2.2.2.2.2.2.2.2.2.2.2.2.2.2.2.2.2.2.2.2.2.2.2.1, r14.2.2.2.2.2.2.2.2.2.2.2.2.2.2.2.2.2.2.2.2.2.2.2.2.2.2.1, r14.2.2.2.2.2.2.2.2.2.2.2.2.2.2.2.2.2.2.2.2.2.2.2.2.2.2.2.1, (upd r14.2.2.2.2.2.2.2.2.2.2.2.2.2.2.2.2.2.2.2.2.2.2.2.2.2.2.2.2.1 r4.1 (-2 : Int32)), r14.2.2.2.2.2.2.2.2.2.2.2.2.2.2.2.2.2.2.2.2.2.2.2.2.2.2.2.2.2.1, r14.2.2.2.2.2.2.2.2.2.2.2.2.2.2.2.2.2.2.2.2.2.2.2.2.2.2.2.2.2.2.1, r14.2.2.2.2.2.2.2.2.2.2.2.2.2.2.2.2.2.2.2.2.2.2.2.2.2.2.2.2.2.2.2.1, r14.2.2.2.2.2.2.2.2.2.2.2.2.2.2.2.2.2.2.2.2.2.2.2.2.2.2.2.2.2.2.2.2)) H := zP_set hP (Nat.le_of_ble_eq_true rfl) rfl rfl
          have hD : va_D A (zw dA za k9 tx u15 (r14.2.1, r14.2.2.1, r14.2.2.2.1, r14.2.2.2.2.1, r14.2.2.2.2.2.1, r14.2.2.2.2.2.2.1, r14.2.2.2.2.2.2.2.1, r14.2.2.2.2.2.2.2.2.1, r14.2.2.2.2.2.2.2.2.2.1, r14.2.2.2.2.2.2.2.2.2.2.1, r14.2.2.2.2.2.2.2.2.2.2.2.1, r14.2.2.2.2.2.2.2.2.2.2.2.2.1, r14.2.2.2.2.2.2.2.2.2.2.2.2.2.1, v0_, r14.2.2.2.2.2.2.2.2.2.2.2.2.2.2.2.1, r14.2.2.2.2.2.2.2.2.2.2.2.2.2.2.2.2.1, r14.2.2.2.2.2.2.2.2.2.2.2.2.2.2.2.2.2.1, r14.2.2.2.2.2.2.2.2.2.2.2.2.2.2.2.2.2.2.1, r14.2.2.2.2.2.2.2.2.2.2.2.2.2.2.2.2.2.2.2.1, r14.2.2.2.2.2.2.2.2.2.2.2.2.2.2.2.2.2.2.2.2.1, r14.2.2.2.2.2.2.2.2.2.2.2.2.2.2.2.2.2.2.2.2.2.1, r14.2.2.2.2.2.2.2.2.2.2.2.2.2.2.2.2.2.2.2.2.2.2.1, r14.2.2.2.2.2.2.2.2.2.2.2.2.2.2.2.2.2.2.2.2.2.2.2.1, r14.2.2.2.2.2.2.2.2.2.2.2.2.2.2.2.2.2.2.2.2.2.2.2.2.1, r14.2.2.2.2.2.2.2.2.2.2.2.2.2.2.2.2.2.2.2.2.2.2.2.2.2.1, r14.2.2.2.2.2.2.2.2.2.2.2.2.2.2.2.2.2.2.2.2.2.2.2.2.2.2.1, r14.2.2.2.2.2.2.2.2.2.2.2.2.2.2.2.2.2.2.2.2.2.2.2.2.2.2.2.1, (upd r14.2.2.2.2.2.2.2.2.2.2.2.2.2.2.2.2.2.2.2.2.2.2.2.2.2.2.2.2.1 r4.1 (-2 : Int32)), r14.2.2.2.2.2.2.2.2.2.2.2.2.2.2.2.2.2.2.2.2.2.2.2.2.2.2.2.2.2.1, r14.2.2.2.2.2.2.2.2.2.2.2.2.2.2.2.2.2.2.2.2.2.2.2.2.2.2.2.2.2.2.1, r14.2.2.2.2.2.2.2.2.2.2.2.2.2.2.2.2.2.2.2.2.2.2.2.2.2.2.2.2.2.2.2.1, r14.2.2.2.2.2.2.2.2.2.2.2.2.2.2.2.2.2.2.2.2.2.2.2.2.2.2.2.2.2.2.2.2)) := zD_set hD (Nat.le_of_ble_eq_true rfl) rfl rfl
          cases hM
        · rw [if_pos c18] at hM
          refine lv_aload_n hx hb dX2_wentLine_40 rfl (lv_at hl 2 rfl) ?_
          obtain ⟨h24, hM⟩ := gn_inv hM
          obtain ⟨r21_, er21, hM⟩ := b_inv hM
          cases r21_ with
          | inl e9 =>
            dsimp only at hM
            have hM := Sum.inl.inj (Option.some.inj hM)
            subst hM
            exact z_err (vy_runV (As := []) (rest := []) ⟨hx, hb, hml, hown, hts⟩ (ceZ_personHere l D dA _ za u15 tx k9 ka kv r14.2 e9 er21 ) (cwV 0 hts (lw_V q833 q835 qs18 q114 q836) rfl rfl rfl (by decide +kernel) ⟨Nat.le_of_ble_eq_true rfl, Nat.le_of_ble_eq_true rfl⟩) (preX_V ZE_ok hP hK hD (ev_at ZE_ok hE hS (w_free hD hS hA)) hP (ci := 1) (q0 := 0) rfl rfl) rfl rfl hl.1 rfl (lv_room (Nat.le_of_ble_eq_true rfl)) dX2_wentLine_41 ⟨Nat.le_of_ble_eq_true rfl, Nat.le_of_ble_eq_true rfl⟩) hD hS hA hout hlocks (Nat.le_of_ble_eq_true rfl) (Nat.le_of_ble_eq_true rfl)
          | inr r21 =>
            dsimp only at hM
            refine k_w (va_runV (As := []) (rest := []) ⟨hx, hb, hml, hown, hts⟩ (ctZ_personHere l D dA _ za u15 tx k9 ka kv r14.2 r21 er21 ) (cwV 0 hts (lw_V q833 q835 qs18 q114 q836) rfl rfl rfl (by decide +kernel) ⟨Nat.le_of_ble_eq_true rfl, Nat.le_of_ble_eq_true rfl⟩) (preX_V ZE_ok hP hK hD (ev_at ZE_ok hE hS (w_free hD hS hA)) hP (ci := 1) (q0 := 0) rfl rfl) rfl rfl hl.1 rfl (lv_room (Nat.le_of_ble_eq_true rfl)) dX2_wentLine_41 ⟨Nat.le_of_ble_eq_true rfl, Nat.le_of_ble_eq_true rfl⟩) hD hS hA (fun u22 H locs x23 hP hD hS => ?_)
            have hl : lv_has ls 4 [(2, .int (-2 : Int32)), (1, .ref (u22.2.2.2.1 r4.1)), (0, .ref (za 0))] := by simp only [x23.2.1 r4.1 h24]; exact hl
            refine W.eq (g2 := F0 m 44 ls [.ref (u22.2.2.2.1 r21.1)]) (by first | rfl | (rfl; rfl) | (rfl) | (simp only [*]; rfl) | simp only [*]) ?_
            refine lv_astore_n (lv' := [(3, .ref (u22.2.2.2.1 r21.1)), (2, .int (-2 : Int32)), (1, .ref (u22.2.2.2.1 r4.1)), (0, .ref (za 0))]) hx hb dX2_wentLine_44 rfl hl (by decide) rfl (fun ls hl => ?_)
            have hl := lv_sub (l' := [(3, .ref (u22.2.2.2.1 r21.1)), (1, .ref (u22.2.2.2.1 r4.1)), (0, .ref (za 0))]) hl [0, 2, 3] rfl
            refine lv_aload_n hx hb dX2_wentLine_45 rfl (lv_at hl 0 rfl) ?_
            refine lv_aload_n hx hb dX2_wentLine_46 rfl (lv_at hl 1 rfl) ?_
            obtain ⟨h25, hM⟩ := gn_inv hM
            obtain ⟨h26, hM⟩ := gn_inv hM
            refine lv_acmp_ne (rx := some (u22.2.2.2.1 r21.1)) (ry := some (u22.2.2.2.1 r4.1)) (tgt := 56) hx hb dX2_wentLine_47 (by decide) (fun c27 => ?_) (fun c27 => ?_)
            · have c_c27 : ¬ r21.1 = r4.1 := fun h9 => c27 (by rw [h9])
              rw [if_neg c_c27] at hM
              refine lv_aload_n hx hb dX2_wentLine_56 rfl (lv_at hl 2 rfl) ?_
              obtain ⟨h31, hM⟩ := gn_inv hM
              obtain ⟨h32, hM⟩ := gn_inv hM
              obtain ⟨r28, er28, hM⟩ := b_inv hM
              refine k_w (va_runV (As := []) (rest := []) ⟨hx, hb, hml, hown, hts⟩ (ctZ_step l D dA _ za u22 tx k9 ka kv r21.2 r28 er28 ) (cwV 0 hts (lw_V q521 q523 qs4 q114 q524) rfl rfl rfl (by decide +kernel) ⟨Nat.le_of_ble_eq_true rfl, Nat.le_of_ble_eq_true rfl⟩) (preX_V ZE_ok hP hK hD (ev_at ZE_ok hE hS (w_free hD hS hA)) hP (ci := 1) (q0 := 0) rfl rfl) rfl rfl hl.1 rfl (lv_room (Nat.le_of_ble_eq_true rfl)) dX2_wentLine_57 ⟨Nat.le_of_ble_eq_true rfl, Nat.le_of_ble_eq_true rfl⟩) hD hS hA (fun u29 H locs x30 hP hD hS => ?_)
              have hl : lv_has ls 4 [(3, .ref (u29.2.2.2.1 r21.1)), (1, .ref (u29.2.2.2.1 r4.1)), (0, .ref (za 0))] := by simp only [x30.2.1 r21.1 h31, x30.2.1 r4.1 h32]; exact hl
              refine W.widen (k := 8) (n := 48) (Nat.le_of_ble_eq_true rfl) (Nat.le_of_ble_eq_true rfl) ?_
              refine W.eq (g2 := F0 m 60 ls []) (by first | rfl | (rfl; rfl) | (rfl) | (simp only [*]; rfl) | simp only [*]) ?_
              refine lv_aload_n hx hb dX2_wentLine_60 rfl (lv_at hl 0 rfl) ?_
              obtain ⟨h33, hM⟩ := gn_inv hM
              obtain ⟨h34, hM⟩ := gn_inv hM
              refine pp_getf hx hb hts hown hK hP zX_len h33 h34 1 (by decide) (hts _ q751) (fun _ h9 => h9) (v := .int (r28.2.2.2.2.2.2.2.2.2.2.2.2.2.2.2.2.2.2.2.2.2.2.1 r21.1)) rfl dX2_wentLine_61 ?_
              refine lv_istore_n (lv' := [(2, .int (r28.2.2.2.2.2.2.2.2.2.2.2.2.2.2.2.2.2.2.2.2.2.2.1 r21.1)), (3, .ref (u29.2.2.2.1 r21.1)), (1, .ref (u29.2.2.2.1 r4.1)), (0, .ref (za 0))]) hx hb dX2_wentLine_64 rfl hl (by decide) rfl (fun ls hl => ?_)
              have hl := lv_sub (l' := [(2, .int (r28.2.2.2.2.2.2.2.2.2.2.2.2.2.2.2.2.2.2.2.2.2.2.1 r21.1)), (1, .ref (u29.2.2.2.1 r4.1)), (0, .ref (za 0))]) hl [0, 2, 3] rfl
              refine lv_aload_n hx hb dX2_wentLine_65 rfl (lv_at hl 1 rfl) ?_
              refine lv_iload_n hx hb dX2_wentLine_66 rfl (lv_at hl 0 rfl) ?_
              obtain ⟨h35, hM⟩ := gn_inv hM
              obtain ⟨h36, hM⟩ := gn_inv hM
              refine zz_put6 hx hb hts hown hK hP hD hS h35 h36 (r28.2.2.2.2.2.2.2.2.2.2.2.2.2.2.2.2.2.2.2.2.2.2.1 r21.1) (hts _ q765) dX2_wentLine_67 (fun H locs hP hD hS => ?_)
              have hP : va_P D clG (zw dA za k9 tx u29 (r28.1, r28.2.1, r28.2.2.1, r28.2.2.2.1, r28.2.2.2.2.1, r28.2.2.2.2.2.1, r28.2.2.2.2.2.2.1, r28.2.2.2.2.2.2.2.1, r28.2.2.2.2.2.2.2.2.1, r28.2.2.2.2.2.2.2.2.2.1, r28.2.2.2.2.2.2.2.2.2.2.1, r28.2.2.2.2.2.2.2.2.2.2.2.1, r28.2.2.2.2.2.2.2.2.2.2.2.2.1, r28.2.2.2.2.2.2.2.2.2.2.2.2.2.1, r28.2.2.2.2.2.2.2.2.2.2.2.2.2.2.1, r28.2.2.2.2.2.2.2.2.2.2.2.2.2.2.2.1, r28.2.2.2.2.2.2.2.2.2.2.2.2.2.2.2.2.1, r28.2.2.2.2.2.2.2.2.2.2.2.2.2.2.2.2.2.1, r28.2.2.2.2.2.2.2.2.2.2.2.2.2.2.2.2.2.2.1, r28.2.2.2.2.2.2.2.2.2.2.2.2.2.2.2.2.2.2.2.1, r28.2.2.2.2.2.2.2.2.2.2.2.2.2.2.2.2.2.2.2.2.1, r28.2.2.2.2.2.2.2.2.2.2.2.2.2.2.2.2.2.2.2.2.2.1, r28.2.2.2.2.2.2.2.2.2.2.2.2.2.2.2.2.2.2.2.2.2.2.1, r28.2.2.2.2.2.2.2.2.2.2.2.2.2.2.2.2.2.2.2.2.2.2.2.1, r28.2.2.2.2.2.2.2.2.2.2.2.2.2.2.2.2.2.2.2.2.2.2.2.2.1, r28.2.2.2.2.2.2.2.2.2.2.2.2.2.2.2.2.2.2.2.2.2.2.2.2.2.1, r28.2.2.2.2.2.2.2.2.2.2.2.2.2.2.2.2.2.2.2.2.2.2.2.2.2.2.1, (upd r28.2.2.2.2.2.2.2.2.2.2.2.2.2.2.2.2.2.2.2.2.2.2.2.2.2.2.2.1 r4.1 (r28.2.2.2.2.2.2.2.2.2.2.2.2.2.2.2.2.2.2.2.2.2.2.1 r21.1)), r28.2.2.2.2.2.2.2.2.2.2.2.2.2.2.2.2.2.2.2.2.2.2.2.2.2.2.2.2.1, r28.2.2.2.2.2.2.2.2.2.2.2.2.2.2.2.2.2.2.2.2.2.2.2.2.2.2.2.2.2.1, r28.2.2.2.2.2.2.2.2.2.2.2.2.2.2.2.2.2.2.2.2.2.2.2.2.2.2.2.2.2.2.1, r28.2.2.2.2.2.2.2.2.2.2.2.2.2.2.2.2.2.2.2.2.2.2.2.2.2.2.2.2.2.2.2)) H := hP
              have hD : va_D A (zw dA za k9 tx u29 (r28.1, r28.2.1, r28.2.2.1, r28.2.2.2.1, r28.2.2.2.2.1, r28.2.2.2.2.2.1, r28.2.2.2.2.2.2.1, r28.2.2.2.2.2.2.2.1, r28.2.2.2.2.2.2.2.2.1, r28.2.2.2.2.2.2.2.2.2.1, r28.2.2.2.2.2.2.2.2.2.2.1, r28.2.2.2.2.2.2.2.2.2.2.2.1, r28.2.2.2.2.2.2.2.2.2.2.2.2.1, r28.2.2.2.2.2.2.2.2.2.2.2.2.2.1, r28.2.2.2.2.2.2.2.2.2.2.2.2.2.2.1, r28.2.2.2.2.2.2.2.2.2.2.2.2.2.2.2.1, r28.2.2.2.2.2.2.2.2.2.2.2.2.2.2.2.2.1, r28.2.2.2.2.2.2.2.2.2.2.2.2.2.2.2.2.2.1, r28.2.2.2.2.2.2.2.2.2.2.2.2.2.2.2.2.2.2.1, r28.2.2.2.2.2.2.2.2.2.2.2.2.2.2.2.2.2.2.2.1, r28.2.2.2.2.2.2.2.2.2.2.2.2.2.2.2.2.2.2.2.2.1, r28.2.2.2.2.2.2.2.2.2.2.2.2.2.2.2.2.2.2.2.2.2.1, r28.2.2.2.2.2.2.2.2.2.2.2.2.2.2.2.2.2.2.2.2.2.2.1, r28.2.2.2.2.2.2.2.2.2.2.2.2.2.2.2.2.2.2.2.2.2.2.2.1, r28.2.2.2.2.2.2.2.2.2.2.2.2.2.2.2.2.2.2.2.2.2.2.2.2.1, r28.2.2.2.2.2.2.2.2.2.2.2.2.2.2.2.2.2.2.2.2.2.2.2.2.2.1, r28.2.2.2.2.2.2.2.2.2.2.2.2.2.2.2.2.2.2.2.2.2.2.2.2.2.2.1, (upd r28.2.2.2.2.2.2.2.2.2.2.2.2.2.2.2.2.2.2.2.2.2.2.2.2.2.2.2.1 r4.1 (r28.2.2.2.2.2.2.2.2.2.2.2.2.2.2.2.2.2.2.2.2.2.2.1 r21.1)), r28.2.2.2.2.2.2.2.2.2.2.2.2.2.2.2.2.2.2.2.2.2.2.2.2.2.2.2.2.1, r28.2.2.2.2.2.2.2.2.2.2.2.2.2.2.2.2.2.2.2.2.2.2.2.2.2.2.2.2.2.1, r28.2.2.2.2.2.2.2.2.2.2.2.2.2.2.2.2.2.2.2.2.2.2.2.2.2.2.2.2.2.2.1, r28.2.2.2.2.2.2.2.2.2.2.2.2.2.2.2.2.2.2.2.2.2.2.2.2.2.2.2.2.2.2.2)) := hD
              refine lv_aload_n hx hb dX2_wentLine_70 rfl (lv_at hl 2 rfl) ?_
              refine va_get (D := D) (ci := 1) (v := .ref (za 4)) (C := RX2) (T := TX2) (N := 11) hx hb hts in_X2 hown hK.1 hP 0 rfl rfl 9 (by decide) (hts _ q235) (fun _ h9 => h9) rfl dX2_wentLine_71 ?_
              refine lv_dup hx hb dX2_wentLine_74 rfl ?_
              refine va_get (D := D) (ci := 6) (v := .int r28.2.2.2.2.2.2.2.2.2.2.2.2.2.1) (C := RX8) (T := TX8) (N := 13) hx hb hts in_X8 hown hK.1 hP 4 rfl rfl 12 (by decide) (hts _ q492) (fun _ h9 => h9) rfl dX2_wentLine_75 ?_
              refine lv_iconst (v := (1 : Int32)) hx hb dX2_wentLine_78 (by decide) ?_
              refine lv_iadd hx hb dX2_wentLine_79 ?_
              obtain ⟨v1_, hv1_⟩ : ∃ v_ : Int32, v_ = (r28.2.2.2.2.2.2.2.2.2.2.2.2.2.1 + (1 : Int32)) := ⟨_, rfl⟩
              rw [← hv1_]
              try rw [← hv1_] at hM
              refine va_put (D := D) (ci := 6) (v := .int v1_) (ty := .int) (C := RX8) (T := TX8) (N := 13) hx hb hts in_X8 tyX8 tyX8_ok nmX8 hown hK.1 hP hD hS 4 rfl rfl 12 (by decide) (hts _ q492) (fun _ h9 => h9) rfl (by decide +kernel) rfl rfl (Nat.le_of_ble_eq_true rfl) dX2_wentLine_80 (fun H locs hP hD hS => ?_)
              have hP : va_P D clG (zw dA za k9 tx u29 (r28.1, r28.2.1, r28.2.2.1, r28.2.2.2.1, r28.2.2.2.2.1, r28.2.2.2.2.2.1, r28.2.2.2.2.2.2.1, r28.2.2.2.2.2.2.2.1, r28.2.2.2.2.2.2.2.2.1, r28.2.2.2.2.2.2.2.2.2.1, r28.2.2.2.2.2.2.2.2.2.2.1, r28.2.2.2.2.2.2.2.2.2.2.2.1, r28.2.2.2.2.2.2.2.2.2.2.2.2.1, v1_, r28.2.2.2.2.2.2.2.2.2.2.2.2.2.2.1, r28.2.2.2.2.2.2.2.2.2.2.2.2.2.2.2.1, r28.2.2.2.2.2.2.2.2.2.2.2.2.2.2.2.2.1, r28.2.2.2.2.2.2.2.2.2.2.2.2.2.2.2.2.2.1, r28.2.2.2.2.2.2.2.2.2.2.2.2.2.2.2.2.2.2.1, r28.2.2.2.2.2.2.2.2.2.2.2.2.2.2.2.2.2.2.2.1, r28.2.2.2.2.2.2.2.2.2.2.2.2.2.2.2.2.2.2.2.2.1, r28.2.2.2.2.2.2.2.2.2.2.2.2.2.2.2.2.2.2.2.2.2.1, r28.2.2.2.2.2.2.2.2.2.2.2.2.2.2.2.2.2.2.2.2.2.2.1, r28.2.2.2.2.2.2.2.2.2.2.2.2.2.2.2.2.2.2.2.2.2.2.2.1, r28.2.2.2.2.2.2.2.2.2.2.2.2.2.2.2.2.2.2.2.2.2.2.2.2.1, r28.2.2.2.2.2.2.2.2.2.2.2.2.2.2.2.2.2.2.2.2.2.2.2.2.2.1, r28.2.2.2.2.2.2.2.2.2.2.2.2.2.2.2.2.2.2.2.2.2.2.2.2.2.2.1, (upd r28.2.2.2.2.2.2.2.2.2.2.2.2.2.2.2.2.2.2.2.2.2.2.2.2.2.2.2.1 r4.1 (r28.2.2.2.2.2.2.2.2.2.2.2.2.2.2.2.2.2.2.2.2.2.2.1 r21.1)), r28.2.2.2.2.2.2.2.2.2.2.2.2.2.2.2.2.2.2.2.2.2.2.2.2.2.2.2.2.1, r28.2.2.2.2.2.2.2.2.2.2.2.2.2.2.2.2.2.2.2.2.2.2.2.2.2.2.2.2.2.1, r28.2.2.2.2.2.2.2.2.2.2.2.2.2.2.2.2.2.2.2.2.2.2.2.2.2.2.2.2.2.2.1, r28.2.2.2.2.2.2.2.2.2.2.2.2.2.2.2.2.2.2.2.2.2.2.2.2.2.2.2.2.2.2.2)) H := zP_set hP (Nat.le_of_ble_eq_true rfl) rfl rfl
              have hD : va_D A (zw dA za k9 tx u29 (r28.1, r28.2.1, r28.2.2.1, r28.2.2.2.1, r28.2.2.2.2.1, r28.2.2.2.2.2.1, r28.2.2.2.2.2.2.1, r28.2.2.2.2.2.2.2.1, r28.2.2.2.2.2.2.2.2.1, r28.2.2.2.2.2.2.2.2.2.1, r28.2.2.2.2.2.2.2.2.2.2.1, r28.2.2.2.2.2.2.2.2.2.2.2.1, r28.2.2.2.2.2.2.2.2.2.2.2.2.1, v1_, r28.2.2.2.2.2.2.2.2.2.2.2.2.2.2.1, r28.2.2.2.2.2.2.2.2.2.2.2.2.2.2.2.1, r28.2.2.2.2.2.2.2.2.2.2.2.2.2.2.2.2.1, r28.2.2.2.2.2.2.2.2.2.2.2.2.2.2.2.2.2.1, r28.2.2.2.2.2.2.2.2.2.2.2.2.2.2.2.2.2.2.1, r28.2.2.2.2.2.2.2.2.2.2.2.2.2.2.2.2.2.2.2.1, r28.2.2.2.2.2.2.2.2.2.2.2.2.2.2.2.2.2.2.2.2.1, r28.2.2.2.2.2.2.2.2.2.2.2.2.2.2.2.2.2.2.2.2.2.1, r28.2.2.2.2.2.2.2.2.2.2.2.2.2.2.2.2.2.2.2.2.2.2.1, r28.2.2.2.2.2.2.2.2.2.2.2.2.2.2.2.2.2.2.2.2.2.2.2.1, r28.2.2.2.2.2.2.2.2.2.2.2.2.2.2.2.2.2.2.2.2.2.2.2.2.1, r28.2.2.2.2.2.2.2.2.2.2.2.2.2.2.2.2.2.2.2.2.2.2.2.2.2.1, r28.2.2.2.2.2.2.2.2.2.2.2.2.2.2.2.2.2.2.2.2.2.2.2.2.2.2.1, (upd r28.2.2.2.2.2.2.2.2.2.2.2.2.2.2.2.2.2.2.2.2.2.2.2.2.2.2.2.1 r4.1 (r28.2.2.2.2.2.2.2.2.2.2.2.2.2.2.2.2.2.2.2.2.2.2.1 r21.1)), r28.2.2.2.2.2.2.2.2.2.2.2.2.2.2.2.2.2.2.2.2.2.2.2.2.2.2.2.2.1, r28.2.2.2.2.2.2.2.2.2.2.2.2.2.2.2.2.2.2.2.2.2.2.2.2.2.2.2.2.2.1, r28.2.2.2.2.2.2.2.2.2.2.2.2.2.2.2.2.2.2.2.2.2.2.2.2.2.2.2.2.2.2.1, r28.2.2.2.2.2.2.2.2.2.2.2.2.2.2.2.2.2.2.2.2.2.2.2.2.2.2.2.2.2.2.2)) := zD_set hD (Nat.le_of_ble_eq_true rfl) rfl rfl
              cases hM
            · have c_c27 := zpa_inj hD h25 h26 (Option.some.inj c27)
              rw [if_pos c_c27] at hM
              refine lv_aload_n hx hb dX2_wentLine_50 rfl (lv_at hl 2 rfl) ?_
              refine lv_iconst (v := (3 : Int32)) hx hb dX2_wentLine_51 (by decide) ?_
              have er37 : MX2_fail (3 : Int32) r21.2.2.2.1 = some ((3 : Int32), r21.2.2.2.1) := rfl
              refine k_r0 [0, 1] (va_runV (As := [.int (3 : Int32)]) (rest := []) ⟨hx, hb, hml, hown, hts⟩ (ctX2_fail l D dA _ (za 0) (za 1) (3 : Int32) k9.1 r21.2.1 r21.2.2.1 r21.2.2.2.1 r21.2.2.2.2.1 0 k9.2.1 k9.2.2 (.ref (za 2)) (.ref (za 3)) (zwv u22 r21.2.2.2.2.2.1) (.ref (za 4)) (zav u22 r21.2.2.2.2.2.2.1) .null .null .null .null .null _ er37) (cwV 1 hts (lw_V q619 q621 qs7 q114 q622) rfl rfl rfl (by decide +kernel) ⟨Nat.le_of_ble_eq_true rfl, Nat.le_of_ble_eq_true rfl⟩) (pre_V (hP.sub [0, 1] rfl) hK (hD.sub [0, 1] (by decide) rfl) (ci := 1) (q0 := 0) rfl rfl) rfl rfl hl.1 rfl (lv_room (Nat.le_of_ble_eq_true rfl)) dX2_wentLine_52 ⟨Nat.le_of_ble_eq_true rfl, Nat.le_of_ble_eq_true rfl⟩) hP hD hS hA rfl (fun _ => rfl) (fun u38 H locs hP hD hS => ?_)
              have hP : va_P D clG (zw dA za (k9.1, (3 : Int32), r21.2.2.2.1) tx u22 r21.2) H := hP
              have hD : va_D A (zw dA za (k9.1, (3 : Int32), r21.2.2.2.1) tx u22 r21.2) := hD
              have hM := Sum.inl.inj (Option.some.inj hM)
              subst hM
              exact z_throw hx hb dX2_wentLine_55 hK hP hD hS hout hlocks rfl (Nat.le_of_ble_eq_true rfl) (Nat.le_of_ble_eq_true rfl)
      · rw [if_neg c9] at hM
        refine lv_aload_n hx hb dX2_wentLine_18 rfl (lv_at hl 1 rfl) ?_
        refine lv_iconst (v := (3 : Int32)) hx hb dX2_wentLine_19 (by decide) ?_
        have er39 : MX2_fail (3 : Int32) r4.2.2.2.1 = some ((3 : Int32), r4.2.2.2.1) := rfl
        refine k_r0 [0, 1] (va_runV (As := [.int (3 : Int32)]) (rest := []) ⟨hx, hb, hml, hown, hts⟩ (ctX2_fail l D dA _ (za 0) (za 1) (3 : Int32) k9.1 r4.2.1 r4.2.2.1 r4.2.2.2.1 r4.2.2.2.2.1 0 k9.2.1 k9.2.2 (.ref (za 2)) (.ref (za 3)) (zwv u5 r4.2.2.2.2.2.1) (.ref (za 4)) (zav u5 r4.2.2.2.2.2.2.1) .null .null .null .null .null _ er39) (cwV 1 hts (lw_V q619 q621 qs7 q114 q622) rfl rfl rfl (by decide +kernel) ⟨Nat.le_of_ble_eq_true rfl, Nat.le_of_ble_eq_true rfl⟩) (pre_V (hP.sub [0, 1] rfl) hK (hD.sub [0, 1] (by decide) rfl) (ci := 1) (q0 := 0) rfl rfl) rfl rfl hl.1 rfl (lv_room (Nat.le_of_ble_eq_true rfl)) dX2_wentLine_20 ⟨Nat.le_of_ble_eq_true rfl, Nat.le_of_ble_eq_true rfl⟩) hP hD hS hA rfl (fun _ => rfl) (fun u40 H locs hP hD hS => ?_)
        have hP : va_P D clG (zw dA za (k9.1, (3 : Int32), r4.2.2.2.1) tx u5 r4.2) H := hP
        have hD : va_D A (zw dA za (k9.1, (3 : Int32), r4.2.2.2.1) tx u5 r4.2) := hD
        have hM := Sum.inl.inj (Option.some.inj hM)
        subst hM
        exact z_throw hx hb dX2_wentLine_23 hK hP hD hS hout hlocks rfl (Nat.le_of_ble_eq_true rfl) (Nat.le_of_ble_eq_true rfl)
set_option maxHeartbeats 40000000 in
theorem ctZ_personOf (l : Launch) (D : va_G) (dA : Nat → ClassId) (sz : Nat) (za : Nat → Nat) (h : ZH) (tx : AI) (k9 : Int32 × Int32 × Int32) (ka kv : Nat → Nat) (s : ZS) (p0 : Nat) (p1 : Int32) (r : (Nat × ZS)) (hM : MZ_personOf tx k9.1 s p0 p1 = some (.inr r)) : Met l yX2_personOf (ws_ yX2_personOf cX2_personOf 3 (some (.object "LastAsked$Person"))) ({ frames := 8, cells := 9, slots := 55, locals := 347 }) (preX D dA (ZE ka kv) [.ref (za 0), .ref (h.1 p0), .int p1] (zw dA za k9 tx h s) sz) (qz_ D (fun (u : ZH) => some (.ref (u.2.2.2.1 r.1))) (fun u => zext h u s r.2) (fun u => zw dA za k9 tx u r.2) (va_A (zw dA za k9 tx h s) sz)) 9 55 (va_A (zw dA za k9 tx h s) sz) := by
  refine Met.ofW (cc := cX2_personOf) (maxL := 3) (ret := (some (.object "LastAsked$Person"))) (by decide) rfl ?_
  intro p e s0 m args below meth c s₁ B hml hv
  obtain ⟨rfl, hsz, hP, hK, hD0, hE⟩ := hv
  have hx := B.exec
  have hb := B.bytes
  have hr := B.returns
  have hts := atoms_spec (ws := (ws_ yX2_personOf cX2_personOf 3 (some (.object "LastAsked$Person")))) B.pre
  have hts : ∀ w ∈ lw_all, w.before _ s0 = true := fun w h => hts w (List.mem_cons_of_mem _ h)
  have hown : s0.vm.findClass RX2 = some m.cls := findClass_of_methodNamed B.named
  have hlocks := B.notSynchronized
  subst hsz
  have hD := hD0.self (sz := s0.heap.size)
  generalize hAe : va_A (zw dA za k9 tx h s) s0.heap.size = A at hD hE ⊢
  have hA : ∀ q : Nat, s0.heap.size ≤ q → A q := fun q h => by rw [← hAe]; exact Or.inr h
  have hS : va_S A s0.heap s0.heap [] := va_S.rf
  have hl := lv_entry ([.ref (za 0), .ref (h.1 p0), .int p1]) (n := 3) (Nat.le_of_ble_eq_true rfl)
  rw [lg_entry_eq]
  generalize (lg_sl ([.ref (za 0), .ref (h.1 p0), .int p1]) ++ List.replicate (3 - (lg_sl ([.ref (za 0), .ref (h.1 p0), .int p1])).length) Slot.unset).toArray = ls at hl ⊢
  have hl : lv_has ls 3 [(0, .ref (za 0)), (1, .ref (h.1 p0)), (2, .int p1)] := hl
  unfold MZ_personOf at hM
  refine lv_aload_n hx hb dX2_personOf_0 rfl (lv_at hl 0 rfl) ?_
  refine va_ldcS hx hb hown (hE.2.2.1 10 (Nat.zero_le _) (by decide)) dX2_personOf_1 ?_
  obtain ⟨h4, hM⟩ := gn_inv hM
  obtain ⟨r1, er1, hM⟩ := b_inv hM
  refine k_w (va_runV (As := [.ref (ka 10)]) (rest := []) ⟨hx, hb, hml, hown, hts⟩ (ctZ_takes l D dA _ za h tx k9 ka kv s 10 r1 er1 (by decide)) (cwV 1 hts (lw_V q707 q709 qs11 q114 q710) rfl rfl rfl (by decide +kernel) ⟨Nat.le_of_ble_eq_true rfl, Nat.le_of_ble_eq_true rfl⟩) (preX_V ZE_ok hP hK hD (ev_at ZE_ok hE hS (w_free hD hS hA)) hP (ci := 1) (q0 := 0) rfl rfl) rfl rfl hl.1 rfl (lv_room (Nat.le_of_ble_eq_true rfl)) dX2_personOf_3 ⟨Nat.le_of_ble_eq_true rfl, Nat.le_of_ble_eq_true rfl⟩) hD hS hA (fun u2 H locs x3 hP hD hS => ?_)
  have hl : lv_has ls 3 [(0, .ref (za 0)), (1, .ref (u2.1 p0)), (2, .int p1)] := by simp only [x3.1 p0 h4]; exact hl
  refine W.widen (k := 2) (n := 12) (Nat.le_of_ble_eq_true rfl) (Nat.le_of_ble_eq_true rfl) ?_
  refine W.eq (g2 := F0 m 6 ls [.int (b2i r1.1)]) (by first | rfl | (rfl; rfl) | (rfl) | (simp only [*]; rfl) | simp only [*]) ?_
  refine lv_if_eq (tgt := 19) hx hb dX2_personOf_6 (by decide) (fun c5 => ?_) (fun c5 => ?_)
  · rw [if_pos c5] at hM
    refine lv_aload_n hx hb dX2_personOf_19 rfl (lv_at hl 0 rfl) ?_
    refine va_ldcS hx hb hown (hE.2.2.1 11 (Nat.zero_le _) (by decide)) dX2_personOf_20 ?_
    obtain ⟨h9, hM⟩ := gn_inv hM
    obtain ⟨r6, er6, hM⟩ := b_inv hM
    refine k_w (va_runV (As := [.ref (ka 11)]) (rest := []) ⟨hx, hb, hml, hown, hts⟩ (ctZ_takes l D dA _ za u2 tx k9 ka kv r1.2 11 r6 er6 (by decide)) (cwV 1 hts (lw_V q707 q709 qs11 q114 q710) rfl rfl rfl (by decide +kernel) ⟨Nat.le_of_ble_eq_true rfl, Nat.le_of_ble_eq_true rfl⟩) (preX_V ZE_ok hP hK hD (ev_at ZE_ok hE hS (w_free hD hS hA)) hP (ci := 1) (q0 := 0) rfl rfl) rfl rfl hl.1 rfl (lv_room (Nat.le_of_ble_eq_true rfl)) dX2_personOf_22 ⟨Nat.le_of_ble_eq_true rfl, Nat.le_of_ble_eq_true rfl⟩) hD hS hA (fun u7 H locs x8 hP hD hS => ?_)
    have hl : lv_has ls 3 [(0, .ref (za 0)), (1, .ref (u7.1 p0)), (2, .int p1)] := by simp only [x8.1 p0 h9]; exact hl
    refine W.widen (k := 4) (n := 24) (Nat.le_of_ble_eq_true rfl) (Nat.le_of_ble_eq_true rfl) ?_
    refine W.eq (g2 := F0 m 25 ls [.int (b2i r6.1)]) (by first | rfl | (rfl; rfl) | (rfl) | (simp only [*]; rfl) | simp only [*]) ?_
    refine lv_if_eq (tgt := 38) hx hb dX2_personOf_25 (by decide) (fun c10 => ?_) (fun c10 => ?_)
    · rw [if_pos c10] at hM
      refine lv_aload_n hx hb dX2_personOf_38 rfl (lv_at hl 0 rfl) ?_
      refine va_ldcS hx hb hown (hE.2.2.1 12 (Nat.zero_le _) (by decide)) dX2_personOf_39 ?_
      obtain ⟨h14, hM⟩ := gn_inv hM
      obtain ⟨r11, er11, hM⟩ := b_inv hM
      refine k_w (va_runV (As := [.ref (ka 12)]) (rest := []) ⟨hx, hb, hml, hown, hts⟩ (ctZ_takes l D dA _ za u7 tx k9 ka kv r6.2 12 r11 er11 (by decide)) (cwV 1 hts (lw_V q707 q709 qs11 q114 q710) rfl rfl rfl (by decide +kernel) ⟨Nat.le_of_ble_eq_true rfl, Nat.le_of_ble_eq_true rfl⟩) (preX_V ZE_ok hP hK hD (ev_at ZE_ok hE hS (w_free hD hS hA)) hP (ci := 1) (q0 := 0) rfl rfl) rfl rfl hl.1 rfl (lv_room (Nat.le_of_ble_eq_true rfl)) dX2_personOf_41 ⟨Nat.le_of_ble_eq_true rfl, Nat.le_of_ble_eq_true rfl⟩) hD hS hA (fun u12 H locs x13 hP hD hS => ?_)
      have hl : lv_has ls 3 [(0, .ref (za 0)), (1, .ref (u12.1 p0)), (2, .int p1)] := by simp only [x13.1 p0 h14]; exact hl
      refine W.widen (k := 6) (n := 36) (Nat.le_of_ble_eq_true rfl) (Nat.le_of_ble_eq_true rfl) ?_
      refine W.eq (g2 := F0 m 44 ls [.int (b2i r11.1)]) (by first | rfl | (rfl; rfl) | (rfl) | (simp only [*]; rfl) | simp only [*]) ?_
      refine lv_if_eq (tgt := 57) hx hb dX2_personOf_44 (by decide) (fun c15 => ?_) (fun c15 => ?_)
      · rw [if_pos c15] at hM
        refine lv_aload_n hx hb dX2_personOf_57 rfl (lv_at hl 0 rfl) ?_
        refine va_ldcS hx hb hown (hE.2.2.1 13 (Nat.zero_le _) (by decide)) dX2_personOf_58 ?_
        obtain ⟨h19, hM⟩ := gn_inv hM
        obtain ⟨r16_, er16, hM⟩ := b_inv hM
        cases r16_ with
        | inl e9 =>
          dsimp only at hM
          cases hM
        | inr r16 =>
          dsimp only at hM
          refine k_w (va_runV (As := [.ref (ka 13)]) (rest := []) ⟨hx, hb, hml, hown, hts⟩ (ctZ_must l D dA _ za u12 tx k9 ka kv r11.2 13 r16 er16 (by decide)) (cwV 1 hts (lw_V q703 q705 qs10 q114 q706) rfl rfl rfl (by decide +kernel) ⟨Nat.le_of_ble_eq_true rfl, Nat.le_of_ble_eq_true rfl⟩) (preX_V ZE_ok hP hK hD (ev_at ZE_ok hE hS (w_free hD hS hA)) hP (ci := 1) (q0 := 0) rfl rfl) rfl rfl hl.1 rfl (lv_room (Nat.le_of_ble_eq_true rfl)) dX2_personOf_60 ⟨Nat.le_of_ble_eq_true rfl, Nat.le_of_ble_eq_true rfl⟩) hD hS hA (fun u17 H locs x18 hP hD hS => ?_)
          have hl : lv_has ls 3 [(0, .ref (za 0)), (1, .ref (u17.1 p0)), (2, .int p1)] := by simp only [x18.1 p0 h19]; exact hl
          refine W.widen (k := 8) (n := 48) (Nat.le_of_ble_eq_true rfl) (Nat.le_of_ble_eq_true rfl) ?_
          refine W.eq (g2 := F0 m 63 ls []) (by first | rfl | (rfl; rfl) | (rfl) | (simp only [*]; rfl) | simp only [*]) ?_
          refine va_new (ci := 10) (fs := [.null, .int 0, .int 0, .int 0, .int 0, .int 0, .int 0]) (C := RX13) (T := TX13) (N := 7) hx hb hts in_X13 tyX13 tyX13_ok hown (hts _ q813) (hts _ q814) (hts _ q133) hK.1 hP hD hS hA rfl (fs_of rfl) (Nat.le_of_ble_eq_true rfl) (Nat.le_of_ble_eq_true rfl) dX2_personOf_63 (fun q20 H hP hD hS => ?_)
          have hP : va_P D clG ((zw dA za k9 tx u17 r16) ++ [(q20, .inr (10, [.null, .int 0, .int 0, .int 0, .int 0, .int 0, .int 0]))]) H := hP
          have hD : va_D A ((zw dA za k9 tx u17 r16) ++ [(q20, .inr (10, [.null, .int 0, .int 0, .int 0, .int 0, .int 0, .int 0]))]) := hD
          refine W.widen (k := 9) (n := 55) (Nat.le_of_ble_eq_true rfl) (Nat.le_of_ble_eq_true rfl) ?_
          refine lv_dup hx hb dX2_personOf_66 rfl ?_
          refine lv_aload_n hx hb dX2_personOf_67 rfl (lv_at hl 1 rfl) ?_
          refine lv_iload_n hx hb dX2_personOf_68 rfl (lv_at hl 2 rfl) ?_
          obtain ⟨h23, hM⟩ := gall_inv hM
          have er21 : MX13_init p1 = some (p1, (-1 : Int32)) := rfl
          have hC_ : [(zw dA za k9 tx u17 r16).length].map (fun i => ((zw dA za k9 tx u17 r16) ++ [(q20, .inr (10, [.null, .int 0, .int 0, .int 0, .int 0, .int 0, .int 0]))])[i]?) = ([(q20, (.inr (10, [.null, .int 0, .int 0, .int 0, .int 0, .int 0, .int 0]) : va_E))] : va_W).map some := by rw [List.map_cons, List.map_nil, List.getElem?_concat_length]; rfl
          have hP2_ : va_P D clG [(q20, (.inr (10, [.null, .int 0, .int 0, .int 0, .int 0, .int 0, .int 0]) : va_E))] H := one_P (hP _ _ List.getElem?_concat_length)
          have hD2_ : va_D A [(q20, (.inr (10, [.null, .int 0, .int 0, .int 0, .int 0, .int 0, .int 0]) : va_E))] := hD.sub [(zw dA za k9 tx u17 r16).length] (by simp [va_nd]) hC_
          refine k_v0 [(zw dA za k9 tx u17 r16).length] (va_runI (As := [.ref (u17.1 p0), .int p1]) (rest := [.ref q20]) ⟨hx, hb, hml, hown, hts⟩ (ctX13_init l D dA _ (u17.1 p0) q20 p1 (0) (0) (0) (0) (0) (0) (.null) _ er21) (cwI 2 hts (lw_meth q817) rfl rfl rfl (hts _ q133) (hts _ q815) (hts _ q816) rfl (by decide +kernel) ⟨Nat.le_of_ble_eq_true rfl, Nat.le_of_ble_eq_true rfl⟩) (pre_S hP2_ hK hD2_) rfl rfl hl.1 rfl (lv_room (Nat.le_of_ble_eq_true rfl)) dX2_personOf_69 ⟨Nat.le_of_ble_eq_true rfl, Nat.le_of_ble_eq_true rfl⟩) hP hD hS hA hC_ (fun _ => rfl) (fun u22 H locs hP hD hS => ?_)
          rw [putAt, putAt, List.set_append_right _ _ (Nat.le_refl _), Nat.sub_self] at hP hD
          have hP : va_P D clG (zw dA za k9 tx (hpers u17 r16 q20) (zpers r16 3 p0 p1)) H := by rw [← zw_pers h23.1 h23.2]; exact hP
          have hD : va_D A (zw dA za k9 tx (hpers u17 r16 q20) (zpers r16 3 p0 p1)) := by rw [← zw_pers h23.1 h23.2]; exact hD
          have x26 : zext u17 (hpers u17 r16 q20) r16 (zpers r16 3 p0 p1) := zext_pers
          have hP : va_P D clG (zw dA za k9 tx (hpers u17 r16 q20) (r16.1, r16.2.1, r16.2.2.1, r16.2.2.2.1, r16.2.2.2.2.1, r16.2.2.2.2.2.1, r16.2.2.2.2.2.2.1, r16.2.2.2.2.2.2.2.1, r16.2.2.2.2.2.2.2.2.1, r16.2.2.2.2.2.2.2.2.2.1, r16.2.2.2.2.2.2.2.2.2.2.1, r16.2.2.2.2.2.2.2.2.2.2.2.1, r16.2.2.2.2.2.2.2.2.2.2.2.2.1, r16.2.2.2.2.2.2.2.2.2.2.2.2.2.1, r16.2.2.2.2.2.2.2.2.2.2.2.2.2.2.1, r16.2.2.2.2.2.2.2.2.2.2.2.2.2.2.2.1, r16.2.2.2.2.2.2.2.2.2.2.2.2.2.2.2.2.1, r16.2.2.2.2.2.2.2.2.2.2.2.2.2.2.2.2.2.1, r16.2.2.2.2.2.2.2.2.2.2.2.2.2.2.2.2.2.2.1, (r16.2.2.2.2.2.2.2.2.2.2.2.2.2.2.2.2.2.2.2.1 + 1), (updF r16.2.2.2.2.2.2.2.2.2.2.2.2.2.2.2.2.2.2.2.2.1 r16.2.2.2.2.2.2.2.2.2.2.2.2.2.2.2.2.2.2.2.1 3), (updF r16.2.2.2.2.2.2.2.2.2.2.2.2.2.2.2.2.2.2.2.2.2.1 r16.2.2.2.2.2.2.2.2.2.2.2.2.2.2.2.2.2.2.2.1 p0), (upd r16.2.2.2.2.2.2.2.2.2.2.2.2.2.2.2.2.2.2.2.2.2.2.1 r16.2.2.2.2.2.2.2.2.2.2.2.2.2.2.2.2.2.2.2.1 p1), (upd r16.2.2.2.2.2.2.2.2.2.2.2.2.2.2.2.2.2.2.2.2.2.2.2.1 r16.2.2.2.2.2.2.2.2.2.2.2.2.2.2.2.2.2.2.2.1 0), (upd r16.2.2.2.2.2.2.2.2.2.2.2.2.2.2.2.2.2.2.2.2.2.2.2.2.1 r16.2.2.2.2.2.2.2.2.2.2.2.2.2.2.2.2.2.2.2.1 0), (upd r16.2.2.2.2.2.2.2.2.2.2.2.2.2.2.2.2.2.2.2.2.2.2.2.2.2.1 r16.2.2.2.2.2.2.2.2.2.2.2.2.2.2.2.2.2.2.2.1 0), (upd r16.2.2.2.2.2.2.2.2.2.2.2.2.2.2.2.2.2.2.2.2.2.2.2.2.2.2.1 r16.2.2.2.2.2.2.2.2.2.2.2.2.2.2.2.2.2.2.2.1 0), (upd r16.2.2.2.2.2.2.2.2.2.2.2.2.2.2.2.2.2.2.2.2.2.2.2.2.2.2.2.1 r16.2.2.2.2.2.2.2.2.2.2.2.2.2.2.2.2.2.2.2.1 (-1)), r16.2.2.2.2.2.2.2.2.2.2.2.2.2.2.2.2.2.2.2.2.2.2.2.2.2.2.2.2.1, r16.2.2.2.2.2.2.2.2.2.2.2.2.2.2.2.2.2.2.2.2.2.2.2.2.2.2.2.2.2.1, r16.2.2.2.2.2.2.2.2.2.2.2.2.2.2.2.2.2.2.2.2.2.2.2.2.2.2.2.2.2.2.1, r16.2.2.2.2.2.2.2.2.2.2.2.2.2.2.2.2.2.2.2.2.2.2.2.2.2.2.2.2.2.2.2)) H := hP
          have hD : va_D A (zw dA za k9 tx (hpers u17 r16 q20) (r16.1, r16.2.1, r16.2.2.1, r16.2.2.2.1, r16.2.2.2.2.1, r16.2.2.2.2.2.1, r16.2.2.2.2.2.2.1, r16.2.2.2.2.2.2.2.1, r16.2.2.2.2.2.2.2.2.1, r16.2.2.2.2.2.2.2.2.2.1, r16.2.2.2.2.2.2.2.2.2.2.1, r16.2.2.2.2.2.2.2.2.2.2.2.1, r16.2.2.2.2.2.2.2.2.2.2.2.2.1, r16.2.2.2.2.2.2.2.2.2.2.2.2.2.1, r16.2.2.2.2.2.2.2.2.2.2.2.2.2.2.1, r16.2.2.2.2.2.2.2.2.2.2.2.2.2.2.2.1, r16.2.2.2.2.2.2.2.2.2.2.2.2.2.2.2.2.1, r16.2.2.2.2.2.2.2.2.2.2.2.2.2.2.2.2.2.1, r16.2.2.2.2.2.2.2.2.2.2.2.2.2.2.2.2.2.2.1, (r16.2.2.2.2.2.2.2.2.2.2.2.2.2.2.2.2.2.2.2.1 + 1), (updF r16.2.2.2.2.2.2.2.2.2.2.2.2.2.2.2.2.2.2.2.2.1 r16.2.2.2.2.2.2.2.2.2.2.2.2.2.2.2.2.2.2.2.1 3), (updF r16.2.2.2.2.2.2.2.2.2.2.2.2.2.2.2.2.2.2.2.2.2.1 r16.2.2.2.2.2.2.2.2.2.2.2.2.2.2.2.2.2.2.2.1 p0), (upd r16.2.2.2.2.2.2.2.2.2.2.2.2.2.2.2.2.2.2.2.2.2.2.1 r16.2.2.2.2.2.2.2.2.2.2.2.2.2.2.2.2.2.2.2.1 p1), (upd r16.2.2.2.2.2.2.2.2.2.2.2.2.2.2.2.2.2.2.2.2.2.2.2.1 r16.2.2.2.2.2.2.2.2.2.2.2.2.2.2.2.2.2.2.2.1 0), (upd r16.2.2.2.2.2.2.2.2.2.2.2.2.2.2.2.2.2.2.2.2.2.2.2.2.1 r16.2.2.2.2.2.2.2.2.2.2.2.2.2.2.2.2.2.2.2.1 0), (upd r16.2.2.2.2.2.2.2.2.2.2.2.2.2.2.2.2.2.2.2.2.2.2.2.2.2.1 r16.2.2.2.2.2.2.2.2.2.2.2.2.2.2.2.2.2.2.2.1 0), (upd r16.2.2.2.2.2.2.2.2.2.2.2.2.2.2.2.2.2.2.2.2.2.2.2.2.2.2.1 r16.2.2.2.2.2.2.2.2.2.2.2.2.2.2.2.2.2.2.2.1 0), (upd r16.2.2.2.2.2.2.2.2.2.2.2.2.2.2.2.2.2.2.2.2.2.2.2.2.2.2.2.1 r16.2.2.2.2.2.2.2.2.2.2.2.2.2.2.2.2.2.2.2.1 (-1)), r16.2.2.2.2.2.2.2.2.2.2.2.2.2.2.2.2.2.2.2.2.2.2.2.2.2.2.2.2.1, r16.2.2.2.2.2.2.2.2.2.2.2.2.2.2.2.2.2.2.2.2.2.2.2.2.2.2.2.2.2.1, r16.2.2.2.2.2.2.2.2.2.2.2.2.2.2.2.2.2.2.2.2.2.2.2.2.2.2.2.2.2.2.1, r16.2.2.2.2.2.2.2.2.2.2.2.2.2.2.2.2.2.2.2.2.2.2.2.2.2.2.2.2.2.2.2)) := hD
          refine W.eq (g2 := F0 m 72 ls [.ref ((hpers u17 r16 q20).2.2.2.1 r16.2.2.2.2.2.2.2.2.2.2.2.2.2.2.2.2.2.2.2.1)]) (by simp only [hpers, updF_s]) ?_
          have hl : lv_has ls 3 [(0, .ref (za 0)), (1, .ref ((hpers u17 r16 q20).1 p0)), (2, .int p1)] := hl
          have hM := Sum.inr.inj (Option.some.inj hM)
          subst hM
          refine W.widen (k := 9) (n := 55) (Nat.le_of_ble_eq_true rfl) (Nat.le_of_ble_eq_true rfl) ?_
          exact W.aret (v := .ref ((hpers u17 r16 q20).2.2.2.1 r16.2.2.2.2.2.2.2.2.2.2.2.2.2.2.2.2.2.2.2.1)) hx hb hr (Or.inl ⟨_, rfl⟩) (Or.inr ⟨_, rfl⟩) (fun t ht hW => ⟨⟨(hpers u17 r16 q20), rfl, (zext_trans (zext_trans (zext_trans (zext_trans (zext_trans zext_rf x3) x8) x13) x18) x26), by rw [ht]; exact hP, hD⟩, hS.F ht⟩) hS.2.2 dX2_personOf_72
      · rw [if_neg c15] at hM
        refine va_new (ci := 9) (fs := [.null, .int 0, .int 0, .int 0, .int 0, .int 0, .int 0]) (C := RX12) (T := TX12) (N := 7) hx hb hts in_X12 tyX12 tyX12_ok hown (hts _ q798) (hts _ q799) (hts _ q132) hK.1 hP hD hS hA rfl (fs_of rfl) (Nat.le_of_ble_eq_true rfl) (Nat.le_of_ble_eq_true rfl) dX2_personOf_47 (fun q27 H hP hD hS => ?_)
        have hP : va_P D clG ((zw dA za k9 tx u12 r11.2) ++ [(q27, .inr (9, [.null, .int 0, .int 0, .int 0, .int 0, .int 0, .int 0]))]) H := hP
        have hD : va_D A ((zw dA za k9 tx u12 r11.2) ++ [(q27, .inr (9, [.null, .int 0, .int 0, .int 0, .int 0, .int 0, .int 0]))]) := hD
        refine W.widen (k := 7) (n := 43) (Nat.le_of_ble_eq_true rfl) (Nat.le_of_ble_eq_true rfl) ?_
        refine lv_dup hx hb dX2_personOf_50 rfl ?_
        refine lv_aload_n hx hb dX2_personOf_51 rfl (lv_at hl 1 rfl) ?_
        refine lv_iload_n hx hb dX2_personOf_52 rfl (lv_at hl 2 rfl) ?_
        obtain ⟨h30, hM⟩ := gall_inv hM
        have er28 : MX12_init p1 = some (p1, (-1 : Int32)) := rfl
        have hC_ : [(zw dA za k9 tx u12 r11.2).length].map (fun i => ((zw dA za k9 tx u12 r11.2) ++ [(q27, .inr (9, [.null, .int 0, .int 0, .int 0, .int 0, .int 0, .int 0]))])[i]?) = ([(q27, (.inr (9, [.null, .int 0, .int 0, .int 0, .int 0, .int 0, .int 0]) : va_E))] : va_W).map some := by rw [List.map_cons, List.map_nil, List.getElem?_concat_length]; rfl
        have hP2_ : va_P D clG [(q27, (.inr (9, [.null, .int 0, .int 0, .int 0, .int 0, .int 0, .int 0]) : va_E))] H := one_P (hP _ _ List.getElem?_concat_length)
        have hD2_ : va_D A [(q27, (.inr (9, [.null, .int 0, .int 0, .int 0, .int 0, .int 0, .int 0]) : va_E))] := hD.sub [(zw dA za k9 tx u12 r11.2).length] (by simp [va_nd]) hC_
        refine k_v0 [(zw dA za k9 tx u12 r11.2).length] (va_runI (As := [.ref (u12.1 p0), .int p1]) (rest := [.ref q27]) ⟨hx, hb, hml, hown, hts⟩ (ctX12_init l D dA _ (u12.1 p0) q27 p1 (0) (0) (0) (0) (0) (0) (.null) _ er28) (cwI 2 hts (lw_meth q802) rfl rfl rfl (hts _ q132) (hts _ q800) (hts _ q801) rfl (by decide +kernel) ⟨Nat.le_of_ble_eq_true rfl, Nat.le_of_ble_eq_true rfl⟩) (pre_S hP2_ hK hD2_) rfl rfl hl.1 rfl (lv_room (Nat.le_of_ble_eq_true rfl)) dX2_personOf_53 ⟨Nat.le_of_ble_eq_true rfl, Nat.le_of_ble_eq_true rfl⟩) hP hD hS hA hC_ (fun _ => rfl) (fun u29 H locs hP hD hS => ?_)
        rw [putAt, putAt, List.set_append_right _ _ (Nat.le_refl _), Nat.sub_self] at hP hD
        have hP : va_P D clG (zw dA za k9 tx (hpers u12 r11.2 q27) (zpers r11.2 2 p0 p1)) H := by rw [← zw_pers h30.1 h30.2]; exact hP
        have hD : va_D A (zw dA za k9 tx (hpers u12 r11.2 q27) (zpers r11.2 2 p0 p1)) := by rw [← zw_pers h30.1 h30.2]; exact hD
        have x33 : zext u12 (hpers u12 r11.2 q27) r11.2 (zpers r11.2 2 p0 p1) := zext_pers
        have hP : va_P D clG (zw dA za k9 tx (hpers u12 r11.2 q27) (r11.2.1, r11.2.2.1, r11.2.2.2.1, r11.2.2.2.2.1, r11.2.2.2.2.2.1, r11.2.2.2.2.2.2.1, r11.2.2.2.2.2.2.2.1, r11.2.2.2.2.2.2.2.2.1, r11.2.2.2.2.2.2.2.2.2.1, r11.2.2.2.2.2.2.2.2.2.2.1, r11.2.2.2.2.2.2.2.2.2.2.2.1, r11.2.2.2.2.2.2.2.2.2.2.2.2.1, r11.2.2.2.2.2.2.2.2.2.2.2.2.2.1, r11.2.2.2.2.2.2.2.2.2.2.2.2.2.2.1, r11.2.2.2.2.2.2.2.2.2.2.2.2.2.2.2.1, r11.2.2.2.2.2.2.2.2.2.2.2.2.2.2.2.2.1, r11.2.2.2.2.2.2.2.2.2.2.2.2.2.2.2.2.2.1, r11.2.2.2.2.2.2.2.2.2.2.2.2.2.2.2.2.2.2.1, r11.2.2.2.2.2.2.2.2.2.2.2.2.2.2.2.2.2.2.2.1, (r11.2.2.2.2.2.2.2.2.2.2.2.2.2.2.2.2.2.2.2.2.1 + 1), (updF r11.2.2.2.2.2.2.2.2.2.2.2.2.2.2.2.2.2.2.2.2.2.1 r11.2.2.2.2.2.2.2.2.2.2.2.2.2.2.2.2.2.2.2.2.1 2), (updF r11.2.2.2.2.2.2.2.2.2.2.2.2.2.2.2.2.2.2.2.2.2.2.1 r11.2.2.2.2.2.2.2.2.2.2.2.2.2.2.2.2.2.2.2.2.1 p0), (upd r11.2.2.2.2.2.2.2.2.2.2.2.2.2.2.2.2.2.2.2.2.2.2.2.1 r11.2.2.2.2.2.2.2.2.2.2.2.2.2.2.2.2.2.2.2.2.1 p1), (upd r11.2.2.2.2.2.2.2.2.2.2.2.2.2.2.2.2.2.2.2.2.2.2.2.2.1 r11.2.2.2.2.2.2.2.2.2.2.2.2.2.2.2.2.2.2.2.2.1 0), (upd r11.2.2.2.2.2.2.2.2.2.2.2.2.2.2.2.2.2.2.2.2.2.2.2.2.2.1 r11.2.2.2.2.2.2.2.2.2.2.2.2.2.2.2.2.2.2.2.2.1 0), (upd r11.2.2.2.2.2.2.2.2.2.2.2.2.2.2.2.2.2.2.2.2.2.2.2.2.2.2.1 r11.2.2.2.2.2.2.2.2.2.2.2.2.2.2.2.2.2.2.2.2.1 0), (upd r11.2.2.2.2.2.2.2.2.2.2.2.2.2.2.2.2.2.2.2.2.2.2.2.2.2.2.2.1 r11.2.2.2.2.2.2.2.2.2.2.2.2.2.2.2.2.2.2.2.2.1 0), (upd r11.2.2.2.2.2.2.2.2.2.2.2.2.2.2.2.2.2.2.2.2.2.2.2.2.2.2.2.2.1 r11.2.2.2.2.2.2.2.2.2.2.2.2.2.2.2.2.2.2.2.2.1 (-1)), r11.2.2.2.2.2.2.2.2.2.2.2.2.2.2.2.2.2.2.2.2.2.2.2.2.2.2.2.2.2.1, r11.2.2.2.2.2.2.2.2.2.2.2.2.2.2.2.2.2.2.2.2.2.2.2.2.2.2.2.2.2.2.1, r11.2.2.2.2.2.2.2.2.2.2.2.2.2.2.2.2.2.2.2.2.2.2.2.2.2.2.2.2.2.2.2.1, r11.2.2.2.2.2.2.2.2.2.2.2.2.2.2.2.2.2.2.2.2.2.2.2.2.2.2.2.2.2.2.2.2)) H := hP
        have hD : va_D A (zw dA za k9 tx (hpers u12 r11.2 q27) (r11.2.1, r11.2.2.1, r11.2.2.2.1, r11.2.2.2.2.1, r11.2.2.2.2.2.1, r11.2.2.2.2.2.2.1, r11.2.2.2.2.2.2.2.1, r11.2.2.2.2.2.2.2.2.1, r11.2.2.2.2.2.2.2.2.2.1, r11.2.2.2.2.2.2.2.2.2.2.1, r11.2.2.2.2.2.2.2.2.2.2.2.1, r11.2.2.2.2.2.2.2.2.2.2.2.2.1, r11.2.2.2.2.2.2.2.2.2.2.2.2.2.1, r11.2.2.2.2.2.2.2.2.2.2.2.2.2.2.1, r11.2.2.2.2.2.2.2.2.2.2.2.2.2.2.2.1, r11.2.2.2.2.2.2.2.2.2.2.2.2.2.2.2.2.1, r11.2.2.2.2.2.2.2.2.2.2.2.2.2.2.2.2.2.1, r11.2.2.2.2.2.2.2.2.2.2.2.2.2.2.2.2.2.2.1, r11.2.2.2.2.2.2.2.2.2.2.2.2.2.2.2.2.2.2.2.1, (r11.2.2.2.2.2.2.2.2.2.2.2.2.2.2.2.2.2.2.2.2.1 + 1), (updF r11.2.2.2.2.2.2.2.2.2.2.2.2.2.2.2.2.2.2.2.2.2.1 r11.2.2.2.2.2.2.2.2.2.2.2.2.2.2.2.2.2.2.2.2.1 2), (updF r11.2.2.2.2.2.2.2.2.2.2.2.2.2.2.2.2.2.2.2.2.2.2.1 r11.2.2.2.2.2.2.2.2.2.2.2.2.2.2.2.2.2.2.2.2.1 p0), (upd r11.2.2.2.2.2.2.2.2.2.2.2.2.2.2.2.2.2.2.2.2.2.2.2.1 r11.2.2.2.2.2.2.2.2.2.2.2.2.2.2.2.2.2.2.2.2.1 p1), (upd r11.2.2.2.2.2.2.2.2.2.2.2.2.2.2.2.2.2.2.2.2.2.2.2.2.1 r11.2.2.2.2.2.2.2.2.2.2.2.2.2.2.2.2.2.2.2.2.1 0), (upd r11.2.2.2.2.2.2.2.2.2.2.2.2.2.2.2.2.2.2.2.2.2.2.2.2.2.1 r11.2.2.2.2.2.2.2.2.2.2.2.2.2.2.2.2.2.2.2.2.1 0), (upd r11.2.2.2.2.2.2.2.2.2.2.2.2.2.2.2.2.2.2.2.2.2.2.2.2.2.2.1 r11.2.2.2.2.2.2.2.2.2.2.2.2.2.2.2.2.2.2.2.2.1 0), (upd r11.2.2.2.2.2.2.2.2.2.2.2.2.2.2.2.2.2.2.2.2.2.2.2.2.2.2.2.1 r11.2.2.2.2.2.2.2.2.2.2.2.2.2.2.2.2.2.2.2.2.1 0), (upd r11.2.2.2.2.2.2.2.2.2.2.2.2.2.2.2.2.2.2.2.2.2.2.2.2.2.2.2.2.1 r11.2.2.2.2.2.2.2.2.2.2.2.2.2.2.2.2.2.2.2.2.1 (-1)), r11.2.2.2.2.2.2.2.2.2.2.2.2.2.2.2.2.2.2.2.2.2.2.2.2.2.2.2.2.2.1, r11.2.2.2.2.2.2.2.2.2.2.2.2.2.2.2.2.2.2.2.2.2.2.2.2.2.2.2.2.2.2.1, r11.2.2.2.2.2.2.2.2.2.2.2.2.2.2.2.2.2.2.2.2.2.2.2.2.2.2.2.2.2.2.2.1, r11.2.2.2.2.2.2.2.2.2.2.2.2.2.2.2.2.2.2.2.2.2.2.2.2.2.2.2.2.2.2.2.2)) := hD
        refine W.eq (g2 := F0 m 56 ls [.ref ((hpers u12 r11.2 q27).2.2.2.1 r11.2.2.2.2.2.2.2.2.2.2.2.2.2.2.2.2.2.2.2.2.1)]) (by simp only [hpers, updF_s]) ?_
        have hl : lv_has ls 3 [(0, .ref (za 0)), (1, .ref ((hpers u12 r11.2 q27).1 p0)), (2, .int p1)] := hl
        have hM := Sum.inr.inj (Option.some.inj hM)
        subst hM
        refine W.widen (k := 9) (n := 55) (Nat.le_of_ble_eq_true rfl) (Nat.le_of_ble_eq_true rfl) ?_
        exact W.aret (v := .ref ((hpers u12 r11.2 q27).2.2.2.1 r11.2.2.2.2.2.2.2.2.2.2.2.2.2.2.2.2.2.2.2.2.1)) hx hb hr (Or.inl ⟨_, rfl⟩) (Or.inr ⟨_, rfl⟩) (fun t ht hW => ⟨⟨(hpers u12 r11.2 q27), rfl, (zext_trans (zext_trans (zext_trans (zext_trans zext_rf x3) x8) x13) x33), by rw [ht]; exact hP, hD⟩, hS.F ht⟩) hS.2.2 dX2_personOf_56
    · rw [if_neg c10] at hM
      refine va_new (ci := 8) (fs := [.null, .int 0, .int 0, .int 0, .int 0, .int 0, .int 0]) (C := RX11) (T := TX11) (N := 7) hx hb hts in_X11 tyX11 tyX11_ok hown (hts _ q783) (hts _ q784) (hts _ q131) hK.1 hP hD hS hA rfl (fs_of rfl) (Nat.le_of_ble_eq_true rfl) (Nat.le_of_ble_eq_true rfl) dX2_personOf_28 (fun q34 H hP hD hS => ?_)
      have hP : va_P D clG ((zw dA za k9 tx u7 r6.2) ++ [(q34, .inr (8, [.null, .int 0, .int 0, .int 0, .int 0, .int 0, .int 0]))]) H := hP
      have hD : va_D A ((zw dA za k9 tx u7 r6.2) ++ [(q34, .inr (8, [.null, .int 0, .int 0, .int 0, .int 0, .int 0, .int 0]))]) := hD
      refine W.widen (k := 5) (n := 31) (Nat.le_of_ble_eq_true rfl) (Nat.le_of_ble_eq_true rfl) ?_
      refine lv_dup hx hb dX2_personOf_31 rfl ?_
      refine lv_aload_n hx hb dX2_personOf_32 rfl (lv_at hl 1 rfl) ?_
      refine lv_iload_n hx hb dX2_personOf_33 rfl (lv_at hl 2 rfl) ?_
      obtain ⟨h37, hM⟩ := gall_inv hM
      have er35 : MX11_init p1 = some (p1, (-1 : Int32)) := rfl
      have hC_ : [(zw dA za k9 tx u7 r6.2).length].map (fun i => ((zw dA za k9 tx u7 r6.2) ++ [(q34, .inr (8, [.null, .int 0, .int 0, .int 0, .int 0, .int 0, .int 0]))])[i]?) = ([(q34, (.inr (8, [.null, .int 0, .int 0, .int 0, .int 0, .int 0, .int 0]) : va_E))] : va_W).map some := by rw [List.map_cons, List.map_nil, List.getElem?_concat_length]; rfl
      have hP2_ : va_P D clG [(q34, (.inr (8, [.null, .int 0, .int 0, .int 0, .int 0, .int 0, .int 0]) : va_E))] H := one_P (hP _ _ List.getElem?_concat_length)
      have hD2_ : va_D A [(q34, (.inr (8, [.null, .int 0, .int 0, .int 0, .int 0, .int 0, .int 0]) : va_E))] := hD.sub [(zw dA za k9 tx u7 r6.2).length] (by simp [va_nd]) hC_
      refine k_v0 [(zw dA za k9 tx u7 r6.2).length] (va_runI (As := [.ref (u7.1 p0), .int p1]) (rest := [.ref q34]) ⟨hx, hb, hml, hown, hts⟩ (ctX11_init l D dA _ (u7.1 p0) q34 p1 (0) (0) (0) (0) (0) (0) (.null) _ er35) (cwI 2 hts (lw_meth q787) rfl rfl rfl (hts _ q131) (hts _ q785) (hts _ q786) rfl (by decide +kernel) ⟨Nat.le_of_ble_eq_true rfl, Nat.le_of_ble_eq_true rfl⟩) (pre_S hP2_ hK hD2_) rfl rfl hl.1 rfl (lv_room (Nat.le_of_ble_eq_true rfl)) dX2_personOf_34 ⟨Nat.le_of_ble_eq_true rfl, Nat.le_of_ble_eq_true rfl⟩) hP hD hS hA hC_ (fun _ => rfl) (fun u36 H locs hP hD hS => ?_)
      rw [putAt, putAt, List.set_append_right _ _ (Nat.le_refl _), Nat.sub_self] at hP hD
      have hP : va_P D clG (zw dA za k9 tx (hpers u7 r6.2 q34) (zpers r6.2 1 p0 p1)) H := by rw [← zw_pers h37.1 h37.2]; exact hP
      have hD : va_D A (zw dA za k9 tx (hpers u7 r6.2 q34) (zpers r6.2 1 p0 p1)) := by rw [← zw_pers h37.1 h37.2]; exact hD
      have x40 : zext u7 (hpers u7 r6.2 q34) r6.2 (zpers r6.2 1 p0 p1) := zext_pers
      have hP : va_P D clG (zw dA za k9 tx (hpers u7 r6.2 q34) (r6.2.1, r6.2.2.1, r6.2.2.2.1, r6.2.2.2.2.1, r6.2.2.2.2.2.1, r6.2.2.2.2.2.2.1, r6.2.2.2.2.2.2.2.1, r6.2.2.2.2.2.2.2.2.1, r6.2.2.2.2.2.2.2.2.2.1, r6.2.2.2.2.2.2.2.2.2.2.1, r6.2.2.2.2.2.2.2.2.2.2.2.1, r6.2.2.2.2.2.2.2.2.2.2.2.2.1, r6.2.2.2.2.2.2.2.2.2.2.2.2.2.1, r6.2.2.2.2.2.2.2.2.2.2.2.2.2.2.1, r6.2.2.2.2.2.2.2.2.2.2.2.2.2.2.2.1, r6.2.2.2.2.2.2.2.2.2.2.2.2.2.2.2.2.1, r6.2.2.2.2.2.2.2.2.2.2.2.2.2.2.2.2.2.1, r6.2.2.2.2.2.2.2.2.2.2.2.2.2.2.2.2.2.2.1, r6.2.2.2.2.2.2.2.2.2.2.2.2.2.2.2.2.2.2.2.1, (r6.2.2.2.2.2.2.2.2.2.2.2.2.2.2.2.2.2.2.2.2.1 + 1), (updF r6.2.2.2.2.2.2.2.2.2.2.2.2.2.2.2.2.2.2.2.2.2.1 r6.2.2.2.2.2.2.2.2.2.2.2.2.2.2.2.2.2.2.2.2.1 1), (updF r6.2.2.2.2.2.2.2.2.2.2.2.2.2.2.2.2.2.2.2.2.2.2.1 r6.2.2.2.2.2.2.2.2.2.2.2.2.2.2.2.2.2.2.2.2.1 p0), (upd r6.2.2.2.2.2.2.2.2.2.2.2.2.2.2.2.2.2.2.2.2.2.2.2.1 r6.2.2.2.2.2.2.2.2.2.2.2.2.2.2.2.2.2.2.2.2.1 p1), (upd r6.2.2.2.2.2.2.2.2.2.2.2.2.2.2.2.2.2.2.2.2.2.2.2.2.1 r6.2.2.2.2.2.2.2.2.2.2.2.2.2.2.2.2.2.2.2.2.1 0), (upd r6.2.2.2.2.2.2.2.2.2.2.2.2.2.2.2.2.2.2.2.2.2.2.2.2.2.1 r6.2.2.2.2.2.2.2.2.2.2.2.2.2.2.2.2.2.2.2.2.1 0), (upd r6.2.2.2.2.2.2.2.2.2.2.2.2.2.2.2.2.2.2.2.2.2.2.2.2.2.2.1 r6.2.2.2.2.2.2.2.2.2.2.2.2.2.2.2.2.2.2.2.2.1 0), (upd r6.2.2.2.2.2.2.2.2.2.2.2.2.2.2.2.2.2.2.2.2.2.2.2.2.2.2.2.1 r6.2.2.2.2.2.2.2.2.2.2.2.2.2.2.2.2.2.2.2.2.1 0), (upd r6.2.2.2.2.2.2.2.2.2.2.2.2.2.2.2.2.2.2.2.2.2.2.2.2.2.2.2.2.1 r6.2.2.2.2.2.2.2.2.2.2.2.2.2.2.2.2.2.2.2.2.1 (-1)), r6.2.2.2.2.2.2.2.2.2.2.2.2.2.2.2.2.2.2.2.2.2.2.2.2.2.2.2.2.2.1, r6.2.2.2.2.2.2.2.2.2.2.2.2.2.2.2.2.2.2.2.2.2.2.2.2.2.2.2.2.2.2.1, r6.2.2.2.2.2.2.2.2.2.2.2.2.2.2.2.2.2.2.2.2.2.2.2.2.2.2.2.2.2.2.2.1, r6.2.2.2.2.2.2.2.2.2.2.2.2.2.2.2.2.2.2.2.2.2.2.2.2.2.2.2.2.2.2.2.2)) H := hP
      have hD : va_D A (zw dA za k9 tx (hpers u7 r6.2 q34) (r6.2.1, r6.2.2.1, r6.2.2.2.1, r6.2.2.2.2.1, r6.2.2.2.2.2.1, r6.2.2.2.2.2.2.1, r6.2.2.2.2.2.2.2.1, r6.2.2.2.2.2.2.2.2.1, r6.2.2.2.2.2.2.2.2.2.1, r6.2.2.2.2.2.2.2.2.2.2.1, r6.2.2.2.2.2.2.2.2.2.2.2.1, r6.2.2.2.2.2.2.2.2.2.2.2.2.1, r6.2.2.2.2.2.2.2.2.2.2.2.2.2.1, r6.2.2.2.2.2.2.2.2.2.2.2.2.2.2.1, r6.2.2.2.2.2.2.2.2.2.2.2.2.2.2.2.1, r6.2.2.2.2.2.2.2.2.2.2.2.2.2.2.2.2.1, r6.2.2.2.2.2.2.2.2.2.2.2.2.2.2.2.2.2.1, r6.2.2.2.2.2.2.2.2.2.2.2.2.2.2.2.2.2.2.1, r6.2.2.2.2.2.2.2.2.2.2.2.2.2.2.2.2.2.2.2.1, (r6.2.2.2.2.2.2.2.2.2.2.2.2.2.2.2.2.2.2.2.2.1 + 1), (updF r6.2.2.2.2.2.2.2.2.2.2.2.2.2.2.2.2.2.2.2.2.2.1 r6.2.2.2.2.2.2.2.2.2.2.2.2.2.2.2.2.2.2.2.2.1 1), (updF r6.2.2.2.2.2.2.2.2.2.2.2.2.2.2.2.2.2.2.2.2.2.2.1 r6.2.2.2.2.2.2.2.2.2.2.2.2.2.2.2.2.2.2.2.2.1 p0), (upd r6.2.2.2.2.2.2.2.2.2.2.2.2.2.2.2.2.2.2.2.2.2.2.2.1 r6.2.2.2.2.2.2.2.2.2.2.2.2.2.2.2.2.2.2.2.2.1 p1), (upd r6.2.2.2.2.2.2.2.2.2.2.2.2.2.2.2.2.2.2.2.2.2.2.2.2.1 r6.2.2.2.2.2.2.2.2.2.2.2.2.2.2.2.2.2.2.2.2.1 0), (upd r6.2.2.2.2.2.2.2.2.2.2.2.2.2.2.2.2.2.2.2.2.2.2.2.2.2.1 r6.2.2.2.2.2.2.2.2.2.2.2.2.2.2.2.2.2.2.2.2.1 0), (upd r6.2.2.2.2.2.2.2.2.2.2.2.2.2.2.2.2.2.2.2.2.2.2.2.2.2.2.1 r6.2.2.2.2.2.2.2.2.2.2.2.2.2.2.2.2.2.2.2.2.1 0), (upd r6.2.2.2.2.2.2.2.2.2.2.2.2.2.2.2.2.2.2.2.2.2.2.2.2.2.2.2.1 r6.2.2.2.2.2.2.2.2.2.2.2.2.2.2.2.2.2.2.2.2.1 0), (upd r6.2.2.2.2.2.2.2.2.2.2.2.2.2.2.2.2.2.2.2.2.2.2.2.2.2.2.2.2.1 r6.2.2.2.2.2.2.2.2.2.2.2.2.2.2.2.2.2.2.2.2.1 (-1)), r6.2.2.2.2.2.2.2.2.2.2.2.2.2.2.2.2.2.2.2.2.2.2.2.2.2.2.2.2.2.1, r6.2.2.2.2.2.2.2.2.2.2.2.2.2.2.2.2.2.2.2.2.2.2.2.2.2.2.2.2.2.2.1, r6.2.2.2.2.2.2.2.2.2.2.2.2.2.2.2.2.2.2.2.2.2.2.2.2.2.2.2.2.2.2.2.1, r6.2.2.2.2.2.2.2.2.2.2.2.2.2.2.2.2.2.2.2.2.2.2.2.2.2.2.2.2.2.2.2.2)) := hD
      refine W.eq (g2 := F0 m 37 ls [.ref ((hpers u7 r6.2 q34).2.2.2.1 r6.2.2.2.2.2.2.2.2.2.2.2.2.2.2.2.2.2.2.2.2.1)]) (by simp only [hpers, updF_s]) ?_
      have hl : lv_has ls 3 [(0, .ref (za 0)), (1, .ref ((hpers u7 r6.2 q34).1 p0)), (2, .int p1)] := hl
      have hM := Sum.inr.inj (Option.some.inj hM)
      subst hM
      refine W.widen (k := 9) (n := 55) (Nat.le_of_ble_eq_true rfl) (Nat.le_of_ble_eq_true rfl) ?_
      exact W.aret (v := .ref ((hpers u7 r6.2 q34).2.2.2.1 r6.2.2.2.2.2.2.2.2.2.2.2.2.2.2.2.2.2.2.2.2.1)) hx hb hr (Or.inl ⟨_, rfl⟩) (Or.inr ⟨_, rfl⟩) (fun t ht hW => ⟨⟨(hpers u7 r6.2 q34), rfl, (zext_trans (zext_trans (zext_trans zext_rf x3) x8) x40), by rw [ht]; exact hP, hD⟩, hS.F ht⟩) hS.2.2 dX2_personOf_37
  · rw [if_neg c5] at hM
    refine va_new (ci := 7) (fs := [.null, .int 0, .int 0, .int 0, .int 0, .int 0, .int 0]) (C := RX10) (T := TX10) (N := 7) hx hb hts in_X10 tyX10 tyX10_ok hown (hts _ q739) (hts _ q740) (hts _ q130) hK.1 hP hD hS hA rfl (fs_of rfl) (Nat.le_of_ble_eq_true rfl) (Nat.le_of_ble_eq_true rfl) dX2_personOf_9 (fun q41 H hP hD hS => ?_)
    have hP : va_P D clG ((zw dA za k9 tx u2 r1.2) ++ [(q41, .inr (7, [.null, .int 0, .int 0, .int 0, .int 0, .int 0, .int 0]))]) H := hP
    have hD : va_D A ((zw dA za k9 tx u2 r1.2) ++ [(q41, .inr (7, [.null, .int 0, .int 0, .int 0, .int 0, .int 0, .int 0]))]) := hD
    refine W.widen (k := 3) (n := 19) (Nat.le_of_ble_eq_true rfl) (Nat.le_of_ble_eq_true rfl) ?_
    refine lv_dup hx hb dX2_personOf_12 rfl ?_
    refine lv_aload_n hx hb dX2_personOf_13 rfl (lv_at hl 1 rfl) ?_
    refine lv_iload_n hx hb dX2_personOf_14 rfl (lv_at hl 2 rfl) ?_
    obtain ⟨h44, hM⟩ := gall_inv hM
    have er42 : MX10_init p1 = some (p1, (-1 : Int32)) := rfl
    have hC_ : [(zw dA za k9 tx u2 r1.2).length].map (fun i => ((zw dA za k9 tx u2 r1.2) ++ [(q41, .inr (7, [.null, .int 0, .int 0, .int 0, .int 0, .int 0, .int 0]))])[i]?) = ([(q41, (.inr (7, [.null, .int 0, .int 0, .int 0, .int 0, .int 0, .int 0]) : va_E))] : va_W).map some := by rw [List.map_cons, List.map_nil, List.getElem?_concat_length]; rfl
    have hP2_ : va_P D clG [(q41, (.inr (7, [.null, .int 0, .int 0, .int 0, .int 0, .int 0, .int 0]) : va_E))] H := one_P (hP _ _ List.getElem?_concat_length)
    have hD2_ : va_D A [(q41, (.inr (7, [.null, .int 0, .int 0, .int 0, .int 0, .int 0, .int 0]) : va_E))] := hD.sub [(zw dA za k9 tx u2 r1.2).length] (by simp [va_nd]) hC_
    refine k_v0 [(zw dA za k9 tx u2 r1.2).length] (va_runI (As := [.ref (u2.1 p0), .int p1]) (rest := [.ref q41]) ⟨hx, hb, hml, hown, hts⟩ (ctX10_init l D dA _ (u2.1 p0) q41 p1 (0) (0) (0) (0) (0) (0) (.null) _ er42) (cwI 2 hts (lw_meth q743) rfl rfl rfl (hts _ q130) (hts _ q741) (hts _ q742) rfl (by decide +kernel) ⟨Nat.le_of_ble_eq_true rfl, Nat.le_of_ble_eq_true rfl⟩) (pre_S hP2_ hK hD2_) rfl rfl hl.1 rfl (lv_room (Nat.le_of_ble_eq_true rfl)) dX2_personOf_15 ⟨Nat.le_of_ble_eq_true rfl, Nat.le_of_ble_eq_true rfl⟩) hP hD hS hA hC_ (fun _ => rfl) (fun u43 H locs hP hD hS => ?_)
    rw [putAt, putAt, List.set_append_right _ _ (Nat.le_refl _), Nat.sub_self] at hP hD
    have hP : va_P D clG (zw dA za k9 tx (hpers u2 r1.2 q41) (zpers r1.2 0 p0 p1)) H := by rw [← zw_pers h44.1 h44.2]; exact hP
    have hD : va_D A (zw dA za k9 tx (hpers u2 r1.2 q41) (zpers r1.2 0 p0 p1)) := by rw [← zw_pers h44.1 h44.2]; exact hD
    have x47 : zext u2 (hpers u2 r1.2 q41) r1.2 (zpers r1.2 0 p0 p1) := zext_pers
    have hP : va_P D clG (zw dA za k9 tx (hpers u2 r1.2 q41) (r1.2.1, r1.2.2.1, r1.2.2.2.1, r1.2.2.2.2.1, r1.2.2.2.2.2.1, r1.2.2.2.2.2.2.1, r1.2.2.2.2.2.2.2.1, r1.2.2.2.2.2.2.2.2.1, r1.2.2.2.2.2.2.2.2.2.1, r1.2.2.2.2.2.2.2.2.2.2.1, r1.2.2.2.2.2.2.2.2.2.2.2.1, r1.2.2.2.2.2.2.2.2.2.2.2.2.1, r1.2.2.2.2.2.2.2.2.2.2.2.2.2.1, r1.2.2.2.2.2.2.2.2.2.2.2.2.2.2.1, r1.2.2.2.2.2.2.2.2.2.2.2.2.2.2.2.1, r1.2.2.2.2.2.2.2.2.2.2.2.2.2.2.2.2.1, r1.2.2.2.2.2.2.2.2.2.2.2.2.2.2.2.2.2.1, r1.2.2.2.2.2.2.2.2.2.2.2.2.2.2.2.2.2.2.1, r1.2.2.2.2.2.2.2.2.2.2.2.2.2.2.2.2.2.2.2.1, (r1.2.2.2.2.2.2.2.2.2.2.2.2.2.2.2.2.2.2.2.2.1 + 1), (updF r1.2.2.2.2.2.2.2.2.2.2.2.2.2.2.2.2.2.2.2.2.2.1 r1.2.2.2.2.2.2.2.2.2.2.2.2.2.2.2.2.2.2.2.2.1 0), (updF r1.2.2.2.2.2.2.2.2.2.2.2.2.2.2.2.2.2.2.2.2.2.2.1 r1.2.2.2.2.2.2.2.2.2.2.2.2.2.2.2.2.2.2.2.2.1 p0), (upd r1.2.2.2.2.2.2.2.2.2.2.2.2.2.2.2.2.2.2.2.2.2.2.2.1 r1.2.2.2.2.2.2.2.2.2.2.2.2.2.2.2.2.2.2.2.2.1 p1), (upd r1.2.2.2.2.2.2.2.2.2.2.2.2.2.2.2.2.2.2.2.2.2.2.2.2.1 r1.2.2.2.2.2.2.2.2.2.2.2.2.2.2.2.2.2.2.2.2.1 0), (upd r1.2.2.2.2.2.2.2.2.2.2.2.2.2.2.2.2.2.2.2.2.2.2.2.2.2.1 r1.2.2.2.2.2.2.2.2.2.2.2.2.2.2.2.2.2.2.2.2.1 0), (upd r1.2.2.2.2.2.2.2.2.2.2.2.2.2.2.2.2.2.2.2.2.2.2.2.2.2.2.1 r1.2.2.2.2.2.2.2.2.2.2.2.2.2.2.2.2.2.2.2.2.1 0), (upd r1.2.2.2.2.2.2.2.2.2.2.2.2.2.2.2.2.2.2.2.2.2.2.2.2.2.2.2.1 r1.2.2.2.2.2.2.2.2.2.2.2.2.2.2.2.2.2.2.2.2.1 0), (upd r1.2.2.2.2.2.2.2.2.2.2.2.2.2.2.2.2.2.2.2.2.2.2.2.2.2.2.2.2.1 r1.2.2.2.2.2.2.2.2.2.2.2.2.2.2.2.2.2.2.2.2.1 (-1)), r1.2.2.2.2.2.2.2.2.2.2.2.2.2.2.2.2.2.2.2.2.2.2.2.2.2.2.2.2.2.1, r1.2.2.2.2.2.2.2.2.2.2.2.2.2.2.2.2.2.2.2.2.2.2.2.2.2.2.2.2.2.2.1, r1.2.2.2.2.2.2.2.2.2.2.2.2.2.2.2.2.2.2.2.2.2.2.2.2.2.2.2.2.2.2.2.1, r1.2.2.2.2.2.2.2.2.2.2.2.2.2.2.2.2.2.2.2.2.2.2.2.2.2.2.2.2.2.2.2.2)) H := hP
    have hD : va_D A (zw dA za k9 tx (hpers u2 r1.2 q41) (r1.2.1, r1.2.2.1, r1.2.2.2.1, r1.2.2.2.2.1, r1.2.2.2.2.2.1, r1.2.2.2.2.2.2.1, r1.2.2.2.2.2.2.2.1, r1.2.2.2.2.2.2.2.2.1, r1.2.2.2.2.2.2.2.2.2.1, r1.2.2.2.2.2.2.2.2.2.2.1, r1.2.2.2.2.2.2.2.2.2.2.2.1, r1.2.2.2.2.2.2.2.2.2.2.2.2.1, r1.2.2.2.2.2.2.2.2.2.2.2.2.2.1, r1.2.2.2.2.2.2.2.2.2.2.2.2.2.2.1, r1.2.2.2.2.2.2.2.2.2.2.2.2.2.2.2.1, r1.2.2.2.2.2.2.2.2.2.2.2.2.2.2.2.2.1, r1.2.2.2.2.2.2.2.2.2.2.2.2.2.2.2.2.2.1, r1.2.2.2.2.2.2.2.2.2.2.2.2.2.2.2.2.2.2.1, r1.2.2.2.2.2.2.2.2.2.2.2.2.2.2.2.2.2.2.2.1, (r1.2.2.2.2.2.2.2.2.2.2.2.2.2.2.2.2.2.2.2.2.1 + 1), (updF r1.2.2.2.2.2.2.2.2.2.2.2.2.2.2.2.2.2.2.2.2.2.1 r1.2.2.2.2.2.2.2.2.2.2.2.2.2.2.2.2.2.2.2.2.1 0), (updF r1.2.2.2.2.2.2.2.2.2.2.2.2.2.2.2.2.2.2.2.2.2.2.1 r1.2.2.2.2.2.2.2.2.2.2.2.2.2.2.2.2.2.2.2.2.1 p0), (upd r1.2.2.2.2.2.2.2.2.2.2.2.2.2.2.2.2.2.2.2.2.2.2.2.1 r1.2.2.2.2.2.2.2.2.2.2.2.2.2.2.2.2.2.2.2.2.1 p1), (upd r1.2.2.2.2.2.2.2.2.2.2.2.2.2.2.2.2.2.2.2.2.2.2.2.2.1 r1.2.2.2.2.2.2.2.2.2.2.2.2.2.2.2.2.2.2.2.2.1 0), (upd r1.2.2.2.2.2.2.2.2.2.2.2.2.2.2.2.2.2.2.2.2.2.2.2.2.2.1 r1.2.2.2.2.2.2.2.2.2.2.2.2.2.2.2.2.2.2.2.2.1 0), (upd r1.2.2.2.2.2.2.2.2.2.2.2.2.2.2.2.2.2.2.2.2.2.2.2.2.2.2.1 r1.2.2.2.2.2.2.2.2.2.2.2.2.2.2.2.2.2.2.2.2.1 0), (upd r1.2.2.2.2.2.2.2.2.2.2.2.2.2.2.2.2.2.2.2.2.2.2.2.2.2.2.2.1 r1.2.2.2.2.2.2.2.2.2.2.2.2.2.2.2.2.2.2.2.2.1 0), (upd r1.2.2.2.2.2.2.2.2.2.2.2.2.2.2.2.2.2.2.2.2.2.2.2.2.2.2.2.2.1 r1.2.2.2.2.2.2.2.2.2.2.2.2.2.2.2.2.2.2.2.2.1 (-1)), r1.2.2.2.2.2.2.2.2.2.2.2.2.2.2.2.2.2.2.2.2.2.2.2.2.2.2.2.2.2.1, r1.2.2.2.2.2.2.2.2.2.2.2.2.2.2.2.2.2.2.2.2.2.2.2.2.2.2.2.2.2.2.1, r1.2.2.2.2.2.2.2.2.2.2.2.2.2.2.2.2.2.2.2.2.2.2.2.2.2.2.2.2.2.2.2.1, r1.2.2.2.2.2.2.2.2.2.2.2.2.2.2.2.2.2.2.2.2.2.2.2.2.2.2.2.2.2.2.2.2)) := hD
    refine W.eq (g2 := F0 m 18 ls [.ref ((hpers u2 r1.2 q41).2.2.2.1 r1.2.2.2.2.2.2.2.2.2.2.2.2.2.2.2.2.2.2.2.2.1)]) (by simp only [hpers, updF_s]) ?_
    have hl : lv_has ls 3 [(0, .ref (za 0)), (1, .ref ((hpers u2 r1.2 q41).1 p0)), (2, .int p1)] := hl
    have hM := Sum.inr.inj (Option.some.inj hM)
    subst hM
    refine W.widen (k := 9) (n := 55) (Nat.le_of_ble_eq_true rfl) (Nat.le_of_ble_eq_true rfl) ?_
    exact W.aret (v := .ref ((hpers u2 r1.2 q41).2.2.2.1 r1.2.2.2.2.2.2.2.2.2.2.2.2.2.2.2.2.2.2.2.2.1)) hx hb hr (Or.inl ⟨_, rfl⟩) (Or.inr ⟨_, rfl⟩) (fun t ht hW => ⟨⟨(hpers u2 r1.2 q41), rfl, (zext_trans (zext_trans zext_rf x3) x47), by rw [ht]; exact hP, hD⟩, hS.F ht⟩) hS.2.2 dX2_personOf_18
set_option maxHeartbeats 40000000 in
theorem ceZ_personOf (l : Launch) (D : va_G) (dA : Nat → ClassId) (sz : Nat) (za : Nat → Nat) (h : ZH) (tx : AI) (k9 : Int32 × Int32 × Int32) (ka kv : Nat → Nat) (s : ZS) (p0 : Nat) (p1 : Int32) (er : Int32 × Int32) (hM : MZ_personOf tx k9.1 s p0 p1 = some (.inl er)) : vy_Met l yX2_personOf (ws_ yX2_personOf cX2_personOf 3 (some (.object "LastAsked$Person"))) ({ frames := 8, cells := 9, slots := 55, locals := 347 }) (preX D dA (ZE ka kv) [.ref (za 0), .ref (h.1 p0), .int p1] (zw dA za k9 tx h s) sz) (fun _ _ _ _ => False) (zQ D dA za tx er (va_A (zw dA za k9 tx h s) sz)) 9 55 (va_A (zw dA za k9 tx h s) sz) := by
  refine vy_ofW (cc := cX2_personOf) (maxL := 3) (ret := (some (.object "LastAsked$Person"))) (by decide) rfl ?_
  intro p e s0 m args below meth c s₁ B hml hout hv
  obtain ⟨rfl, hsz, hP, hK, hD0, hE⟩ := hv
  have hx := B.exec
  have hb := B.bytes
  have hr := B.returns
  have hts := atoms_spec (ws := (ws_ yX2_personOf cX2_personOf 3 (some (.object "LastAsked$Person")))) B.pre
  have hts : ∀ w ∈ lw_all, w.before _ s0 = true := fun w h => hts w (List.mem_cons_of_mem _ h)
  have hown : s0.vm.findClass RX2 = some m.cls := findClass_of_methodNamed B.named
  have hlocks := B.notSynchronized
  subst hsz
  have hD := hD0.self (sz := s0.heap.size)
  generalize hAe : va_A (zw dA za k9 tx h s) s0.heap.size = A at hD hE ⊢
  have hA : ∀ q : Nat, s0.heap.size ≤ q → A q := fun q h => by rw [← hAe]; exact Or.inr h
  have hS : va_S A s0.heap s0.heap [] := va_S.rf
  have hl := lv_entry ([.ref (za 0), .ref (h.1 p0), .int p1]) (n := 3) (Nat.le_of_ble_eq_true rfl)
  rw [lg_entry_eq]
  generalize (lg_sl ([.ref (za 0), .ref (h.1 p0), .int p1]) ++ List.replicate (3 - (lg_sl ([.ref (za 0), .ref (h.1 p0), .int p1])).length) Slot.unset).toArray = ls at hl ⊢
  have hl : lv_has ls 3 [(0, .ref (za 0)), (1, .ref (h.1 p0)), (2, .int p1)] := hl
  unfold MZ_personOf at hM
  refine lv_aload_n hx hb dX2_personOf_0 rfl (lv_at hl 0 rfl) ?_
  refine va_ldcS hx hb hown (hE.2.2.1 10 (Nat.zero_le _) (by decide)) dX2_personOf_1 ?_
  obtain ⟨h4, hM⟩ := gn_inv hM
  obtain ⟨r1, er1, hM⟩ := b_inv hM
  refine k_w (va_runV (As := [.ref (ka 10)]) (rest := []) ⟨hx, hb, hml, hown, hts⟩ (ctZ_takes l D dA _ za h tx k9 ka kv s 10 r1 er1 (by decide)) (cwV 1 hts (lw_V q707 q709 qs11 q114 q710) rfl rfl rfl (by decide +kernel) ⟨Nat.le_of_ble_eq_true rfl, Nat.le_of_ble_eq_true rfl⟩) (preX_V ZE_ok hP hK hD (ev_at ZE_ok hE hS (w_free hD hS hA)) hP (ci := 1) (q0 := 0) rfl rfl) rfl rfl hl.1 rfl (lv_room (Nat.le_of_ble_eq_true rfl)) dX2_personOf_3 ⟨Nat.le_of_ble_eq_true rfl, Nat.le_of_ble_eq_true rfl⟩) hD hS hA (fun u2 H locs x3 hP hD hS => ?_)
  have hl : lv_has ls 3 [(0, .ref (za 0)), (1, .ref (u2.1 p0)), (2, .int p1)] := by simp only [x3.1 p0 h4]; exact hl
  refine W.widen (k := 2) (n := 12) (Nat.le_of_ble_eq_true rfl) (Nat.le_of_ble_eq_true rfl) ?_
  refine W.eq (g2 := F0 m 6 ls [.int (b2i r1.1)]) (by first | rfl | (rfl; rfl) | (rfl) | (simp only [*]; rfl) | simp only [*]) ?_
  refine lv_if_eq (tgt := 19) hx hb dX2_personOf_6 (by decide) (fun c5 => ?_) (fun c5 => ?_)
  · rw [if_pos c5] at hM
    refine lv_aload_n hx hb dX2_personOf_19 rfl (lv_at hl 0 rfl) ?_
    refine va_ldcS hx hb hown (hE.2.2.1 11 (Nat.zero_le _) (by decide)) dX2_personOf_20 ?_
    obtain ⟨h9, hM⟩ := gn_inv hM
    obtain ⟨r6, er6, hM⟩ := b_inv hM
    refine k_w (va_runV (As := [.ref (ka 11)]) (rest := []) ⟨hx, hb, hml, hown, hts⟩ (ctZ_takes l D dA _ za u2 tx k9 ka kv r1.2 11 r6 er6 (by decide)) (cwV 1 hts (lw_V q707 q709 qs11 q114 q710) rfl rfl rfl (by decide +kernel) ⟨Nat.le_of_ble_eq_true rfl, Nat.le_of_ble_eq_true rfl⟩) (preX_V ZE_ok hP hK hD (ev_at ZE_ok hE hS (w_free hD hS hA)) hP (ci := 1) (q0 := 0) rfl rfl) rfl rfl hl.1 rfl (lv_room (Nat.le_of_ble_eq_true rfl)) dX2_personOf_22 ⟨Nat.le_of_ble_eq_true rfl, Nat.le_of_ble_eq_true rfl⟩) hD hS hA (fun u7 H locs x8 hP hD hS => ?_)
    have hl : lv_has ls 3 [(0, .ref (za 0)), (1, .ref (u7.1 p0)), (2, .int p1)] := by simp only [x8.1 p0 h9]; exact hl
    refine W.widen (k := 4) (n := 24) (Nat.le_of_ble_eq_true rfl) (Nat.le_of_ble_eq_true rfl) ?_
    refine W.eq (g2 := F0 m 25 ls [.int (b2i r6.1)]) (by first | rfl | (rfl; rfl) | (rfl) | (simp only [*]; rfl) | simp only [*]) ?_
    refine lv_if_eq (tgt := 38) hx hb dX2_personOf_25 (by decide) (fun c10 => ?_) (fun c10 => ?_)
    · rw [if_pos c10] at hM
      refine lv_aload_n hx hb dX2_personOf_38 rfl (lv_at hl 0 rfl) ?_
      refine va_ldcS hx hb hown (hE.2.2.1 12 (Nat.zero_le _) (by decide)) dX2_personOf_39 ?_
      obtain ⟨h14, hM⟩ := gn_inv hM
      obtain ⟨r11, er11, hM⟩ := b_inv hM
      refine k_w (va_runV (As := [.ref (ka 12)]) (rest := []) ⟨hx, hb, hml, hown, hts⟩ (ctZ_takes l D dA _ za u7 tx k9 ka kv r6.2 12 r11 er11 (by decide)) (cwV 1 hts (lw_V q707 q709 qs11 q114 q710) rfl rfl rfl (by decide +kernel) ⟨Nat.le_of_ble_eq_true rfl, Nat.le_of_ble_eq_true rfl⟩) (preX_V ZE_ok hP hK hD (ev_at ZE_ok hE hS (w_free hD hS hA)) hP (ci := 1) (q0 := 0) rfl rfl) rfl rfl hl.1 rfl (lv_room (Nat.le_of_ble_eq_true rfl)) dX2_personOf_41 ⟨Nat.le_of_ble_eq_true rfl, Nat.le_of_ble_eq_true rfl⟩) hD hS hA (fun u12 H locs x13 hP hD hS => ?_)
      have hl : lv_has ls 3 [(0, .ref (za 0)), (1, .ref (u12.1 p0)), (2, .int p1)] := by simp only [x13.1 p0 h14]; exact hl
      refine W.widen (k := 6) (n := 36) (Nat.le_of_ble_eq_true rfl) (Nat.le_of_ble_eq_true rfl) ?_
      refine W.eq (g2 := F0 m 44 ls [.int (b2i r11.1)]) (by first | rfl | (rfl; rfl) | (rfl) | (simp only [*]; rfl) | simp only [*]) ?_
      refine lv_if_eq (tgt := 57) hx hb dX2_personOf_44 (by decide) (fun c15 => ?_) (fun c15 => ?_)
      · rw [if_pos c15] at hM
        refine lv_aload_n hx hb dX2_personOf_57 rfl (lv_at hl 0 rfl) ?_
        refine va_ldcS hx hb hown (hE.2.2.1 13 (Nat.zero_le _) (by decide)) dX2_personOf_58 ?_
        obtain ⟨h19, hM⟩ := gn_inv hM
        obtain ⟨r16_, er16, hM⟩ := b_inv hM
        cases r16_ with
        | inl e9 =>
          dsimp only at hM
          have hM := Sum.inl.inj (Option.some.inj hM)
          subst hM
          exact z_err (vy_runV (As := [.ref (ka 13)]) (rest := []) ⟨hx, hb, hml, hown, hts⟩ (ceZ_must l D dA _ za u12 tx k9 ka kv r11.2 13 e9 er16 (by decide)) (cwV 1 hts (lw_V q703 q705 qs10 q114 q706) rfl rfl rfl (by decide +kernel) ⟨Nat.le_of_ble_eq_true rfl, Nat.le_of_ble_eq_true rfl⟩) (preX_V ZE_ok hP hK hD (ev_at ZE_ok hE hS (w_free hD hS hA)) hP (ci := 1) (q0 := 0) rfl rfl) rfl rfl hl.1 rfl (lv_room (Nat.le_of_ble_eq_true rfl)) dX2_personOf_60 ⟨Nat.le_of_ble_eq_true rfl, Nat.le_of_ble_eq_true rfl⟩) hD hS hA hout hlocks (Nat.le_of_ble_eq_true rfl) (Nat.le_of_ble_eq_true rfl)
        | inr r16 =>
          dsimp only at hM
          refine k_w (va_runV (As := [.ref (ka 13)]) (rest := []) ⟨hx, hb, hml, hown, hts⟩ (ctZ_must l D dA _ za u12 tx k9 ka kv r11.2 13 r16 er16 (by decide)) (cwV 1 hts (lw_V q703 q705 qs10 q114 q706) rfl rfl rfl (by decide +kernel) ⟨Nat.le_of_ble_eq_true rfl, Nat.le_of_ble_eq_true rfl⟩) (preX_V ZE_ok hP hK hD (ev_at ZE_ok hE hS (w_free hD hS hA)) hP (ci := 1) (q0 := 0) rfl rfl) rfl rfl hl.1 rfl (lv_room (Nat.le_of_ble_eq_true rfl)) dX2_personOf_60 ⟨Nat.le_of_ble_eq_true rfl, Nat.le_of_ble_eq_true rfl⟩) hD hS hA (fun u17 H locs x18 hP hD hS => ?_)
          have hl : lv_has ls 3 [(0, .ref (za 0)), (1, .ref (u17.1 p0)), (2, .int p1)] := by simp only [x18.1 p0 h19]; exact hl
          refine W.widen (k := 8) (n := 48) (Nat.le_of_ble_eq_true rfl) (Nat.le_of_ble_eq_true rfl) ?_
          refine W.eq (g2 := F0 m 63 ls []) (by first | rfl | (rfl; rfl) | (rfl) | (simp only [*]; rfl) | simp only [*]) ?_
          refine va_new (ci := 10) (fs := [.null, .int 0, .int 0, .int 0, .int 0, .int 0, .int 0]) (C := RX13) (T := TX13) (N := 7) hx hb hts in_X13 tyX13 tyX13_ok hown (hts _ q813) (hts _ q814) (hts _ q133) hK.1 hP hD hS hA rfl (fs_of rfl) (Nat.le_of_ble_eq_true rfl) (Nat.le_of_ble_eq_true rfl) dX2_personOf_63 (fun q20 H hP hD hS => ?_)
          have hP : va_P D clG ((zw dA za k9 tx u17 r16) ++ [(q20, .inr (10, [.null, .int 0, .int 0, .int 0, .int 0, .int 0, .int 0]))]) H := hP
          have hD : va_D A ((zw dA za k9 tx u17 r16) ++ [(q20, .inr (10, [.null, .int 0, .int 0, .int 0, .int 0, .int 0, .int 0]))]) := hD
          refine W.widen (k := 9) (n := 55) (Nat.le_of_ble_eq_true rfl) (Nat.le_of_ble_eq_true rfl) ?_
          refine lv_dup hx hb dX2_personOf_66 rfl ?_
          refine lv_aload_n hx hb dX2_personOf_67 rfl (lv_at hl 1 rfl) ?_
          refine lv_iload_n hx hb dX2_personOf_68 rfl (lv_at hl 2 rfl) ?_
          obtain ⟨h23, hM⟩ := gall_inv hM
          have er21 : MX13_init p1 = some (p1, (-1 : Int32)) := rfl
          have hC_ : [(zw dA za k9 tx u17 r16).length].map (fun i => ((zw dA za k9 tx u17 r16) ++ [(q20, .inr (10, [.null, .int 0, .int 0, .int 0, .int 0, .int 0, .int 0]))])[i]?) = ([(q20, (.inr (10, [.null, .int 0, .int 0, .int 0, .int 0, .int 0, .int 0]) : va_E))] : va_W).map some := by rw [List.map_cons, List.map_nil, List.getElem?_concat_length]; rfl
          have hP2_ : va_P D clG [(q20, (.inr (10, [.null, .int 0, .int 0, .int 0, .int 0, .int 0, .int 0]) : va_E))] H := one_P (hP _ _ List.getElem?_concat_length)
          have hD2_ : va_D A [(q20, (.inr (10, [.null, .int 0, .int 0, .int 0, .int 0, .int 0, .int 0]) : va_E))] := hD.sub [(zw dA za k9 tx u17 r16).length] (by simp [va_nd]) hC_
          refine k_v0 [(zw dA za k9 tx u17 r16).length] (va_runI (As := [.ref (u17.1 p0), .int p1]) (rest := [.ref q20]) ⟨hx, hb, hml, hown, hts⟩ (ctX13_init l D dA _ (u17.1 p0) q20 p1 (0) (0) (0) (0) (0) (0) (.null) _ er21) (cwI 2 hts (lw_meth q817) rfl rfl rfl (hts _ q133) (hts _ q815) (hts _ q816) rfl (by decide +kernel) ⟨Nat.le_of_ble_eq_true rfl, Nat.le_of_ble_eq_true rfl⟩) (pre_S hP2_ hK hD2_) rfl rfl hl.1 rfl (lv_room (Nat.le_of_ble_eq_true rfl)) dX2_personOf_69 ⟨Nat.le_of_ble_eq_true rfl, Nat.le_of_ble_eq_true rfl⟩) hP hD hS hA hC_ (fun _ => rfl) (fun u22 H locs hP hD hS => ?_)
          rw [putAt, putAt, List.set_append_right _ _ (Nat.le_refl _), Nat.sub_self] at hP hD
          have hP : va_P D clG (zw dA za k9 tx (hpers u17 r16 q20) (zpers r16 3 p0 p1)) H := by rw [← zw_pers h23.1 h23.2]; exact hP
          have hD : va_D A (zw dA za k9 tx (hpers u17 r16 q20) (zpers r16 3 p0 p1)) := by rw [← zw_pers h23.1 h23.2]; exact hD
          have x26 : zext u17 (hpers u17 r16 q20) r16 (zpers r16 3 p0 p1) := zext_pers
          have hP : va_P D clG (zw dA za k9 tx (hpers u17 r16 q20) (r16.1, r16.2.1, r16.2.2.1, r16.2.2.2.1, r16.2.2.2.2.1, r16.2.2.2.2.2.1, r16.2.2.2.2.2.2.1, r16.2.2.2.2.2.2.2.1, r16.2.2.2.2.2.2.2.2.1, r16.2.2.2.2.2.2.2.2.2.1, r16.2.2.2.2.2.2.2.2.2.2.1, r16.2.2.2.2.2.2.2.2.2.2.2.1, r16.2.2.2.2.2.2.2.2.2.2.2.2.1, r16.2.2.2.2.2.2.2.2.2.2.2.2.2.1, r16.2.2.2.2.2.2.2.2.2.2.2.2.2.2.1, r16.2.2.2.2.2.2.2.2.2.2.2.2.2.2.2.1, r16.2.2.2.2.2.2.2.2.2.2.2.2.2.2.2.2.1, r16.2.2.2.2.2.2.2.2.2.2.2.2.2.2.2.2.2.1, r16.2.2.2.2.2.2.2.2.2.2.2.2.2.2.2.2.2.2.1, (r16.2.2.2.2.2.2.2.2.2.2.2.2.2.2.2.2.2.2.2.1 + 1), (updF r16.2.2.2.2.2.2.2.2.2.2.2.2.2.2.2.2.2.2.2.2.1 r16.2.2.2.2.2.2.2.2.2.2.2.2.2.2.2.2.2.2.2.1 3), (updF r16.2.2.2.2.2.2.2.2.2.2.2.2.2.2.2.2.2.2.2.2.2.1 r16.2.2.2.2.2.2.2.2.2.2.2.2.2.2.2.2.2.2.2.1 p0), (upd r16.2.2.2.2.2.2.2.2.2.2.2.2.2.2.2.2.2.2.2.2.2.2.1 r16.2.2.2.2.2.2.2.2.2.2.2.2.2.2.2.2.2.2.2.1 p1), (upd r16.2.2.2.2.2.2.2.2.2.2.2.2.2.2.2.2.2.2.2.2.2.2.2.1 r16.2.2.2.2.2.2.2.2.2.2.2.2.2.2.2.2.2.2.2.1 0), (upd r16.2.2.2.2.2.2.2.2.2.2.2.2.2.2.2.2.2.2.2.2.2.2.2.2.1 r16.2.2.2.2.2.2.2.2.2.2.2.2.2.2.2.2.2.2.2.1 0), (upd r16.2.2.2.2.2.2.2.2.2.2.2.2.2.2.2.2.2.2.2.2.2.2.2.2.2.1 r16.2.2.2.2.2.2.2.2.2.2.2.2.2.2.2.2.2.2.2.1 0), (upd r16.2.2.2.2.2.2.2.2.2.2.2.2.2.2.2.2.2.2.2.2.2.2.2.2.2.2.1 r16.2.2.2.2.2.2.2.2.2.2.2.2.2.2.2.2.2.2.2.1 0), (upd r16.2.2.2.2.2.2.2.2.2.2.2.2.2.2.2.2.2.2.2.2.2.2.2.2.2.2.2.1 r16.2.2.2.2.2.2.2.2.2.2.2.2.2.2.2.2.2.2.2.1 (-1)), r16.2.2.2.2.2.2.2.2.2.2.2.2.2.2.2.2.2.2.2.2.2.2.2.2.2.2.2.2.1, r16.2.2.2.2.2.2.2.2.2.2.2.2.2.2.2.2.2.2.2.2.2.2.2.2.2.2.2.2.2.1, r16.2.2.2.2.2.2.2.2.2.2.2.2.2.2.2.2.2.2.2.2.2.2.2.2.2.2.2.2.2.2.1, r16.2.2.2.2.2.2.2.2.2.2.2.2.2.2.2.2.2.2.2.2.2.2.2.2.2.2.2.2.2.2.2)) H := hP
          have hD : va_D A (zw dA za k9 tx (hpers u17 r16 q20) (r16.1, r16.2.1, r16.2.2.1, r16.2.2.2.1, r16.2.2.2.2.1, r16.2.2.2.2.2.1, r16.2.2.2.2.2.2.1, r16.2.2.2.2.2.2.2.1, r16.2.2.2.2.2.2.2.2.1, r16.2.2.2.2.2.2.2.2.2.1, r16.2.2.2.2.2.2.2.2.2.2.1, r16.2.2.2.2.2.2.2.2.2.2.2.1, r16.2.2.2.2.2.2.2.2.2.2.2.2.1, r16.2.2.2.2.2.2.2.2.2.2.2.2.2.1, r16.2.2.2.2.2.2.2.2.2.2.2.2.2.2.1, r16.2.2.2.2.2.2.2.2.2.2.2.2.2.2.2.1, r16.2.2.2.2.2.2.2.2.2.2.2.2.2.2.2.2.1, r16.2.2.2.2.2.2.2.2.2.2.2.2.2.2.2.2.2.1, r16.2.2.2.2.2.2.2.2.2.2.2.2.2.2.2.2.2.2.1, (r16.2.2.2.2.2.2.2.2.2.2.2.2.2.2.2.2.2.2.2.1 + 1), (updF r16.2.2.2.2.2.2.2.2.2.2.2.2.2.2.2.2.2.2.2.2.1 r16.2.2.2.2.2.2.2.2.2.2.2.2.2.2.2.2.2.2.2.1 3), (updF r16.2.2.2.2.2.2.2.2.2.2.2.2.2.2.2.2.2.2.2.2.2.1 r16.2.2.2.2.2.2.2.2.2.2.2.2.2.2.2.2.2.2.2.1 p0), (upd r16.2.2.2.2.2.2.2.2.2.2.2.2.2.2.2.2.2.2.2.2.2.2.1 r16.2.2.2.2.2.2.2.2.2.2.2.2.2.2.2.2.2.2.2.1 p1), (upd r16.2.2.2.2.2.2.2.2.2.2.2.2.2.2.2.2.2.2.2.2.2.2.2.1 r16.2.2.2.2.2.2.2.2.2.2.2.2.2.2.2.2.2.2.2.1 0), (upd r16.2.2.2.2.2.2.2.2.2.2.2.2.2.2.2.2.2.2.2.2.2.2.2.2.1 r16.2.2.2.2.2.2.2.2.2.2.2.2.2.2.2.2.2.2.2.1 0), (upd r16.2.2.2.2.2.2.2.2.2.2.2.2.2.2.2.2.2.2.2.2.2.2.2.2.2.1 r16.2.2.2.2.2.2.2.2.2.2.2.2.2.2.2.2.2.2.2.1 0), (upd r16.2.2.2.2.2.2.2.2.2.2.2.2.2.2.2.2.2.2.2.2.2.2.2.2.2.2.1 r16.2.2.2.2.2.2.2.2.2.2.2.2.2.2.2.2.2.2.2.1 0), (upd r16.2.2.2.2.2.2.2.2.2.2.2.2.2.2.2.2.2.2.2.2.2.2.2.2.2.2.2.1 r16.2.2.2.2.2.2.2.2.2.2.2.2.2.2.2.2.2.2.2.1 (-1)), r16.2.2.2.2.2.2.2.2.2.2.2.2.2.2.2.2.2.2.2.2.2.2.2.2.2.2.2.2.1, r16.2.2.2.2.2.2.2.2.2.2.2.2.2.2.2.2.2.2.2.2.2.2.2.2.2.2.2.2.2.1, r16.2.2.2.2.2.2.2.2.2.2.2.2.2.2.2.2.2.2.2.2.2.2.2.2.2.2.2.2.2.2.1, r16.2.2.2.2.2.2.2.2.2.2.2.2.2.2.2.2.2.2.2.2.2.2.2.2.2.2.2.2.2.2.2)) := hD
          refine W.eq (g2 := F0 m 72 ls [.ref ((hpers u17 r16 q20).2.2.2.1 r16.2.2.2.2.2.2.2.2.2.2.2.2.2.2.2.2.2.2.2.1)]) (by simp only [hpers, updF_s]) ?_
          have hl : lv_has ls 3 [(0, .ref (za 0)), (1, .ref ((hpers u17 r16 q20).1 p0)), (2, .int p1)] := hl
          cases hM
      · rw [if_neg c15] at hM
        refine va_new (ci := 9) (fs := [.null, .int 0, .int 0, .int 0, .int 0, .int 0, .int 0]) (C := RX12) (T := TX12) (N := 7) hx hb hts in_X12 tyX12 tyX12_ok hown (hts _ q798) (hts _ q799) (hts _ q132) hK.1 hP hD hS hA rfl (fs_of rfl) (Nat.le_of_ble_eq_true rfl) (Nat.le_of_ble_eq_true rfl) dX2_personOf_47 (fun q27 H hP hD hS => ?_)
        have hP : va_P D clG ((zw dA za k9 tx u12 r11.2) ++ [(q27, .inr (9, [.null, .int 0, .int 0, .int 0, .int 0, .int 0, .int 0]))]) H := hP
        have hD : va_D A ((zw dA za k9 tx u12 r11.2) ++ [(q27, .inr (9, [.null, .int 0, .int 0, .int 0, .int 0, .int 0, .int 0]))]) := hD
        refine W.widen (k := 7) (n := 43) (Nat.le_of_ble_eq_true rfl) (Nat.le_of_ble_eq_true rfl) ?_
        refine lv_dup hx hb dX2_personOf_50 rfl ?_
        refine lv_aload_n hx hb dX2_personOf_51 rfl (lv_at hl 1 rfl) ?_
        refine lv_iload_n hx hb dX2_personOf_52 rfl (lv_at hl 2 rfl) ?_
        obtain ⟨h30, hM⟩ := gall_inv hM
        have er28 : MX12_init p1 = some (p1, (-1 : Int32)) := rfl
        have hC_ : [(zw dA za k9 tx u12 r11.2).length].map (fun i => ((zw dA za k9 tx u12 r11.2) ++ [(q27, .inr (9, [.null, .int 0, .int 0, .int 0, .int 0, .int 0, .int 0]))])[i]?) = ([(q27, (.inr (9, [.null, .int 0, .int 0, .int 0, .int 0, .int 0, .int 0]) : va_E))] : va_W).map some := by rw [List.map_cons, List.map_nil, List.getElem?_concat_length]; rfl
        have hP2_ : va_P D clG [(q27, (.inr (9, [.null, .int 0, .int 0, .int 0, .int 0, .int 0, .int 0]) : va_E))] H := one_P (hP _ _ List.getElem?_concat_length)
        have hD2_ : va_D A [(q27, (.inr (9, [.null, .int 0, .int 0, .int 0, .int 0, .int 0, .int 0]) : va_E))] := hD.sub [(zw dA za k9 tx u12 r11.2).length] (by simp [va_nd]) hC_
        refine k_v0 [(zw dA za k9 tx u12 r11.2).length] (va_runI (As := [.ref (u12.1 p0), .int p1]) (rest := [.ref q27]) ⟨hx, hb, hml, hown, hts⟩ (ctX12_init l D dA _ (u12.1 p0) q27 p1 (0) (0) (0) (0) (0) (0) (.null) _ er28) (cwI 2 hts (lw_meth q802) rfl rfl rfl (hts _ q132) (hts _ q800) (hts _ q801) rfl (by decide +kernel) ⟨Nat.le_of_ble_eq_true rfl, Nat.le_of_ble_eq_true rfl⟩) (pre_S hP2_ hK hD2_) rfl rfl hl.1 rfl (lv_room (Nat.le_of_ble_eq_true rfl)) dX2_personOf_53 ⟨Nat.le_of_ble_eq_true rfl, Nat.le_of_ble_eq_true rfl⟩) hP hD hS hA hC_ (fun _ => rfl) (fun u29 H locs hP hD hS => ?_)
        rw [putAt, putAt, List.set_append_right _ _ (Nat.le_refl _), Nat.sub_self] at hP hD
        have hP : va_P D clG (zw dA za k9 tx (hpers u12 r11.2 q27) (zpers r11.2 2 p0 p1)) H := by rw [← zw_pers h30.1 h30.2]; exact hP
        have hD : va_D A (zw dA za k9 tx (hpers u12 r11.2 q27) (zpers r11.2 2 p0 p1)) := by rw [← zw_pers h30.1 h30.2]; exact hD
        have x33 : zext u12 (hpers u12 r11.2 q27) r11.2 (zpers r11.2 2 p0 p1) := zext_pers
        have hP : va_P D clG (zw dA za k9 tx (hpers u12 r11.2 q27) (r11.2.1, r11.2.2.1, r11.2.2.2.1, r11.2.2.2.2.1, r11.2.2.2.2.2.1, r11.2.2.2.2.2.2.1, r11.2.2.2.2.2.2.2.1, r11.2.2.2.2.2.2.2.2.1, r11.2.2.2.2.2.2.2.2.2.1, r11.2.2.2.2.2.2.2.2.2.2.1, r11.2.2.2.2.2.2.2.2.2.2.2.1, r11.2.2.2.2.2.2.2.2.2.2.2.2.1, r11.2.2.2.2.2.2.2.2.2.2.2.2.2.1, r11.2.2.2.2.2.2.2.2.2.2.2.2.2.2.1, r11.2.2.2.2.2.2.2.2.2.2.2.2.2.2.2.1, r11.2.2.2.2.2.2.2.2.2.2.2.2.2.2.2.2.1, r11.2.2.2.2.2.2.2.2.2.2.2.2.2.2.2.2.2.1, r11.2.2.2.2.2.2.2.2.2.2.2.2.2.2.2.2.2.2.1, r11.2.2.2.2.2.2.2.2.2.2.2.2.2.2.2.2.2.2.2.1, (r11.2.2.2.2.2.2.2.2.2.2.2.2.2.2.2.2.2.2.2.2.1 + 1), (updF r11.2.2.2.2.2.2.2.2.2.2.2.2.2.2.2.2.2.2.2.2.2.1 r11.2.2.2.2.2.2.2.2.2.2.2.2.2.2.2.2.2.2.2.2.1 2), (updF r11.2.2.2.2.2.2.2.2.2.2.2.2.2.2.2.2.2.2.2.2.2.2.1 r11.2.2.2.2.2.2.2.2.2.2.2.2.2.2.2.2.2.2.2.2.1 p0), (upd r11.2.2.2.2.2.2.2.2.2.2.2.2.2.2.2.2.2.2.2.2.2.2.2.1 r11.2.2.2.2.2.2.2.2.2.2.2.2.2.2.2.2.2.2.2.2.1 p1), (upd r11.2.2.2.2.2.2.2.2.2.2.2.2.2.2.2.2.2.2.2.2.2.2.2.2.1 r11.2.2.2.2.2.2.2.2.2.2.2.2.2.2.2.2.2.2.2.2.1 0), (upd r11.2.2.2.2.2.2.2.2.2.2.2.2.2.2.2.2.2.2.2.2.2.2.2.2.2.1 r11.2.2.2.2.2.2.2.2.2.2.2.2.2.2.2.2.2.2.2.2.1 0), (upd r11.2.2.2.2.2.2.2.2.2.2.2.2.2.2.2.2.2.2.2.2.2.2.2.2.2.2.1 r11.2.2.2.2.2.2.2.2.2.2.2.2.2.2.2.2.2.2.2.2.1 0), (upd r11.2.2.2.2.2.2.2.2.2.2.2.2.2.2.2.2.2.2.2.2.2.2.2.2.2.2.2.1 r11.2.2.2.2.2.2.2.2.2.2.2.2.2.2.2.2.2.2.2.2.1 0), (upd r11.2.2.2.2.2.2.2.2.2.2.2.2.2.2.2.2.2.2.2.2.2.2.2.2.2.2.2.2.1 r11.2.2.2.2.2.2.2.2.2.2.2.2.2.2.2.2.2.2.2.2.1 (-1)), r11.2.2.2.2.2.2.2.2.2.2.2.2.2.2.2.2.2.2.2.2.2.2.2.2.2.2.2.2.2.1, r11.2.2.2.2.2.2.2.2.2.2.2.2.2.2.2.2.2.2.2.2.2.2.2.2.2.2.2.2.2.2.1, r11.2.2.2.2.2.2.2.2.2.2.2.2.2.2.2.2.2.2.2.2.2.2.2.2.2.2.2.2.2.2.2.1, r11.2.2.2.2.2.2.2.2.2.2.2.2.2.2.2.2.2.2.2.2.2.2.2.2.2.2.2.2.2.2.2.2)) H := hP
        have hD : va_D A (zw dA za k9 tx (hpers u12 r11.2 q27) (r11.2.1, r11.2.2.1, r11.2.2.2.1, r11.2.2.2.2.1, r11.2.2.2.2.2.1, r11.2.2.2.2.2.2.1, r11.2.2.2.2.2.2.2.1, r11.2.2.2.2.2.2.2.2.1, r11.2.2.2.2.2.2.2.2.2.1, r11.2.2.2.2.2.2.2.2.2.2.1, r11.2.2.2.2.2.2.2.2.2.2.2.1, r11.2.2.2.2.2.2.2.2.2.2.2.2.1, r11.2.2.2.2.2.2.2.2.2.2.2.2.2.1, r11.2.2.2.2.2.2.2.2.2.2.2.2.2.2.1, r11.2.2.2.2.2.2.2.2.2.2.2.2.2.2.2.1, r11.2.2.2.2.2.2.2.2.2.2.2.2.2.2.2.2.1, r11.2.2.2.2.2.2.2.2.2.2.2.2.2.2.2.2.2.1, r11.2.2.2.2.2.2.2.2.2.2.2.2.2.2.2.2.2.2.1, r11.2.2.2.2.2.2.2.2.2.2.2.2.2.2.2.2.2.2.2.1, (r11.2.2.2.2.2.2.2.2.2.2.2.2.2.2.2.2.2.2.2.2.1 + 1), (updF r11.2.2.2.2.2.2.2.2.2.2.2.2.2.2.2.2.2.2.2.2.2.1 r11.2.2.2.2.2.2.2.2.2.2.2.2.2.2.2.2.2.2.2.2.1 2), (updF r11.2.2.2.2.2.2.2.2.2.2.2.2.2.2.2.2.2.2.2.2.2.2.1 r11.2.2.2.2.2.2.2.2.2.2.2.2.2.2.2.2.2.2.2.2.1 p0), (upd r11.2.2.2.2.2.2.2.2.2.2.2.2.2.2.2.2.2.2.2.2.2.2.2.1 r11.2.2.2.2.2.2.2.2.2.2.2.2.2.2.2.2.2.2.2.2.1 p1), (upd r11.2.2.2.2.2.2.2.2.2.2.2.2.2.2.2.2.2.2.2.2.2.2.2.2.1 r11.2.2.2.2.2.2.2.2.2.2.2.2.2.2.2.2.2.2.2.2.1 0), (upd r11.2.2.2.2.2.2.2.2.2.2.2.2.2.2.2.2.2.2.2.2.2.2.2.2.2.1 r11.2.2.2.2.2.2.2.2.2.2.2.2.2.2.2.2.2.2.2.2.1 0), (upd r11.2.2.2.2.2.2.2.2.2.2.2.2.2.2.2.2.2.2.2.2.2.2.2.2.2.2.1 r11.2.2.2.2.2.2.2.2.2.2.2.2.2.2.2.2.2.2.2.2.1 0), (upd r11.2.2.2.2.2.2.2.2.2.2.2.2.2.2.2.2.2.2.2.2.2.2.2.2.2.2.2.1 r11.2.2.2.2.2.2.2.2.2.2.2.2.2.2.2.2.2.2.2.2.1 0), (upd r11.2.2.2.2.2.2.2.2.2.2.2.2.2.2.2.2.2.2.2.2.2.2.2.2.2.2.2.2.1 r11.2.2.2.2.2.2.2.2.2.2.2.2.2.2.2.2.2.2.2.2.1 (-1)), r11.2.2.2.2.2.2.2.2.2.2.2.2.2.2.2.2.2.2.2.2.2.2.2.2.2.2.2.2.2.1, r11.2.2.2.2.2.2.2.2.2.2.2.2.2.2.2.2.2.2.2.2.2.2.2.2.2.2.2.2.2.2.1, r11.2.2.2.2.2.2.2.2.2.2.2.2.2.2.2.2.2.2.2.2.2.2.2.2.2.2.2.2.2.2.2.1, r11.2.2.2.2.2.2.2.2.2.2.2.2.2.2.2.2.2.2.2.2.2.2.2.2.2.2.2.2.2.2.2.2)) := hD
        refine W.eq (g2 := F0 m 56 ls [.ref ((hpers u12 r11.2 q27).2.2.2.1 r11.2.2.2.2.2.2.2.2.2.2.2.2.2.2.2.2.2.2.2.2.1)]) (by simp only [hpers, updF_s]) ?_
        have hl : lv_has ls 3 [(0, .ref (za 0)), (1, .ref ((hpers u12 r11.2 q27).1 p0)), (2, .int p1)] := hl
        cases hM
    · rw [if_neg c10] at hM
      refine va_new (ci := 8) (fs := [.null, .int 0, .int 0, .int 0, .int 0, .int 0, .int 0]) (C := RX11) (T := TX11) (N := 7) hx hb hts in_X11 tyX11 tyX11_ok hown (hts _ q783) (hts _ q784) (hts _ q131) hK.1 hP hD hS hA rfl (fs_of rfl) (Nat.le_of_ble_eq_true rfl) (Nat.le_of_ble_eq_true rfl) dX2_personOf_28 (fun q34 H hP hD hS => ?_)
      have hP : va_P D clG ((zw dA za k9 tx u7 r6.2) ++ [(q34, .inr (8, [.null, .int 0, .int 0, .int 0, .int 0, .int 0, .int 0]))]) H := hP
      have hD : va_D A ((zw dA za k9 tx u7 r6.2) ++ [(q34, .inr (8, [.null, .int 0, .int 0, .int 0, .int 0, .int 0, .int 0]))]) := hD
      refine W.widen (k := 5) (n := 31) (Nat.le_of_ble_eq_true rfl) (Nat.le_of_ble_eq_true rfl) ?_
      refine lv_dup hx hb dX2_personOf_31 rfl ?_
      refine lv_aload_n hx hb dX2_personOf_32 rfl (lv_at hl 1 rfl) ?_
      refine lv_iload_n hx hb dX2_personOf_33 rfl (lv_at hl 2 rfl) ?_
      obtain ⟨h37, hM⟩ := gall_inv hM
      have er35 : MX11_init p1 = some (p1, (-1 : Int32)) := rfl
      have hC_ : [(zw dA za k9 tx u7 r6.2).length].map (fun i => ((zw dA za k9 tx u7 r6.2) ++ [(q34, .inr (8, [.null, .int 0, .int 0, .int 0, .int 0, .int 0, .int 0]))])[i]?) = ([(q34, (.inr (8, [.null, .int 0, .int 0, .int 0, .int 0, .int 0, .int 0]) : va_E))] : va_W).map some := by rw [List.map_cons, List.map_nil, List.getElem?_concat_length]; rfl
      have hP2_ : va_P D clG [(q34, (.inr (8, [.null, .int 0, .int 0, .int 0, .int 0, .int 0, .int 0]) : va_E))] H := one_P (hP _ _ List.getElem?_concat_length)
      have hD2_ : va_D A [(q34, (.inr (8, [.null, .int 0, .int 0, .int 0, .int 0, .int 0, .int 0]) : va_E))] := hD.sub [(zw dA za k9 tx u7 r6.2).length] (by simp [va_nd]) hC_
      refine k_v0 [(zw dA za k9 tx u7 r6.2).length] (va_runI (As := [.ref (u7.1 p0), .int p1]) (rest := [.ref q34]) ⟨hx, hb, hml, hown, hts⟩ (ctX11_init l D dA _ (u7.1 p0) q34 p1 (0) (0) (0) (0) (0) (0) (.null) _ er35) (cwI 2 hts (lw_meth q787) rfl rfl rfl (hts _ q131) (hts _ q785) (hts _ q786) rfl (by decide +kernel) ⟨Nat.le_of_ble_eq_true rfl, Nat.le_of_ble_eq_true rfl⟩) (pre_S hP2_ hK hD2_) rfl rfl hl.1 rfl (lv_room (Nat.le_of_ble_eq_true rfl)) dX2_personOf_34 ⟨Nat.le_of_ble_eq_true rfl, Nat.le_of_ble_eq_true rfl⟩) hP hD hS hA hC_ (fun _ => rfl) (fun u36 H locs hP hD hS => ?_)
      rw [putAt, putAt, List.set_append_right _ _ (Nat.le_refl _), Nat.sub_self] at hP hD
      have hP : va_P D clG (zw dA za k9 tx (hpers u7 r6.2 q34) (zpers r6.2 1 p0 p1)) H := by rw [← zw_pers h37.1 h37.2]; exact hP
      have hD : va_D A (zw dA za k9 tx (hpers u7 r6.2 q34) (zpers r6.2 1 p0 p1)) := by rw [← zw_pers h37.1 h37.2]; exact hD
      have x40 : zext u7 (hpers u7 r6.2 q34) r6.2 (zpers r6.2 1 p0 p1) := zext_pers
      have hP : va_P D clG (zw dA za k9 tx (hpers u7 r6.2 q34) (r6.2.1, r6.2.2.1, r6.2.2.2.1, r6.2.2.2.2.1, r6.2.2.2.2.2.1, r6.2.2.2.2.2.2.1, r6.2.2.2.2.2.2.2.1, r6.2.2.2.2.2.2.2.2.1, r6.2.2.2.2.2.2.2.2.2.1, r6.2.2.2.2.2.2.2.2.2.2.1, r6.2.2.2.2.2.2.2.2.2.2.2.1, r6.2.2.2.2.2.2.2.2.2.2.2.2.1, r6.2.2.2.2.2.2.2.2.2.2.2.2.2.1, r6.2.2.2.2.2.2.2.2.2.2.2.2.2.2.1, r6.2.2.2.2.2.2.2.2.2.2.2.2.2.2.2.1, r6.2.2.2.2.2.2.2.2.2.2.2.2.2.2.2.2.1, r6.2.2.2.2.2.2.2.2.2.2.2.2.2.2.2.2.2.1, r6.2.2.2.2.2.2.2.2.2.2.2.2.2.2.2.2.2.2.1, r6.2.2.2.2.2.2.2.2.2.2.2.2.2.2.2.2.2.2.2.1, (r6.2.2.2.2.2.2.2.2.2.2.2.2.2.2.2.2.2.2.2.2.1 + 1), (updF r6.2.2.2.2.2.2.2.2.2.2.2.2.2.2.2.2.2.2.2.2.2.1 r6.2.2.2.2.2.2.2.2.2.2.2.2.2.2.2.2.2.2.2.2.1 1), (updF r6.2.2.2.2.2.2.2.2.2.2.2.2.2.2.2.2.2.2.2.2.2.2.1 r6.2.2.2.2.2.2.2.2.2.2.2.2.2.2.2.2.2.2.2.2.1 p0), (upd r6.2.2.2.2.2.2.2.2.2.2.2.2.2.2.2.2.2.2.2.2.2.2.2.1 r6.2.2.2.2.2.2.2.2.2.2.2.2.2.2.2.2.2.2.2.2.1 p1), (upd r6.2.2.2.2.2.2.2.2.2.2.2.2.2.2.2.2.2.2.2.2.2.2.2.2.1 r6.2.2.2.2.2.2.2.2.2.2.2.2.2.2.2.2.2.2.2.2.1 0), (upd r6.2.2.2.2.2.2.2.2.2.2.2.2.2.2.2.2.2.2.2.2.2.2.2.2.2.1 r6.2.2.2.2.2.2.2.2.2.2.2.2.2.2.2.2.2.2.2.2.1 0), (upd r6.2.2.2.2.2.2.2.2.2.2.2.2.2.2.2.2.2.2.2.2.2.2.2.2.2.2.1 r6.2.2.2.2.2.2.2.2.2.2.2.2.2.2.2.2.2.2.2.2.1 0), (upd r6.2.2.2.2.2.2.2.2.2.2.2.2.2.2.2.2.2.2.2.2.2.2.2.2.2.2.2.1 r6.2.2.2.2.2.2.2.2.2.2.2.2.2.2.2.2.2.2.2.2.1 0), (upd r6.2.2.2.2.2.2.2.2.2.2.2.2.2.2.2.2.2.2.2.2.2.2.2.2.2.2.2.2.1 r6.2.2.2.2.2.2.2.2.2.2.2.2.2.2.2.2.2.2.2.2.1 (-1)), r6.2.2.2.2.2.2.2.2.2.2.2.2.2.2.2.2.2.2.2.2.2.2.2.2.2.2.2.2.2.1, r6.2.2.2.2.2.2.2.2.2.2.2.2.2.2.2.2.2.2.2.2.2.2.2.2.2.2.2.2.2.2.1, r6.2.2.2.2.2.2.2.2.2.2.2.2.2.2.2.2.2.2.2.2.2.2.2.2.2.2.2.2.2.2.2.1, r6.2.2.2.2.2.2.2.2.2.2.2.2.2.2.2.2.2.2.2.2.2.2.2.2.2.2.2.2.2.2.2.2)) H := hP
      have hD : va_D A (zw dA za k9 tx (hpers u7 r6.2 q34) (r6.2.1, r6.2.2.1, r6.2.2.2.1, r6.2.2.2.2.1, r6.2.2.2.2.2.1, r6.2.2.2.2.2.2.1, r6.2.2.2.2.2.2.2.1, r6.2.2.2.2.2.2.2.2.1, r6.2.2.2.2.2.2.2.2.2.1, r6.2.2.2.2.2.2.2.2.2.2.1, r6.2.2.2.2.2.2.2.2.2.2.2.1, r6.2.2.2.2.2.2.2.2.2.2.2.2.1, r6.2.2.2.2.2.2.2.2.2.2.2.2.2.1, r6.2.2.2.2.2.2.2.2.2.2.2.2.2.2.1, r6.2.2.2.2.2.2.2.2.2.2.2.2.2.2.2.1, r6.2.2.2.2.2.2.2.2.2.2.2.2.2.2.2.2.1, r6.2.2.2.2.2.2.2.2.2.2.2.2.2.2.2.2.2.1, r6.2.2.2.2.2.2.2.2.2.2.2.2.2.2.2.2.2.2.1, r6.2.2.2.2.2.2.2.2.2.2.2.2.2.2.2.2.2.2.2.1, (r6.2.2.2.2.2.2.2.2.2.2.2.2.2.2.2.2.2.2.2.2.1 + 1), (updF r6.2.2.2.2.2.2.2.2.2.2.2.2.2.2.2.2.2.2.2.2.2.1 r6.2.2.2.2.2.2.2.2.2.2.2.2.2.2.2.2.2.2.2.2.1 1), (updF r6.2.2.2.2.2.2.2.2.2.2.2.2.2.2.2.2.2.2.2.2.2.2.1 r6.2.2.2.2.2.2.2.2.2.2.2.2.2.2.2.2.2.2.2.2.1 p0), (upd r6.2.2.2.2.2.2.2.2.2.2.2.2.2.2.2.2.2.2.2.2.2.2.2.1 r6.2.2.2.2.2.2.2.2.2.2.2.2.2.2.2.2.2.2.2.2.1 p1), (upd r6.2.2.2.2.2.2.2.2.2.2.2.2.2.2.2.2.2.2.2.2.2.2.2.2.1 r6.2.2.2.2.2.2.2.2.2.2.2.2.2.2.2.2.2.2.2.2.1 0), (upd r6.2.2.2.2.2.2.2.2.2.2.2.2.2.2.2.2.2.2.2.2.2.2.2.2.2.1 r6.2.2.2.2.2.2.2.2.2.2.2.2.2.2.2.2.2.2.2.2.1 0), (upd r6.2.2.2.2.2.2.2.2.2.2.2.2.2.2.2.2.2.2.2.2.2.2.2.2.2.2.1 r6.2.2.2.2.2.2.2.2.2.2.2.2.2.2.2.2.2.2.2.2.1 0), (upd r6.2.2.2.2.2.2.2.2.2.2.2.2.2.2.2.2.2.2.2.2.2.2.2.2.2.2.2.1 r6.2.2.2.2.2.2.2.2.2.2.2.2.2.2.2.2.2.2.2.2.1 0), (upd r6.2.2.2.2.2.2.2.2.2.2.2.2.2.2.2.2.2.2.2.2.2.2.2.2.2.2.2.2.1 r6.2.2.2.2.2.2.2.2.2.2.2.2.2.2.2.2.2.2.2.2.1 (-1)), r6.2.2.2.2.2.2.2.2.2.2.2.2.2.2.2.2.2.2.2.2.2.2.2.2.2.2.2.2.2.1, r6.2.2.2.2.2.2.2.2.2.2.2.2.2.2.2.2.2.2.2.2.2.2.2.2.2.2.2.2.2.2.1, r6.2.2.2.2.2.2.2.2.2.2.2.2.2.2.2.2.2.2.2.2.2.2.2.2.2.2.2.2.2.2.2.1, r6.2.2.2.2.2.2.2.2.2.2.2.2.2.2.2.2.2.2.2.2.2.2.2.2.2.2.2.2.2.2.2.2)) := hD
      refine W.eq (g2 := F0 m 37 ls [.ref ((hpers u7 r6.2 q34).2.2.2.1 r6.2.2.2.2.2.2.2.2.2.2.2.2.2.2.2.2.2.2.2.2.1)]) (by simp only [hpers, updF_s]) ?_
      have hl : lv_has ls 3 [(0, .ref (za 0)), (1, .ref ((hpers u7 r6.2 q34).1 p0)), (2, .int p1)] := hl
      cases hM
  · rw [if_neg c5] at hM
    refine va_new (ci := 7) (fs := [.null, .int 0, .int 0, .int 0, .int 0, .int 0, .int 0]) (C := RX10) (T := TX10) (N := 7) hx hb hts in_X10 tyX10 tyX10_ok hown (hts _ q739) (hts _ q740) (hts _ q130) hK.1 hP hD hS hA rfl (fs_of rfl) (Nat.le_of_ble_eq_true rfl) (Nat.le_of_ble_eq_true rfl) dX2_personOf_9 (fun q41 H hP hD hS => ?_)
    have hP : va_P D clG ((zw dA za k9 tx u2 r1.2) ++ [(q41, .inr (7, [.null, .int 0, .int 0, .int 0, .int 0, .int 0, .int 0]))]) H := hP
    have hD : va_D A ((zw dA za k9 tx u2 r1.2) ++ [(q41, .inr (7, [.null, .int 0, .int 0, .int 0, .int 0, .int 0, .int 0]))]) := hD
    refine W.widen (k := 3) (n := 19) (Nat.le_of_ble_eq_true rfl) (Nat.le_of_ble_eq_true rfl) ?_
    refine lv_dup hx hb dX2_personOf_12 rfl ?_
    refine lv_aload_n hx hb dX2_personOf_13 rfl (lv_at hl 1 rfl) ?_
    refine lv_iload_n hx hb dX2_personOf_14 rfl (lv_at hl 2 rfl) ?_
    obtain ⟨h44, hM⟩ := gall_inv hM
    have er42 : MX10_init p1 = some (p1, (-1 : Int32)) := rfl
    have hC_ : [(zw dA za k9 tx u2 r1.2).length].map (fun i => ((zw dA za k9 tx u2 r1.2) ++ [(q41, .inr (7, [.null, .int 0, .int 0, .int 0, .int 0, .int 0, .int 0]))])[i]?) = ([(q41, (.inr (7, [.null, .int 0, .int 0, .int 0, .int 0, .int 0, .int 0]) : va_E))] : va_W).map some := by rw [List.map_cons, List.map_nil, List.getElem?_concat_length]; rfl
    have hP2_ : va_P D clG [(q41, (.inr (7, [.null, .int 0, .int 0, .int 0, .int 0, .int 0, .int 0]) : va_E))] H := one_P (hP _ _ List.getElem?_concat_length)
    have hD2_ : va_D A [(q41, (.inr (7, [.null, .int 0, .int 0, .int 0, .int 0, .int 0, .int 0]) : va_E))] := hD.sub [(zw dA za k9 tx u2 r1.2).length] (by simp [va_nd]) hC_
    refine k_v0 [(zw dA za k9 tx u2 r1.2).length] (va_runI (As := [.ref (u2.1 p0), .int p1]) (rest := [.ref q41]) ⟨hx, hb, hml, hown, hts⟩ (ctX10_init l D dA _ (u2.1 p0) q41 p1 (0) (0) (0) (0) (0) (0) (.null) _ er42) (cwI 2 hts (lw_meth q743) rfl rfl rfl (hts _ q130) (hts _ q741) (hts _ q742) rfl (by decide +kernel) ⟨Nat.le_of_ble_eq_true rfl, Nat.le_of_ble_eq_true rfl⟩) (pre_S hP2_ hK hD2_) rfl rfl hl.1 rfl (lv_room (Nat.le_of_ble_eq_true rfl)) dX2_personOf_15 ⟨Nat.le_of_ble_eq_true rfl, Nat.le_of_ble_eq_true rfl⟩) hP hD hS hA hC_ (fun _ => rfl) (fun u43 H locs hP hD hS => ?_)
    rw [putAt, putAt, List.set_append_right _ _ (Nat.le_refl _), Nat.sub_self] at hP hD
    have hP : va_P D clG (zw dA za k9 tx (hpers u2 r1.2 q41) (zpers r1.2 0 p0 p1)) H := by rw [← zw_pers h44.1 h44.2]; exact hP
    have hD : va_D A (zw dA za k9 tx (hpers u2 r1.2 q41) (zpers r1.2 0 p0 p1)) := by rw [← zw_pers h44.1 h44.2]; exact hD
    have x47 : zext u2 (hpers u2 r1.2 q41) r1.2 (zpers r1.2 0 p0 p1) := zext_pers
    have hP : va_P D clG (zw dA za k9 tx (hpers u2 r1.2 q41) (r1.2.1, r1.2.2.1, r1.2.2.2.1, r1.2.2.2.2.1, r1.2.2.2.2.2.1, r1.2.2.2.2.2.2.1, r1.2.2.2.2.2.2.2.1, r1.2.2.2.2.2.2.2.2.1, r1.2.2.2.2.2.2.2.2.2.1, r1.2.2.2.2.2.2.2.2.2.2.1, r1.2.2.2.2.2.2.2.2.2.2.2.1, r1.2.2.2.2.2.2.2.2.2.2.2.2.1, r1.2.2.2.2.2.2.2.2.2.2.2.2.2.1, r1.2.2.2.2.2.2.2.2.2.2.2.2.2.2.1, r1.2.2.2.2.2.2.2.2.2.2.2.2.2.2.2.1, r1.2.2.2.2.2.2.2.2.2.2.2.2.2.2.2.2.1, r1.2.2.2.2.2.2.2.2.2.2.2.2.2.2.2.2.2.1, r1.2.2.2.2.2.2.2.2.2.2.2.2.2.2.2.2.2.2.1, r1.2.2.2.2.2.2.2.2.2.2.2.2.2.2.2.2.2.2.2.1, (r1.2.2.2.2.2.2.2.2.2.2.2.2.2.2.2.2.2.2.2.2.1 + 1), (updF r1.2.2.2.2.2.2.2.2.2.2.2.2.2.2.2.2.2.2.2.2.2.1 r1.2.2.2.2.2.2.2.2.2.2.2.2.2.2.2.2.2.2.2.2.1 0), (updF r1.2.2.2.2.2.2.2.2.2.2.2.2.2.2.2.2.2.2.2.2.2.2.1 r1.2.2.2.2.2.2.2.2.2.2.2.2.2.2.2.2.2.2.2.2.1 p0), (upd r1.2.2.2.2.2.2.2.2.2.2.2.2.2.2.2.2.2.2.2.2.2.2.2.1 r1.2.2.2.2.2.2.2.2.2.2.2.2.2.2.2.2.2.2.2.2.1 p1), (upd r1.2.2.2.2.2.2.2.2.2.2.2.2.2.2.2.2.2.2.2.2.2.2.2.2.1 r1.2.2.2.2.2.2.2.2.2.2.2.2.2.2.2.2.2.2.2.2.1 0), (upd r1.2.2.2.2.2.2.2.2.2.2.2.2.2.2.2.2.2.2.2.2.2.2.2.2.2.1 r1.2.2.2.2.2.2.2.2.2.2.2.2.2.2.2.2.2.2.2.2.1 0), (upd r1.2.2.2.2.2.2.2.2.2.2.2.2.2.2.2.2.2.2.2.2.2.2.2.2.2.2.1 r1.2.2.2.2.2.2.2.2.2.2.2.2.2.2.2.2.2.2.2.2.1 0), (upd r1.2.2.2.2.2.2.2.2.2.2.2.2.2.2.2.2.2.2.2.2.2.2.2.2.2.2.2.1 r1.2.2.2.2.2.2.2.2.2.2.2.2.2.2.2.2.2.2.2.2.1 0), (upd r1.2.2.2.2.2.2.2.2.2.2.2.2.2.2.2.2.2.2.2.2.2.2.2.2.2.2.2.2.1 r1.2.2.2.2.2.2.2.2.2.2.2.2.2.2.2.2.2.2.2.2.1 (-1)), r1.2.2.2.2.2.2.2.2.2.2.2.2.2.2.2.2.2.2.2.2.2.2.2.2.2.2.2.2.2.1, r1.2.2.2.2.2.2.2.2.2.2.2.2.2.2.2.2.2.2.2.2.2.2.2.2.2.2.2.2.2.2.1, r1.2.2.2.2.2.2.2.2.2.2.2.2.2.2.2.2.2.2.2.2.2.2.2.2.2.2.2.2.2.2.2.1, r1.2.2.2.2.2.2.2.2.2.2.2.2.2.2.2.2.2.2.2.2.2.2.2.2.2.2.2.2.2.2.2.2)) H := hP
    have hD : va_D A (zw dA za k9 tx (hpers u2 r1.2 q41) (r1.2.1, r1.2.2.1, r1.2.2.2.1, r1.2.2.2.2.1, r1.2.2.2.2.2.1, r1.2.2.2.2.2.2.1, r1.2.2.2.2.2.2.2.1, r1.2.2.2.2.2.2.2.2.1, r1.2.2.2.2.2.2.2.2.2.1, r1.2.2.2.2.2.2.2.2.2.2.1, r1.2.2.2.2.2.2.2.2.2.2.2.1, r1.2.2.2.2.2.2.2.2.2.2.2.2.1, r1.2.2.2.2.2.2.2.2.2.2.2.2.2.1, r1.2.2.2.2.2.2.2.2.2.2.2.2.2.2.1, r1.2.2.2.2.2.2.2.2.2.2.2.2.2.2.2.1, r1.2.2.2.2.2.2.2.2.2.2.2.2.2.2.2.2.1, r1.2.2.2.2.2.2.2.2.2.2.2.2.2.2.2.2.2.1, r1.2.2.2.2.2.2.2.2.2.2.2.2.2.2.2.2.2.2.1, r1.2.2.2.2.2.2.2.2.2.2.2.2.2.2.2.2.2.2.2.1, (r1.2.2.2.2.2.2.2.2.2.2.2.2.2.2.2.2.2.2.2.2.1 + 1), (updF r1.2.2.2.2.2.2.2.2.2.2.2.2.2.2.2.2.2.2.2.2.2.1 r1.2.2.2.2.2.2.2.2.2.2.2.2.2.2.2.2.2.2.2.2.1 0), (updF r1.2.2.2.2.2.2.2.2.2.2.2.2.2.2.2.2.2.2.2.2.2.2.1 r1.2.2.2.2.2.2.2.2.2.2.2.2.2.2.2.2.2.2.2.2.1 p0), (upd r1.2.2.2.2.2.2.2.2.2.2.2.2.2.2.2.2.2.2.2.2.2.2.2.1 r1.2.2.2.2.2.2.2.2.2.2.2.2.2.2.2.2.2.2.2.2.1 p1), (upd r1.2.2.2.2.2.2.2.2.2.2.2.2.2.2.2.2.2.2.2.2.2.2.2.2.1 r1.2.2.2.2.2.2.2.2.2.2.2.2.2.2.2.2.2.2.2.2.1 0), (upd r1.2.2.2.2.2.2.2.2.2.2.2.2.2.2.2.2.2.2.2.2.2.2.2.2.2.1 r1.2.2.2.2.2.2.2.2.2.2.2.2.2.2.2.2.2.2.2.2.1 0), (upd r1.2.2.2.2.2.2.2.2.2.2.2.2.2.2.2.2.2.2.2.2.2.2.2.2.2.2.1 r1.2.2.2.2.2.2.2.2.2.2.2.2.2.2.2.2.2.2.2.2.1 0), (upd r1.2.2.2.2.2.2.2.2.2.2.2.2.2.2.2.2.2.2.2.2.2.2.2.2.2.2.2.1 r1.2.2.2.2.2.2.2.2.2.2.2.2.2.2.2.2.2.2.2.2.1 0), (upd r1.2.2.2.2.2.2.2.2.2.2.2.2.2.2.2.2.2.2.2.2.2.2.2.2.2.2.2.2.1 r1.2.2.2.2.2.2.2.2.2.2.2.2.2.2.2.2.2.2.2.2.1 (-1)), r1.2.2.2.2.2.2.2.2.2.2.2.2.2.2.2.2.2.2.2.2.2.2.2.2.2.2.2.2.2.1, r1.2.2.2.2.2.2.2.2.2.2.2.2.2.2.2.2.2.2.2.2.2.2.2.2.2.2.2.2.2.2.1, r1.2.2.2.2.2.2.2.2.2.2.2.2.2.2.2.2.2.2.2.2.2.2.2.2.2.2.2.2.2.2.2.1, r1.2.2.2.2.2.2.2.2.2.2.2.2.2.2.2.2.2.2.2.2.2.2.2.2.2.2.2.2.2.2.2.2)) := hD
    refine W.eq (g2 := F0 m 18 ls [.ref ((hpers u2 r1.2 q41).2.2.2.1 r1.2.2.2.2.2.2.2.2.2.2.2.2.2.2.2.2.2.2.2.2.1)]) (by simp only [hpers, updF_s]) ?_
    have hl : lv_has ls 3 [(0, .ref (za 0)), (1, .ref ((hpers u2 r1.2 q41).1 p0)), (2, .int p1)] := hl
    cases hM
set_option maxHeartbeats 40000000 in
theorem ctZ_personLine (l : Launch) (D : va_G) (dA : Nat → ClassId) (sz : Nat) (za : Nat → Nat) (h : ZH) (tx : AI) (k9 : Int32 × Int32 × Int32) (ka kv : Nat → Nat) (s : ZS) (r : ZS) (hM : MZ_personLine tx k9.1 s = some (.inr r)) : Met l yX2_personLine (ws_ yX2_personLine cX2_personLine 2 none) ({ frames := 9, cells := 21, slots := 127, locals := 371 }) (preX D dA (ZE ka kv) [.ref (za 0)] (zw dA za k9 tx h s) sz) (qz_ D (fun (u : ZH) => none) (fun u => zext h u s r) (fun u => zw dA za k9 tx u r) (va_A (zw dA za k9 tx h s) sz)) 21 127 (va_A (zw dA za k9 tx h s) sz) := by
  refine Met.ofW (cc := cX2_personLine) (maxL := 2) (ret := none) (by decide) rfl ?_
  intro p e s0 m args below meth c s₁ B hml hv
  obtain ⟨rfl, hsz, hP, hK, hD0, hE⟩ := hv
  have hx := B.exec
  have hb := B.bytes
  have hr := B.returns
  have hts := atoms_spec (ws := (ws_ yX2_personLine cX2_personLine 2 none)) B.pre
  have hts : ∀ w ∈ lw_all, w.before _ s0 = true := fun w h => hts w (List.mem_cons_of_mem _ h)
  have hown : s0.vm.findClass RX2 = some m.cls := findClass_of_methodNamed B.named
  have hlocks := B.notSynchronized
  subst hsz
  have hD := hD0.self (sz := s0.heap.size)
  generalize hAe : va_A (zw dA za k9 tx h s) s0.heap.size = A at hD hE ⊢
  have hA : ∀ q : Nat, s0.heap.size ≤ q → A q := fun q h => by rw [← hAe]; exact Or.inr h
  have hS : va_S A s0.heap s0.heap [] := va_S.rf
  have hl := lv_entry ([.ref (za 0)]) (n := 2) (Nat.le_of_ble_eq_true rfl)
  rw [lg_entry_eq]
  generalize (lg_sl ([.ref (za 0)]) ++ List.replicate (2 - (lg_sl ([.ref (za 0)])).length) Slot.unset).toArray = ls at hl ⊢
  have hl : lv_has ls 2 [(0, .ref (za 0))] := hl
  unfold MZ_personLine at hM
  refine lv_aload_n hx hb dX2_personLine_0 rfl (lv_at hl 0 rfl) ?_
  refine lv_aload_n hx hb dX2_personLine_1 rfl (lv_at hl 0 rfl) ?_
  refine va_get (D := D) (ci := 1) (v := .ref (za 4)) (C := RX2) (T := TX2) (N := 11) hx hb hts in_X2 hown hK.1 hP 0 rfl rfl 9 (by decide) (hts _ q235) (fun _ h9 => h9) rfl dX2_personLine_2 ?_
  refine va_get (D := D) (ci := 6) (v := .int s.2.2.2.2.2.2.2.2.2.1) (C := RX8) (T := TX8) (N := 13) hx hb hts in_X8 hown hK.1 hP 4 rfl rfl 8 (by decide) (hts _ q485) (fun _ h9 => h9) rfl dX2_personLine_5 ?_
  refine lv_bipush (v := (6 : Int32)) hx hb dX2_personLine_8 (by decide) ?_
  refine lv_icmp_ge (tgt := 17) hx hb dX2_personLine_10 (by decide) (fun c1 => ?_) (fun c1 => ?_)
  · rw [if_pos c1] at hM
    refine lv_iconst (v := (0 : Int32)) hx hb dX2_personLine_17 (by decide) ?_
    obtain ⟨r2_, er2, hM⟩ := b_inv hM
    cases r2_ with
    | inl e9 =>
      dsimp only at hM
      cases hM
    | inr r2 =>
      dsimp only at hM
      refine k_w (va_runV (As := [.int (0 : Int32)]) (rest := []) ⟨hx, hb, hml, hown, hts⟩ (ctZ_begins l D dA _ za h tx k9 ka kv s false r2 er2 ) (cwV 1 hts (lw_V q716 q718 qs13 q114 q719) rfl rfl rfl (by decide +kernel) ⟨Nat.le_of_ble_eq_true rfl, Nat.le_of_ble_eq_true rfl⟩) (preX_V ZE_ok hP hK hD (ev_at ZE_ok hE hS (w_free hD hS hA)) hP (ci := 1) (q0 := 0) rfl rfl) rfl rfl hl.1 rfl (lv_room (Nat.le_of_ble_eq_true rfl)) dX2_personLine_18 ⟨Nat.le_of_ble_eq_true rfl, Nat.le_of_ble_eq_true rfl⟩) hD hS hA (fun u3 H locs x4 hP hD hS => ?_)
      refine W.widen (k := 2) (n := 12) (Nat.le_of_ble_eq_true rfl) (Nat.le_of_ble_eq_true rfl) ?_
      refine W.eq (g2 := F0 m 21 ls []) (by first | rfl | (rfl; rfl) | (rfl) | (simp only [*]; rfl) | simp only [*]) ?_
      refine lv_aload_n hx hb dX2_personLine_21 rfl (lv_at hl 0 rfl) ?_
      refine lv_aload_n hx hb dX2_personLine_22 rfl (lv_at hl 0 rfl) ?_
      obtain ⟨r5_, er5, hM⟩ := b_inv hM
      cases r5_ with
      | inl e9 =>
        dsimp only at hM
        cases hM
      | inr r5 =>
        dsimp only at hM
        refine k_w (va_runV (As := []) (rest := [.ref (za 0)]) ⟨hx, hb, hml, hown, hts⟩ (ctZ_newName l D dA _ za u3 tx k9 ka kv r2 r5 er5 ) (cwV 0 hts (lw_V q720 q722 qs14 q114 q723) rfl rfl rfl (by decide +kernel) ⟨Nat.le_of_ble_eq_true rfl, Nat.le_of_ble_eq_true rfl⟩) (preX_V ZE_ok hP hK hD (ev_at ZE_ok hE hS (w_free hD hS hA)) hP (ci := 1) (q0 := 0) rfl rfl) rfl rfl hl.1 rfl (lv_room (Nat.le_of_ble_eq_true rfl)) dX2_personLine_23 ⟨Nat.le_of_ble_eq_true rfl, Nat.le_of_ble_eq_true rfl⟩) hD hS hA (fun u6 H locs x7 hP hD hS => ?_)
        refine W.widen (k := 4) (n := 24) (Nat.le_of_ble_eq_true rfl) (Nat.le_of_ble_eq_true rfl) ?_
        refine W.eq (g2 := F0 m 26 ls [.ref (u6.1 r5.1), .ref (za 0)]) (by first | rfl | (rfl; rfl) | (rfl) | (simp only [*]; rfl) | simp only [*]) ?_
        refine lv_aload_n hx hb dX2_personLine_26 rfl (lv_at hl 0 rfl) ?_
        refine va_get (D := D) (ci := 1) (v := .ref (za 4)) (C := RX2) (T := TX2) (N := 11) hx hb hts in_X2 hown hK.1 hP 0 rfl rfl 9 (by decide) (hts _ q235) (fun _ h9 => h9) rfl dX2_personLine_27 ?_
        refine va_get (D := D) (ci := 6) (v := .int r5.2.2.2.2.2.2.2.2.2.2.1) (C := RX8) (T := TX8) (N := 13) hx hb hts in_X8 hown hK.1 hP 4 rfl rfl 8 (by decide) (hts _ q485) (fun _ h9 => h9) rfl dX2_personLine_30 ?_
        obtain ⟨r8_, er8, hM⟩ := b_inv hM
        cases r8_ with
        | inl e9 =>
          dsimp only at hM
          cases hM
        | inr r8 =>
          dsimp only at hM
          refine k_w (va_runV (As := [.ref (u6.1 r5.1), .int r5.2.2.2.2.2.2.2.2.2.2.1]) (rest := []) ⟨hx, hb, hml, hown, hts⟩ (ctZ_personOf l D dA _ za u6 tx k9 ka kv r5.2 r5.1 r5.2.2.2.2.2.2.2.2.2.2.1 r8 er8 ) (cwV 2 hts (lw_V q734 q736 qs16 q114 q737) rfl rfl rfl (by decide +kernel) ⟨Nat.le_of_ble_eq_true rfl, Nat.le_of_ble_eq_true rfl⟩) (preX_V ZE_ok hP hK hD (ev_at ZE_ok hE hS (w_free hD hS hA)) hP (ci := 1) (q0 := 0) rfl rfl) rfl rfl hl.1 rfl (lv_room (Nat.le_of_ble_eq_true rfl)) dX2_personLine_33 ⟨Nat.le_of_ble_eq_true rfl, Nat.le_of_ble_eq_true rfl⟩) hD hS hA (fun u9 H locs x10 hP hD hS => ?_)
          refine W.widen (k := 13) (n := 79) (Nat.le_of_ble_eq_true rfl) (Nat.le_of_ble_eq_true rfl) ?_
          refine W.eq (g2 := F0 m 36 ls [.ref (u9.2.2.2.1 r8.1)]) (by first | rfl | (rfl; rfl) | (rfl) | (simp only [*]; rfl) | simp only [*]) ?_
          refine lv_astore_n (lv' := [(1, .ref (u9.2.2.2.1 r8.1)), (0, .ref (za 0))]) hx hb dX2_personLine_36 rfl hl (by decide) rfl (fun ls hl => ?_)
          refine lv_aload_n hx hb dX2_personLine_37 rfl (lv_at hl 0 rfl) ?_
          refine lv_aload_n hx hb dX2_personLine_38 rfl (lv_at hl 1 rfl) ?_
          refine va_ldcS hx hb hown (hE.2.2.1 14 (Nat.zero_le _) (by decide)) dX2_personLine_39 ?_
          refine lv_iconst (v := (0 : Int32)) hx hb dX2_personLine_41 (by decide) ?_
          refine lv_bipush (v := (99 : Int32)) hx hb dX2_personLine_42 (by decide) ?_
          obtain ⟨h14, hM⟩ := gn_inv hM
          obtain ⟨r11_, er11, hM⟩ := b_inv hM
          cases r11_ with
          | inl e9 =>
            dsimp only at hM
            cases hM
          | inr r11 =>
            dsimp only at hM
            refine k_w (va_runV (As := [.ref (ka 14), .int (0 : Int32), .int (99 : Int32)]) (rest := [.ref (u9.2.2.2.1 r8.1)]) ⟨hx, hb, hml, hown, hts⟩ (ctZ_after l D dA _ za u9 tx k9 ka kv r8.2 14 (0 : Int32) (99 : Int32) r11 er11 (by decide)) (cwV 3 hts (lw_V q699 q701 qs9 q114 q702) rfl rfl rfl (by decide +kernel) ⟨Nat.le_of_ble_eq_true rfl, Nat.le_of_ble_eq_true rfl⟩) (preX_V ZE_ok hP hK hD (ev_at ZE_ok hE hS (w_free hD hS hA)) hP (ci := 1) (q0 := 0) rfl rfl) rfl rfl hl.1 rfl (lv_room (Nat.le_of_ble_eq_true rfl)) dX2_personLine_44 ⟨Nat.le_of_ble_eq_true rfl, Nat.le_of_ble_eq_true rfl⟩) hD hS hA (fun u12 H locs x13 hP hD hS => ?_)
            have hl : lv_has ls 2 [(1, .ref (u12.2.2.2.1 r8.1)), (0, .ref (za 0))] := by simp only [x13.2.1 r8.1 h14]; exact hl
            refine W.widen (k := 17) (n := 103) (Nat.le_of_ble_eq_true rfl) (Nat.le_of_ble_eq_true rfl) ?_
            refine W.eq (g2 := F0 m 47 ls [.int r11.1, .ref (u12.2.2.2.1 r8.1)]) (by first | rfl | (simp only [x13.2.1 r8.1 h14]; rfl) | (simp only [x13.2.1 r8.1 h14]) | (simp only [*]; rfl) | simp only [*]) ?_
            obtain ⟨h15, hM⟩ := gn_inv hM
            obtain ⟨h16, hM⟩ := gn_inv hM
            refine zz_put2 hx hb hts hown hK hP hD hS h15 h16 r11.1 (hts _ q753) dX2_personLine_47 (fun H locs hP hD hS => ?_)
            have hP : va_P D clG (zw dA za k9 tx u12 (r11.2.1, r11.2.2.1, r11.2.2.2.1, r11.2.2.2.2.1, r11.2.2.2.2.2.1, r11.2.2.2.2.2.2.1, r11.2.2.2.2.2.2.2.1, r11.2.2.2.2.2.2.2.2.1, r11.2.2.2.2.2.2.2.2.2.1, r11.2.2.2.2.2.2.2.2.2.2.1, r11.2.2.2.2.2.2.2.2.2.2.2.1, r11.2.2.2.2.2.2.2.2.2.2.2.2.1, r11.2.2.2.2.2.2.2.2.2.2.2.2.2.1, r11.2.2.2.2.2.2.2.2.2.2.2.2.2.2.1, r11.2.2.2.2.2.2.2.2.2.2.2.2.2.2.2.1, r11.2.2.2.2.2.2.2.2.2.2.2.2.2.2.2.2.1, r11.2.2.2.2.2.2.2.2.2.2.2.2.2.2.2.2.2.1, r11.2.2.2.2.2.2.2.2.2.2.2.2.2.2.2.2.2.2.1, r11.2.2.2.2.2.2.2.2.2.2.2.2.2.2.2.2.2.2.2.1, r11.2.2.2.2.2.2.2.2.2.2.2.2.2.2.2.2.2.2.2.2.1, r11.2.2.2.2.2.2.2.2.2.2.2.2.2.2.2.2.2.2.2.2.2.1, r11.2.2.2.2.2.2.2.2.2.2.2.2.2.2.2.2.2.2.2.2.2.2.1, r11.2.2.2.2.2.2.2.2.2.2.2.2.2.2.2.2.2.2.2.2.2.2.2.1, (upd r11.2.2.2.2.2.2.2.2.2.2.2.2.2.2.2.2.2.2.2.2.2.2.2.2.1 r8.1 r11.1), r11.2.2.2.2.2.2.2.2.2.2.2.2.2.2.2.2.2.2.2.2.2.2.2.2.2.1, r11.2.2.2.2.2.2.2.2.2.2.2.2.2.2.2.2.2.2.2.2.2.2.2.2.2.2.1, r11.2.2.2.2.2.2.2.2.2.2.2.2.2.2.2.2.2.2.2.2.2.2.2.2.2.2.2.1, r11.2.2.2.2.2.2.2.2.2.2.2.2.2.2.2.2.2.2.2.2.2.2.2.2.2.2.2.2.1, r11.2.2.2.2.2.2.2.2.2.2.2.2.2.2.2.2.2.2.2.2.2.2.2.2.2.2.2.2.2.1, r11.2.2.2.2.2.2.2.2.2.2.2.2.2.2.2.2.2.2.2.2.2.2.2.2.2.2.2.2.2.2.1, r11.2.2.2.2.2.2.2.2.2.2.2.2.2.2.2.2.2.2.2.2.2.2.2.2.2.2.2.2.2.2.2.1, r11.2.2.2.2.2.2.2.2.2.2.2.2.2.2.2.2.2.2.2.2.2.2.2.2.2.2.2.2.2.2.2.2)) H := hP
            have hD : va_D A (zw dA za k9 tx u12 (r11.2.1, r11.2.2.1, r11.2.2.2.1, r11.2.2.2.2.1, r11.2.2.2.2.2.1, r11.2.2.2.2.2.2.1, r11.2.2.2.2.2.2.2.1, r11.2.2.2.2.2.2.2.2.1, r11.2.2.2.2.2.2.2.2.2.1, r11.2.2.2.2.2.2.2.2.2.2.1, r11.2.2.2.2.2.2.2.2.2.2.2.1, r11.2.2.2.2.2.2.2.2.2.2.2.2.1, r11.2.2.2.2.2.2.2.2.2.2.2.2.2.1, r11.2.2.2.2.2.2.2.2.2.2.2.2.2.2.1, r11.2.2.2.2.2.2.2.2.2.2.2.2.2.2.2.1, r11.2.2.2.2.2.2.2.2.2.2.2.2.2.2.2.2.1, r11.2.2.2.2.2.2.2.2.2.2.2.2.2.2.2.2.2.1, r11.2.2.2.2.2.2.2.2.2.2.2.2.2.2.2.2.2.2.1, r11.2.2.2.2.2.2.2.2.2.2.2.2.2.2.2.2.2.2.2.1, r11.2.2.2.2.2.2.2.2.2.2.2.2.2.2.2.2.2.2.2.2.1, r11.2.2.2.2.2.2.2.2.2.2.2.2.2.2.2.2.2.2.2.2.2.1, r11.2.2.2.2.2.2.2.2.2.2.2.2.2.2.2.2.2.2.2.2.2.2.1, r11.2.2.2.2.2.2.2.2.2.2.2.2.2.2.2.2.2.2.2.2.2.2.2.1, (upd r11.2.2.2.2.2.2.2.2.2.2.2.2.2.2.2.2.2.2.2.2.2.2.2.2.1 r8.1 r11.1), r11.2.2.2.2.2.2.2.2.2.2.2.2.2.2.2.2.2.2.2.2.2.2.2.2.2.1, r11.2.2.2.2.2.2.2.2.2.2.2.2.2.2.2.2.2.2.2.2.2.2.2.2.2.2.1, r11.2.2.2.2.2.2.2.2.2.2.2.2.2.2.2.2.2.2.2.2.2.2.2.2.2.2.2.1, r11.2.2.2.2.2.2.2.2.2.2.2.2.2.2.2.2.2.2.2.2.2.2.2.2.2.2.2.2.1, r11.2.2.2.2.2.2.2.2.2.2.2.2.2.2.2.2.2.2.2.2.2.2.2.2.2.2.2.2.2.1, r11.2.2.2.2.2.2.2.2.2.2.2.2.2.2.2.2.2.2.2.2.2.2.2.2.2.2.2.2.2.2.1, r11.2.2.2.2.2.2.2.2.2.2.2.2.2.2.2.2.2.2.2.2.2.2.2.2.2.2.2.2.2.2.2.1, r11.2.2.2.2.2.2.2.2.2.2.2.2.2.2.2.2.2.2.2.2.2.2.2.2.2.2.2.2.2.2.2.2)) := hD
            refine lv_aload_n hx hb dX2_personLine_50 rfl (lv_at hl 0 rfl) ?_
            refine lv_aload_n hx hb dX2_personLine_51 rfl (lv_at hl 1 rfl) ?_
            refine va_ldcS hx hb hown (hE.2.2.1 15 (Nat.zero_le _) (by decide)) dX2_personLine_52 ?_
            refine lv_iconst (v := (0 : Int32)) hx hb dX2_personLine_54 (by decide) ?_
            refine lv_bipush (v := (100 : Int32)) hx hb dX2_personLine_55 (by decide) ?_
            obtain ⟨h20, hM⟩ := gn_inv hM
            obtain ⟨r17_, er17, hM⟩ := b_inv hM
            cases r17_ with
            | inl e9 =>
              dsimp only at hM
              cases hM
            | inr r17 =>
              dsimp only at hM
              refine k_w (va_runV (As := [.ref (ka 15), .int (0 : Int32), .int (100 : Int32)]) (rest := [.ref (u12.2.2.2.1 r8.1)]) ⟨hx, hb, hml, hown, hts⟩ (ctZ_after l D dA _ za u12 tx k9 ka kv (r11.2.1, r11.2.2.1, r11.2.2.2.1, r11.2.2.2.2.1, r11.2.2.2.2.2.1, r11.2.2.2.2.2.2.1, r11.2.2.2.2.2.2.2.1, r11.2.2.2.2.2.2.2.2.1, r11.2.2.2.2.2.2.2.2.2.1, r11.2.2.2.2.2.2.2.2.2.2.1, r11.2.2.2.2.2.2.2.2.2.2.2.1, r11.2.2.2.2.2.2.2.2.2.2.2.2.1, r11.2.2.2.2.2.2.2.2.2.2.2.2.2.1, r11.2.2.2.2.2.2.2.2.2.2.2.2.2.2.1, r11.2.2.2.2.2.2.2.2.2.2.2.2.2.2.2.1, r11.2.2.2.2.2.2.2.2.2.2.2.2.2.2.2.2.1, r11.2.2.2.2.2.2.2.2.2.2.2.2.2.2.2.2.2.1, r11.2.2.2.2.2.2.2.2.2.2.2.2.2.2.2.2.2.2.1, r11.2.2.2.2.2.2.2.2.2.2.2.2.2.2.2.2.2.2.2.1, r11.2.2.2.2.2.2.2.2.2.2.2.2.2.2.2.2.2.2.2.2.1, r11.2.2.2.2.2.2.2.2.2.2.2.2.2.2.2.2.2.2.2.2.2.1, r11.2.2.2.2.2.2.2.2.2.2.2.2.2.2.2.2.2.2.2.2.2.2.1, r11.2.2.2.2.2.2.2.2.2.2.2.2.2.2.2.2.2.2.2.2.2.2.2.1, (upd r11.2.2.2.2.2.2.2.2.2.2.2.2.2.2.2.2.2.2.2.2.2.2.2.2.1 r8.1 r11.1), r11.2.2.2.2.2.2.2.2.2.2.2.2.2.2.2.2.2.2.2.2.2.2.2.2.2.1, r11.2.2.2.2.2.2.2.2.2.2.2.2.2.2.2.2.2.2.2.2.2.2.2.2.2.2.1, r11.2.2.2.2.2.2.2.2.2.2.2.2.2.2.2.2.2.2.2.2.2.2.2.2.2.2.2.1, r11.2.2.2.2.2.2.2.2.2.2.2.2.2.2.2.2.2.2.2.2.2.2.2.2.2.2.2.2.1, r11.2.2.2.2.2.2.2.2.2.2.2.2.2.2.2.2.2.2.2.2.2.2.2.2.2.2.2.2.2.1, r11.2.2.2.2.2.2.2.2.2.2.2.2.2.2.2.2.2.2.2.2.2.2.2.2.2.2.2.2.2.2.1, r11.2.2.2.2.2.2.2.2.2.2.2.2.2.2.2.2.2.2.2.2.2.2.2.2.2.2.2.2.2.2.2.1, r11.2.2.2.2.2.2.2.2.2.2.2.2.2.2.2.2.2.2.2.2.2.2.2.2.2.2.2.2.2.2.2.2) 15 (0 : Int32) (100 : Int32) r17 er17 (by decide)) (cwV 3 hts (lw_V q699 q701 qs9 q114 q702) rfl rfl rfl (by decide +kernel) ⟨Nat.le_of_ble_eq_true rfl, Nat.le_of_ble_eq_true rfl⟩) (preX_V ZE_ok hP hK hD (ev_at ZE_ok hE hS (w_free hD hS hA)) hP (ci := 1) (q0 := 0) rfl rfl) rfl rfl hl.1 rfl (lv_room (Nat.le_of_ble_eq_true rfl)) dX2_personLine_57 ⟨Nat.le_of_ble_eq_true rfl, Nat.le_of_ble_eq_true rfl⟩) hD hS hA (fun u18 H locs x19 hP hD hS => ?_)
              have hl : lv_has ls 2 [(1, .ref (u18.2.2.2.1 r8.1)), (0, .ref (za 0))] := by simp only [x19.2.1 r8.1 h20]; exact hl
              refine W.widen (k := 21) (n := 127) (Nat.le_of_ble_eq_true rfl) (Nat.le_of_ble_eq_true rfl) ?_
              refine W.eq (g2 := F0 m 60 ls [.int r17.1, .ref (u18.2.2.2.1 r8.1)]) (by first | rfl | (simp only [x19.2.1 r8.1 h20]; rfl) | (simp only [x19.2.1 r8.1 h20]) | (simp only [*]; rfl) | simp only [*]) ?_
              obtain ⟨h21, hM⟩ := gn_inv hM
              obtain ⟨h22, hM⟩ := gn_inv hM
              refine zz_put3 hx hb hts hown hK hP hD hS h21 h22 r17.1 (hts _ q756) dX2_personLine_60 (fun H locs hP hD hS => ?_)
              have hP : va_P D clG (zw dA za k9 tx u18 (r17.2.1, r17.2.2.1, r17.2.2.2.1, r17.2.2.2.2.1, r17.2.2.2.2.2.1, r17.2.2.2.2.2.2.1, r17.2.2.2.2.2.2.2.1, r17.2.2.2.2.2.2.2.2.1, r17.2.2.2.2.2.2.2.2.2.1, r17.2.2.2.2.2.2.2.2.2.2.1, r17.2.2.2.2.2.2.2.2.2.2.2.1, r17.2.2.2.2.2.2.2.2.2.2.2.2.1, r17.2.2.2.2.2.2.2.2.2.2.2.2.2.1, r17.2.2.2.2.2.2.2.2.2.2.2.2.2.2.1, r17.2.2.2.2.2.2.2.2.2.2.2.2.2.2.2.1, r17.2.2.2.2.2.2.2.2.2.2.2.2.2.2.2.2.1, r17.2.2.2.2.2.2.2.2.2.2.2.2.2.2.2.2.2.1, r17.2.2.2.2.2.2.2.2.2.2.2.2.2.2.2.2.2.2.1, r17.2.2.2.2.2.2.2.2.2.2.2.2.2.2.2.2.2.2.2.1, r17.2.2.2.2.2.2.2.2.2.2.2.2.2.2.2.2.2.2.2.2.1, r17.2.2.2.2.2.2.2.2.2.2.2.2.2.2.2.2.2.2.2.2.2.1, r17.2.2.2.2.2.2.2.2.2.2.2.2.2.2.2.2.2.2.2.2.2.2.1, r17.2.2.2.2.2.2.2.2.2.2.2.2.2.2.2.2.2.2.2.2.2.2.2.1, r17.2.2.2.2.2.2.2.2.2.2.2.2.2.2.2.2.2.2.2.2.2.2.2.2.1, (upd r17.2.2.2.2.2.2.2.2.2.2.2.2.2.2.2.2.2.2.2.2.2.2.2.2.2.1 r8.1 r17.1), r17.2.2.2.2.2.2.2.2.2.2.2.2.2.2.2.2.2.2.2.2.2.2.2.2.2.2.1, r17.2.2.2.2.2.2.2.2.2.2.2.2.2.2.2.2.2.2.2.2.2.2.2.2.2.2.2.1, r17.2.2.2.2.2.2.2.2.2.2.2.2.2.2.2.2.2.2.2.2.2.2.2.2.2.2.2.2.1, r17.2.2.2.2.2.2.2.2.2.2.2.2.2.2.2.2.2.2.2.2.2.2.2.2.2.2.2.2.2.1, r17.2.2.2.2.2.2.2.2.2.2.2.2.2.2.2.2.2.2.2.2.2.2.2.2.2.2.2.2.2.2.1, r17.2.2.2.2.2.2.2.2.2.2.2.2.2.2.2.2.2.2.2.2.2.2.2.2.2.2.2.2.2.2.2.1, r17.2.2.2.2.2.2.2.2.2.2.2.2.2.2.2.2.2.2.2.2.2.2.2.2.2.2.2.2.2.2.2.2)) H := hP
              have hD : va_D A (zw dA za k9 tx u18 (r17.2.1, r17.2.2.1, r17.2.2.2.1, r17.2.2.2.2.1, r17.2.2.2.2.2.1, r17.2.2.2.2.2.2.1, r17.2.2.2.2.2.2.2.1, r17.2.2.2.2.2.2.2.2.1, r17.2.2.2.2.2.2.2.2.2.1, r17.2.2.2.2.2.2.2.2.2.2.1, r17.2.2.2.2.2.2.2.2.2.2.2.1, r17.2.2.2.2.2.2.2.2.2.2.2.2.1, r17.2.2.2.2.2.2.2.2.2.2.2.2.2.1, r17.2.2.2.2.2.2.2.2.2.2.2.2.2.2.1, r17.2.2.2.2.2.2.2.2.2.2.2.2.2.2.2.1, r17.2.2.2.2.2.2.2.2.2.2.2.2.2.2.2.2.1, r17.2.2.2.2.2.2.2.2.2.2.2.2.2.2.2.2.2.1, r17.2.2.2.2.2.2.2.2.2.2.2.2.2.2.2.2.2.2.1, r17.2.2.2.2.2.2.2.2.2.2.2.2.2.2.2.2.2.2.2.1, r17.2.2.2.2.2.2.2.2.2.2.2.2.2.2.2.2.2.2.2.2.1, r17.2.2.2.2.2.2.2.2.2.2.2.2.2.2.2.2.2.2.2.2.2.1, r17.2.2.2.2.2.2.2.2.2.2.2.2.2.2.2.2.2.2.2.2.2.2.1, r17.2.2.2.2.2.2.2.2.2.2.2.2.2.2.2.2.2.2.2.2.2.2.2.1, r17.2.2.2.2.2.2.2.2.2.2.2.2.2.2.2.2.2.2.2.2.2.2.2.2.1, (upd r17.2.2.2.2.2.2.2.2.2.2.2.2.2.2.2.2.2.2.2.2.2.2.2.2.2.1 r8.1 r17.1), r17.2.2.2.2.2.2.2.2.2.2.2.2.2.2.2.2.2.2.2.2.2.2.2.2.2.2.1, r17.2.2.2.2.2.2.2.2.2.2.2.2.2.2.2.2.2.2.2.2.2.2.2.2.2.2.2.1, r17.2.2.2.2.2.2.2.2.2.2.2.2.2.2.2.2.2.2.2.2.2.2.2.2.2.2.2.2.1, r17.2.2.2.2.2.2.2.2.2.2.2.2.2.2.2.2.2.2.2.2.2.2.2.2.2.2.2.2.2.1, r17.2.2.2.2.2.2.2.2.2.2.2.2.2.2.2.2.2.2.2.2.2.2.2.2.2.2.2.2.2.2.1, r17.2.2.2.2.2.2.2.2.2.2.2.2.2.2.2.2.2.2.2.2.2.2.2.2.2.2.2.2.2.2.2.1, r17.2.2.2.2.2.2.2.2.2.2.2.2.2.2.2.2.2.2.2.2.2.2.2.2.2.2.2.2.2.2.2.2)) := hD
              refine lv_aload_n hx hb dX2_personLine_63 rfl (lv_at hl 1 rfl) ?_
              refine va_get (D := D) (ci := 1) (v := .ref (za 4)) (C := RX2) (T := TX2) (N := 11) hx hb hts in_X2 hown hK.1 hP 0 rfl rfl 9 (by decide) (hts _ q235) (fun _ h9 => h9) rfl dX2_personLine_64 ?_
              refine va_get (D := D) (ci := 6) (v := .ref (za 5)) (C := RX8) (T := TX8) (N := 13) hx hb hts in_X8 hown hK.1 hP 4 rfl rfl 0 (by decide) (hts _ q459) (fun _ h9 => h9) rfl dX2_personLine_67 ?_
              refine lv_aload_n hx hb dX2_personLine_70 rfl (lv_at hl 1 rfl) ?_
              refine va_get (D := D) (ci := 1) (v := .ref (za 4)) (C := RX2) (T := TX2) (N := 11) hx hb hts in_X2 hown hK.1 hP 0 rfl rfl 9 (by decide) (hts _ q235) (fun _ h9 => h9) rfl dX2_personLine_71 ?_
              refine va_get (D := D) (ci := 6) (v := .int r17.2.2.2.2.2.2.2.2.2.2.1) (C := RX8) (T := TX8) (N := 13) hx hb hts in_X8 hown hK.1 hP 4 rfl rfl 8 (by decide) (hts _ q485) (fun _ h9 => h9) rfl dX2_personLine_74 ?_
              refine lv_aload_n hx hb dX2_personLine_77 rfl (lv_at hl 0 rfl) ?_
              obtain ⟨h25, hM⟩ := gi_inv hM
              obtain ⟨h23, hM⟩ := gall_inv hM
              refine z_ast hx hb hK hP hD hS hE.2.2.2 h23.1 h23.2.1 h23.2.2.1 h23.2.2.2 h25 dX2_personLine_78 (fun H locs hP hD hS => ?_)
              have hP : va_P D clG (zw dA za k9 tx u18 (r17.2.1, r17.2.2.1, r17.2.2.2.1, r17.2.2.2.2.1, r17.2.2.2.2.2.1, r17.2.2.2.2.2.2.1, r17.2.2.2.2.2.2.2.1, r17.2.2.2.2.2.2.2.2.1, r17.2.2.2.2.2.2.2.2.2.1, r17.2.2.2.2.2.2.2.2.2.2.1, r17.2.2.2.2.2.2.2.2.2.2.2.1, r17.2.2.2.2.2.2.2.2.2.2.2.2.1, r17.2.2.2.2.2.2.2.2.2.2.2.2.2.1, r17.2.2.2.2.2.2.2.2.2.2.2.2.2.2.1, r17.2.2.2.2.2.2.2.2.2.2.2.2.2.2.2.1, r17.2.2.2.2.2.2.2.2.2.2.2.2.2.2.2.2.1, r17.2.2.2.2.2.2.2.2.2.2.2.2.2.2.2.2.2.1, r17.2.2.2.2.2.2.2.2.2.2.2.2.2.2.2.2.2.2.1, r17.2.2.2.2.2.2.2.2.2.2.2.2.2.2.2.2.2.2.2.1, r17.2.2.2.2.2.2.2.2.2.2.2.2.2.2.2.2.2.2.2.2.1, r17.2.2.2.2.2.2.2.2.2.2.2.2.2.2.2.2.2.2.2.2.2.1, r17.2.2.2.2.2.2.2.2.2.2.2.2.2.2.2.2.2.2.2.2.2.2.1, r17.2.2.2.2.2.2.2.2.2.2.2.2.2.2.2.2.2.2.2.2.2.2.2.1, r17.2.2.2.2.2.2.2.2.2.2.2.2.2.2.2.2.2.2.2.2.2.2.2.2.1, (upd r17.2.2.2.2.2.2.2.2.2.2.2.2.2.2.2.2.2.2.2.2.2.2.2.2.2.1 r8.1 r17.1), r17.2.2.2.2.2.2.2.2.2.2.2.2.2.2.2.2.2.2.2.2.2.2.2.2.2.2.1, r17.2.2.2.2.2.2.2.2.2.2.2.2.2.2.2.2.2.2.2.2.2.2.2.2.2.2.2.1, r17.2.2.2.2.2.2.2.2.2.2.2.2.2.2.2.2.2.2.2.2.2.2.2.2.2.2.2.2.1, r17.2.2.2.2.2.2.2.2.2.2.2.2.2.2.2.2.2.2.2.2.2.2.2.2.2.2.2.2.2.1, r17.2.2.2.2.2.2.2.2.2.2.2.2.2.2.2.2.2.2.2.2.2.2.2.2.2.2.2.2.2.2.1, r17.2.2.2.2.2.2.2.2.2.2.2.2.2.2.2.2.2.2.2.2.2.2.2.2.2.2.2.2.2.2.2.1, (r17.2.2.2.2.2.2.2.2.2.2.2.2.2.2.2.2.2.2.2.2.2.2.2.2.2.2.2.2.2.2.2.2 + 1))) H := hP
              have hD : va_D A (zw dA za k9 tx u18 (r17.2.1, r17.2.2.1, r17.2.2.2.1, r17.2.2.2.2.1, r17.2.2.2.2.2.1, r17.2.2.2.2.2.2.1, r17.2.2.2.2.2.2.2.1, r17.2.2.2.2.2.2.2.2.1, r17.2.2.2.2.2.2.2.2.2.1, r17.2.2.2.2.2.2.2.2.2.2.1, r17.2.2.2.2.2.2.2.2.2.2.2.1, r17.2.2.2.2.2.2.2.2.2.2.2.2.1, r17.2.2.2.2.2.2.2.2.2.2.2.2.2.1, r17.2.2.2.2.2.2.2.2.2.2.2.2.2.2.1, r17.2.2.2.2.2.2.2.2.2.2.2.2.2.2.2.1, r17.2.2.2.2.2.2.2.2.2.2.2.2.2.2.2.2.1, r17.2.2.2.2.2.2.2.2.2.2.2.2.2.2.2.2.2.1, r17.2.2.2.2.2.2.2.2.2.2.2.2.2.2.2.2.2.2.1, r17.2.2.2.2.2.2.2.2.2.2.2.2.2.2.2.2.2.2.2.1, r17.2.2.2.2.2.2.2.2.2.2.2.2.2.2.2.2.2.2.2.2.1, r17.2.2.2.2.2.2.2.2.2.2.2.2.2.2.2.2.2.2.2.2.2.1, r17.2.2.2.2.2.2.2.2.2.2.2.2.2.2.2.2.2.2.2.2.2.2.1, r17.2.2.2.2.2.2.2.2.2.2.2.2.2.2.2.2.2.2.2.2.2.2.2.1, r17.2.2.2.2.2.2.2.2.2.2.2.2.2.2.2.2.2.2.2.2.2.2.2.2.1, (upd r17.2.2.2.2.2.2.2.2.2.2.2.2.2.2.2.2.2.2.2.2.2.2.2.2.2.1 r8.1 r17.1), r17.2.2.2.2.2.2.2.2.2.2.2.2.2.2.2.2.2.2.2.2.2.2.2.2.2.2.1, r17.2.2.2.2.2.2.2.2.2.2.2.2.2.2.2.2.2.2.2.2.2.2.2.2.2.2.2.1, r17.2.2.2.2.2.2.2.2.2.2.2.2.2.2.2.2.2.2.2.2.2.2.2.2.2.2.2.2.1, r17.2.2.2.2.2.2.2.2.2.2.2.2.2.2.2.2.2.2.2.2.2.2.2.2.2.2.2.2.2.1, r17.2.2.2.2.2.2.2.2.2.2.2.2.2.2.2.2.2.2.2.2.2.2.2.2.2.2.2.2.2.2.1, r17.2.2.2.2.2.2.2.2.2.2.2.2.2.2.2.2.2.2.2.2.2.2.2.2.2.2.2.2.2.2.2.1, (r17.2.2.2.2.2.2.2.2.2.2.2.2.2.2.2.2.2.2.2.2.2.2.2.2.2.2.2.2.2.2.2.2 + 1))) := hD
              refine lv_aload_n hx hb dX2_personLine_79 rfl (lv_at hl 1 rfl) ?_
              refine va_get (D := D) (ci := 1) (v := .ref (za 4)) (C := RX2) (T := TX2) (N := 11) hx hb hts in_X2 hown hK.1 hP 0 rfl rfl 9 (by decide) (hts _ q235) (fun _ h9 => h9) rfl dX2_personLine_80 ?_
              refine lv_dup hx hb dX2_personLine_83 rfl ?_
              refine va_get (D := D) (ci := 6) (v := .int r17.2.2.2.2.2.2.2.2.2.2.1) (C := RX8) (T := TX8) (N := 13) hx hb hts in_X8 hown hK.1 hP 4 rfl rfl 8 (by decide) (hts _ q485) (fun _ h9 => h9) rfl dX2_personLine_84 ?_
              refine lv_iconst (v := (1 : Int32)) hx hb dX2_personLine_87 (by decide) ?_
              refine lv_iadd hx hb dX2_personLine_88 ?_
              obtain ⟨v0_, hv0_⟩ : ∃ v_ : Int32, v_ = (r17.2.2.2.2.2.2.2.2.2.2.1 + (1 : Int32)) := ⟨_, rfl⟩
              rw [← hv0_]
              try rw [← hv0_] at hM
              refine va_put (D := D) (ci := 6) (v := .int v0_) (ty := .int) (C := RX8) (T := TX8) (N := 13) hx hb hts in_X8 tyX8 tyX8_ok nmX8 hown hK.1 hP hD hS 4 rfl rfl 8 (by decide) (hts _ q485) (fun _ h9 => h9) rfl (by decide +kernel) rfl rfl (Nat.le_of_ble_eq_true rfl) dX2_personLine_89 (fun H locs hP hD hS => ?_)
              have hP : va_P D clG (zw dA za k9 tx u18 (r17.2.1, r17.2.2.1, r17.2.2.2.1, r17.2.2.2.2.1, r17.2.2.2.2.2.1, r17.2.2.2.2.2.2.1, r17.2.2.2.2.2.2.2.1, r17.2.2.2.2.2.2.2.2.1, r17.2.2.2.2.2.2.2.2.2.1, v0_, r17.2.2.2.2.2.2.2.2.2.2.2.1, r17.2.2.2.2.2.2.2.2.2.2.2.2.1, r17.2.2.2.2.2.2.2.2.2.2.2.2.2.1, r17.2.2.2.2.2.2.2.2.2.2.2.2.2.2.1, r17.2.2.2.2.2.2.2.2.2.2.2.2.2.2.2.1, r17.2.2.2.2.2.2.2.2.2.2.2.2.2.2.2.2.1, r17.2.2.2.2.2.2.2.2.2.2.2.2.2.2.2.2.2.1, r17.2.2.2.2.2.2.2.2.2.2.2.2.2.2.2.2.2.2.1, r17.2.2.2.2.2.2.2.2.2.2.2.2.2.2.2.2.2.2.2.1, r17.2.2.2.2.2.2.2.2.2.2.2.2.2.2.2.2.2.2.2.2.1, r17.2.2.2.2.2.2.2.2.2.2.2.2.2.2.2.2.2.2.2.2.2.1, r17.2.2.2.2.2.2.2.2.2.2.2.2.2.2.2.2.2.2.2.2.2.2.1, r17.2.2.2.2.2.2.2.2.2.2.2.2.2.2.2.2.2.2.2.2.2.2.2.1, r17.2.2.2.2.2.2.2.2.2.2.2.2.2.2.2.2.2.2.2.2.2.2.2.2.1, (upd r17.2.2.2.2.2.2.2.2.2.2.2.2.2.2.2.2.2.2.2.2.2.2.2.2.2.1 r8.1 r17.1), r17.2.2.2.2.2.2.2.2.2.2.2.2.2.2.2.2.2.2.2.2.2.2.2.2.2.2.1, r17.2.2.2.2.2.2.2.2.2.2.2.2.2.2.2.2.2.2.2.2.2.2.2.2.2.2.2.1, r17.2.2.2.2.2.2.2.2.2.2.2.2.2.2.2.2.2.2.2.2.2.2.2.2.2.2.2.2.1, r17.2.2.2.2.2.2.2.2.2.2.2.2.2.2.2.2.2.2.2.2.2.2.2.2.2.2.2.2.2.1, r17.2.2.2.2.2.2.2.2.2.2.2.2.2.2.2.2.2.2.2.2.2.2.2.2.2.2.2.2.2.2.1, r17.2.2.2.2.2.2.2.2.2.2.2.2.2.2.2.2.2.2.2.2.2.2.2.2.2.2.2.2.2.2.2.1, (r17.2.2.2.2.2.2.2.2.2.2.2.2.2.2.2.2.2.2.2.2.2.2.2.2.2.2.2.2.2.2.2.2 + 1))) H := zP_set hP (Nat.le_of_ble_eq_true rfl) rfl rfl
              have hD : va_D A (zw dA za k9 tx u18 (r17.2.1, r17.2.2.1, r17.2.2.2.1, r17.2.2.2.2.1, r17.2.2.2.2.2.1, r17.2.2.2.2.2.2.1, r17.2.2.2.2.2.2.2.1, r17.2.2.2.2.2.2.2.2.1, r17.2.2.2.2.2.2.2.2.2.1, v0_, r17.2.2.2.2.2.2.2.2.2.2.2.1, r17.2.2.2.2.2.2.2.2.2.2.2.2.1, r17.2.2.2.2.2.2.2.2.2.2.2.2.2.1, r17.2.2.2.2.2.2.2.2.2.2.2.2.2.2.1, r17.2.2.2.2.2.2.2.2.2.2.2.2.2.2.2.1, r17.2.2.2.2.2.2.2.2.2.2.2.2.2.2.2.2.1, r17.2.2.2.2.2.2.2.2.2.2.2.2.2.2.2.2.2.1, r17.2.2.2.2.2.2.2.2.2.2.2.2.2.2.2.2.2.2.1, r17.2.2.2.2.2.2.2.2.2.2.2.2.2.2.2.2.2.2.2.1, r17.2.2.2.2.2.2.2.2.2.2.2.2.2.2.2.2.2.2.2.2.1, r17.2.2.2.2.2.2.2.2.2.2.2.2.2.2.2.2.2.2.2.2.2.1, r17.2.2.2.2.2.2.2.2.2.2.2.2.2.2.2.2.2.2.2.2.2.2.1, r17.2.2.2.2.2.2.2.2.2.2.2.2.2.2.2.2.2.2.2.2.2.2.2.1, r17.2.2.2.2.2.2.2.2.2.2.2.2.2.2.2.2.2.2.2.2.2.2.2.2.1, (upd r17.2.2.2.2.2.2.2.2.2.2.2.2.2.2.2.2.2.2.2.2.2.2.2.2.2.1 r8.1 r17.1), r17.2.2.2.2.2.2.2.2.2.2.2.2.2.2.2.2.2.2.2.2.2.2.2.2.2.2.1, r17.2.2.2.2.2.2.2.2.2.2.2.2.2.2.2.2.2.2.2.2.2.2.2.2.2.2.2.1, r17.2.2.2.2.2.2.2.2.2.2.2.2.2.2.2.2.2.2.2.2.2.2.2.2.2.2.2.2.1, r17.2.2.2.2.2.2.2.2.2.2.2.2.2.2.2.2.2.2.2.2.2.2.2.2.2.2.2.2.2.1, r17.2.2.2.2.2.2.2.2.2.2.2.2.2.2.2.2.2.2.2.2.2.2.2.2.2.2.2.2.2.2.1, r17.2.2.2.2.2.2.2.2.2.2.2.2.2.2.2.2.2.2.2.2.2.2.2.2.2.2.2.2.2.2.2.1, (r17.2.2.2.2.2.2.2.2.2.2.2.2.2.2.2.2.2.2.2.2.2.2.2.2.2.2.2.2.2.2.2.2 + 1))) := zD_set hD (Nat.le_of_ble_eq_true rfl) rfl rfl
              have hM := Sum.inr.inj (Option.some.inj hM)
              subst hM
              refine W.widen (k := 21) (n := 127) (Nat.le_of_ble_eq_true rfl) (Nat.le_of_ble_eq_true rfl) ?_
              exact W.vret hx hb hr (fun t ht hW => ⟨⟨u18, rfl, (zext_trans (zext_trans (zext_trans (zext_trans (zext_trans zext_rf x4) x7) x10) x13) x19), by rw [ht]; exact hP, hD⟩, hS.F ht⟩) hS.2.2 dX2_personLine_92
  · rw [if_neg c1] at hM
    refine lv_iconst (v := (1 : Int32)) hx hb dX2_personLine_13 (by decide) ?_
    refine lv_goto (tgt := 18) hx hb dX2_personLine_14 (by decide) ?_
    obtain ⟨r26_, er26, hM⟩ := b_inv hM
    cases r26_ with
    | inl e9 =>
      dsimp only at hM
      cases hM
    | inr r26 =>
      dsimp only at hM
      refine k_w (va_runV (As := [.int (1 : Int32)]) (rest := []) ⟨hx, hb, hml, hown, hts⟩ (ctZ_begins l D dA _ za h tx k9 ka kv s true r26 er26 ) (cwV 1 hts (lw_V q716 q718 qs13 q114 q719) rfl rfl rfl (by decide +kernel) ⟨Nat.le_of_ble_eq_true rfl, Nat.le_of_ble_eq_true rfl⟩) (preX_V ZE_ok hP hK hD (ev_at ZE_ok hE hS (w_free hD hS hA)) hP (ci := 1) (q0 := 0) rfl rfl) rfl rfl hl.1 rfl (lv_room (Nat.le_of_ble_eq_true rfl)) dX2_personLine_18 ⟨Nat.le_of_ble_eq_true rfl, Nat.le_of_ble_eq_true rfl⟩) hD hS hA (fun u27 H locs x28 hP hD hS => ?_)
      refine W.widen (k := 2) (n := 12) (Nat.le_of_ble_eq_true rfl) (Nat.le_of_ble_eq_true rfl) ?_
      refine W.eq (g2 := F0 m 21 ls []) (by first | rfl | (rfl; rfl) | (rfl) | (simp only [*]; rfl) | simp only [*]) ?_
      refine lv_aload_n hx hb dX2_personLine_21 rfl (lv_at hl 0 rfl) ?_
      refine lv_aload_n hx hb dX2_personLine_22 rfl (lv_at hl 0 rfl) ?_
      obtain ⟨r29_, er29, hM⟩ := b_inv hM
      cases r29_ with
      | inl e9 =>
        dsimp only at hM
        cases hM
      | inr r29 =>
        dsimp only at hM
        refine k_w (va_runV (As := []) (rest := [.ref (za 0)]) ⟨hx, hb, hml, hown, hts⟩ (ctZ_newName l D dA _ za u27 tx k9 ka kv r26 r29 er29 ) (cwV 0 hts (lw_V q720 q722 qs14 q114 q723) rfl rfl rfl (by decide +kernel) ⟨Nat.le_of_ble_eq_true rfl, Nat.le_of_ble_eq_true rfl⟩) (preX_V ZE_ok hP hK hD (ev_at ZE_ok hE hS (w_free hD hS hA)) hP (ci := 1) (q0 := 0) rfl rfl) rfl rfl hl.1 rfl (lv_room (Nat.le_of_ble_eq_true rfl)) dX2_personLine_23 ⟨Nat.le_of_ble_eq_true rfl, Nat.le_of_ble_eq_true rfl⟩) hD hS hA (fun u30 H locs x31 hP hD hS => ?_)
        refine W.widen (k := 4) (n := 24) (Nat.le_of_ble_eq_true rfl) (Nat.le_of_ble_eq_true rfl) ?_
        refine W.eq (g2 := F0 m 26 ls [.ref (u30.1 r29.1), .ref (za 0)]) (by first | rfl | (rfl; rfl) | (rfl) | (simp only [*]; rfl) | simp only [*]) ?_
        refine lv_aload_n hx hb dX2_personLine_26 rfl (lv_at hl 0 rfl) ?_
        refine va_get (D := D) (ci := 1) (v := .ref (za 4)) (C := RX2) (T := TX2) (N := 11) hx hb hts in_X2 hown hK.1 hP 0 rfl rfl 9 (by decide) (hts _ q235) (fun _ h9 => h9) rfl dX2_personLine_27 ?_
        refine va_get (D := D) (ci := 6) (v := .int r29.2.2.2.2.2.2.2.2.2.2.1) (C := RX8) (T := TX8) (N := 13) hx hb hts in_X8 hown hK.1 hP 4 rfl rfl 8 (by decide) (hts _ q485) (fun _ h9 => h9) rfl dX2_personLine_30 ?_
        obtain ⟨r32_, er32, hM⟩ := b_inv hM
        cases r32_ with
        | inl e9 =>
          dsimp only at hM
          cases hM
        | inr r32 =>
          dsimp only at hM
          refine k_w (va_runV (As := [.ref (u30.1 r29.1), .int r29.2.2.2.2.2.2.2.2.2.2.1]) (rest := []) ⟨hx, hb, hml, hown, hts⟩ (ctZ_personOf l D dA _ za u30 tx k9 ka kv r29.2 r29.1 r29.2.2.2.2.2.2.2.2.2.2.1 r32 er32 ) (cwV 2 hts (lw_V q734 q736 qs16 q114 q737) rfl rfl rfl (by decide +kernel) ⟨Nat.le_of_ble_eq_true rfl, Nat.le_of_ble_eq_true rfl⟩) (preX_V ZE_ok hP hK hD (ev_at ZE_ok hE hS (w_free hD hS hA)) hP (ci := 1) (q0 := 0) rfl rfl) rfl rfl hl.1 rfl (lv_room (Nat.le_of_ble_eq_true rfl)) dX2_personLine_33 ⟨Nat.le_of_ble_eq_true rfl, Nat.le_of_ble_eq_true rfl⟩) hD hS hA (fun u33 H locs x34 hP hD hS => ?_)
          refine W.widen (k := 13) (n := 79) (Nat.le_of_ble_eq_true rfl) (Nat.le_of_ble_eq_true rfl) ?_
          refine W.eq (g2 := F0 m 36 ls [.ref (u33.2.2.2.1 r32.1)]) (by first | rfl | (rfl; rfl) | (rfl) | (simp only [*]; rfl) | simp only [*]) ?_
          refine lv_astore_n (lv' := [(1, .ref (u33.2.2.2.1 r32.1)), (0, .ref (za 0))]) hx hb dX2_personLine_36 rfl hl (by decide) rfl (fun ls hl => ?_)
          refine lv_aload_n hx hb dX2_personLine_37 rfl (lv_at hl 0 rfl) ?_
          refine lv_aload_n hx hb dX2_personLine_38 rfl (lv_at hl 1 rfl) ?_
          refine va_ldcS hx hb hown (hE.2.2.1 14 (Nat.zero_le _) (by decide)) dX2_personLine_39 ?_
          refine lv_iconst (v := (0 : Int32)) hx hb dX2_personLine_41 (by decide) ?_
          refine lv_bipush (v := (99 : Int32)) hx hb dX2_personLine_42 (by decide) ?_
          obtain ⟨h38, hM⟩ := gn_inv hM
          obtain ⟨r35_, er35, hM⟩ := b_inv hM
          cases r35_ with
          | inl e9 =>
            dsimp only at hM
            cases hM
          | inr r35 =>
            dsimp only at hM
            refine k_w (va_runV (As := [.ref (ka 14), .int (0 : Int32), .int (99 : Int32)]) (rest := [.ref (u33.2.2.2.1 r32.1)]) ⟨hx, hb, hml, hown, hts⟩ (ctZ_after l D dA _ za u33 tx k9 ka kv r32.2 14 (0 : Int32) (99 : Int32) r35 er35 (by decide)) (cwV 3 hts (lw_V q699 q701 qs9 q114 q702) rfl rfl rfl (by decide +kernel) ⟨Nat.le_of_ble_eq_true rfl, Nat.le_of_ble_eq_true rfl⟩) (preX_V ZE_ok hP hK hD (ev_at ZE_ok hE hS (w_free hD hS hA)) hP (ci := 1) (q0 := 0) rfl rfl) rfl rfl hl.1 rfl (lv_room (Nat.le_of_ble_eq_true rfl)) dX2_personLine_44 ⟨Nat.le_of_ble_eq_true rfl, Nat.le_of_ble_eq_true rfl⟩) hD hS hA (fun u36 H locs x37 hP hD hS => ?_)
            have hl : lv_has ls 2 [(1, .ref (u36.2.2.2.1 r32.1)), (0, .ref (za 0))] := by simp only [x37.2.1 r32.1 h38]; exact hl
            refine W.widen (k := 17) (n := 103) (Nat.le_of_ble_eq_true rfl) (Nat.le_of_ble_eq_true rfl) ?_
            refine W.eq (g2 := F0 m 47 ls [.int r35.1, .ref (u36.2.2.2.1 r32.1)]) (by first | rfl | (simp only [x37.2.1 r32.1 h38]; rfl) | (simp only [x37.2.1 r32.1 h38]) | (simp only [*]; rfl) | simp only [*]) ?_
            obtain ⟨h39, hM⟩ := gn_inv hM
            obtain ⟨h40, hM⟩ := gn_inv hM
            refine zz_put2 hx hb hts hown hK hP hD hS h39 h40 r35.1 (hts _ q753) dX2_personLine_47 (fun H locs hP hD hS => ?_)
            have hP : va_P D clG (zw dA za k9 tx u36 (r35.2.1, r35.2.2.1, r35.2.2.2.1, r35.2.2.2.2.1, r35.2.2.2.2.2.1, r35.2.2.2.2.2.2.1, r35.2.2.2.2.2.2.2.1, r35.2.2.2.2.2.2.2.2.1, r35.2.2.2.2.2.2.2.2.2.1, r35.2.2.2.2.2.2.2.2.2.2.1, r35.2.2.2.2.2.2.2.2.2.2.2.1, r35.2.2.2.2.2.2.2.2.2.2.2.2.1, r35.2.2.2.2.2.2.2.2.2.2.2.2.2.1, r35.2.2.2.2.2.2.2.2.2.2.2.2.2.2.1, r35.2.2.2.2.2.2.2.2.2.2.2.2.2.2.2.1, r35.2.2.2.2.2.2.2.2.2.2.2.2.2.2.2.2.1, r35.2.2.2.2.2.2.2.2.2.2.2.2.2.2.2.2.2.1, r35.2.2.2.2.2.2.2.2.2.2.2.2.2.2.2.2.2.2.1, r35.2.2.2.2.2.2.2.2.2.2.2.2.2.2.2.2.2.2.2.1, r35.2.2.2.2.2.2.2.2.2.2.2.2.2.2.2.2.2.2.2.2.1, r35.2.2.2.2.2.2.2.2.2.2.2.2.2.2.2.2.2.2.2.2.2.1, r35.2.2.2.2.2.2.2.2.2.2.2.2.2.2.2.2.2.2.2.2.2.2.1, r35.2.2.2.2.2.2.2.2.2.2.2.2.2.2.2.2.2.2.2.2.2.2.2.1, (upd r35.2.2.2.2.2.2.2.2.2.2.2.2.2.2.2.2.2.2.2.2.2.2.2.2.1 r32.1 r35.1), r35.2.2.2.2.2.2.2.2.2.2.2.2.2.2.2.2.2.2.2.2.2.2.2.2.2.1, r35.2.2.2.2.2.2.2.2.2.2.2.2.2.2.2.2.2.2.2.2.2.2.2.2.2.2.1, r35.2.2.2.2.2.2.2.2.2.2.2.2.2.2.2.2.2.2.2.2.2.2.2.2.2.2.2.1, r35.2.2.2.2.2.2.2.2.2.2.2.2.2.2.2.2.2.2.2.2.2.2.2.2.2.2.2.2.1, r35.2.2.2.2.2.2.2.2.2.2.2.2.2.2.2.2.2.2.2.2.2.2.2.2.2.2.2.2.2.1, r35.2.2.2.2.2.2.2.2.2.2.2.2.2.2.2.2.2.2.2.2.2.2.2.2.2.2.2.2.2.2.1, r35.2.2.2.2.2.2.2.2.2.2.2.2.2.2.2.2.2.2.2.2.2.2.2.2.2.2.2.2.2.2.2.1, r35.2.2.2.2.2.2.2.2.2.2.2.2.2.2.2.2.2.2.2.2.2.2.2.2.2.2.2.2.2.2.2.2)) H := hP
            have hD : va_D A (zw dA za k9 tx u36 (r35.2.1, r35.2.2.1, r35.2.2.2.1, r35.2.2.2.2.1, r35.2.2.2.2.2.1, r35.2.2.2.2.2.2.1, r35.2.2.2.2.2.2.2.1, r35.2.2.2.2.2.2.2.2.1, r35.2.2.2.2.2.2.2.2.2.1, r35.2.2.2.2.2.2.2.2.2.2.1, r35.2.2.2.2.2.2.2.2.2.2.2.1, r35.2.2.2.2.2.2.2.2.2.2.2.2.1, r35.2.2.2.2.2.2.2.2.2.2.2.2.2.1, r35.2.2.2.2.2.2.2.2.2.2.2.2.2.2.1, r35.2.2.2.2.2.2.2.2.2.2.2.2.2.2.2.1, r35.2.2.2.2.2.2.2.2.2.2.2.2.2.2.2.2.1, r35.2.2.2.2.2.2.2.2.2.2.2.2.2.2.2.2.2.1, r35.2.2.2.2.2.2.2.2.2.2.2.2.2.2.2.2.2.2.1, r35.2.2.2.2.2.2.2.2.2.2.2.2.2.2.2.2.2.2.2.1, r35.2.2.2.2.2.2.2.2.2.2.2.2.2.2.2.2.2.2.2.2.1, r35.2.2.2.2.2.2.2.2.2.2.2.2.2.2.2.2.2.2.2.2.2.1, r35.2.2.2.2.2.2.2.2.2.2.2.2.2.2.2.2.2.2.2.2.2.2.1, r35.2.2.2.2.2.2.2.2.2.2.2.2.2.2.2.2.2.2.2.2.2.2.2.1, (upd r35.2.2.2.2.2.2.2.2.2.2.2.2.2.2.2.2.2.2.2.2.2.2.2.2.1 r32.1 r35.1), r35.2.2.2.2.2.2.2.2.2.2.2.2.2.2.2.2.2.2.2.2.2.2.2.2.2.1, r35.2.2.2.2.2.2.2.2.2.2.2.2.2.2.2.2.2.2.2.2.2.2.2.2.2.2.1, r35.2.2.2.2.2.2.2.2.2.2.2.2.2.2.2.2.2.2.2.2.2.2.2.2.2.2.2.1, r35.2.2.2.2.2.2.2.2.2.2.2.2.2.2.2.2.2.2.2.2.2.2.2.2.2.2.2.2.1, r35.2.2.2.2.2.2.2.2.2.2.2.2.2.2.2.2.2.2.2.2.2.2.2.2.2.2.2.2.2.1, r35.2.2.2.2.2.2.2.2.2.2.2.2.2.2.2.2.2.2.2.2.2.2.2.2.2.2.2.2.2.2.1, r35.2.2.2.2.2.2.2.2.2.2.2.2.2.2.2.2.2.2.2.2.2.2.2.2.2.2.2.2.2.2.2.1, r35.2.2.2.2.2.2.2.2.2.2.2.2.2.2.2.2.2.2.2.2.2.2.2.2.2.2.2.2.2.2.2.2)) := hD
            refine lv_aload_n hx hb dX2_personLine_50 rfl (lv_at hl 0 rfl) ?_
            refine lv_aload_n hx hb dX2_personLine_51 rfl (lv_at hl 1 rfl) ?_
            refine va_ldcS hx hb hown (hE.2.2.1 15 (Nat.zero_le _) (by decide)) dX2_personLine_52 ?_
            refine lv_iconst (v := (0 : Int32)) hx hb dX2_personLine_54 (by decide) ?_
            refine lv_bipush (v := (100 : Int32)) hx hb dX2_personLine_55 (by decide) ?_
            obtain ⟨h44, hM⟩ := gn_inv hM
            obtain ⟨r41_, er41, hM⟩ := b_inv hM
            cases r41_ with
            | inl e9 =>
              dsimp only at hM
              cases hM
            | inr r41 =>
              dsimp only at hM
              refine k_w (va_runV (As := [.ref (ka 15), .int (0 : Int32), .int (100 : Int32)]) (rest := [.ref (u36.2.2.2.1 r32.1)]) ⟨hx, hb, hml, hown, hts⟩ (ctZ_after l D dA _ za u36 tx k9 ka kv (r35.2.1, r35.2.2.1, r35.2.2.2.1, r35.2.2.2.2.1, r35.2.2.2.2.2.1, r35.2.2.2.2.2.2.1, r35.2.2.2.2.2.2.2.1, r35.2.2.2.2.2.2.2.2.1, r35.2.2.2.2.2.2.2.2.2.1, r35.2.2.2.2.2.2.2.2.2.2.1, r35.2.2.2.2.2.2.2.2.2.2.2.1, r35.2.2.2.2.2.2.2.2.2.2.2.2.1, r35.2.2.2.2.2.2.2.2.2.2.2.2.2.1, r35.2.2.2.2.2.2.2.2.2.2.2.2.2.2.1, r35.2.2.2.2.2.2.2.2.2.2.2.2.2.2.2.1, r35.2.2.2.2.2.2.2.2.2.2.2.2.2.2.2.2.1, r35.2.2.2.2.2.2.2.2.2.2.2.2.2.2.2.2.2.1, r35.2.2.2.2.2.2.2.2.2.2.2.2.2.2.2.2.2.2.1, r35.2.2.2.2.2.2.2.2.2.2.2.2.2.2.2.2.2.2.2.1, r35.2.2.2.2.2.2.2.2.2.2.2.2.2.2.2.2.2.2.2.2.1, r35.2.2.2.2.2.2.2.2.2.2.2.2.2.2.2.2.2.2.2.2.2.1, r35.2.2.2.2.2.2.2.2.2.2.2.2.2.2.2.2.2.2.2.2.2.2.1, r35.2.2.2.2.2.2.2.2.2.2.2.2.2.2.2.2.2.2.2.2.2.2.2.1, (upd r35.2.2.2.2.2.2.2.2.2.2.2.2.2.2.2.2.2.2.2.2.2.2.2.2.1 r32.1 r35.1), r35.2.2.2.2.2.2.2.2.2.2.2.2.2.2.2.2.2.2.2.2.2.2.2.2.2.1, r35.2.2.2.2.2.2.2.2.2.2.2.2.2.2.2.2.2.2.2.2.2.2.2.2.2.2.1, r35.2.2.2.2.2.2.2.2.2.2.2.2.2.2.2.2.2.2.2.2.2.2.2.2.2.2.2.1, r35.2.2.2.2.2.2.2.2.2.2.2.2.2.2.2.2.2.2.2.2.2.2.2.2.2.2.2.2.1, r35.2.2.2.2.2.2.2.2.2.2.2.2.2.2.2.2.2.2.2.2.2.2.2.2.2.2.2.2.2.1, r35.2.2.2.2.2.2.2.2.2.2.2.2.2.2.2.2.2.2.2.2.2.2.2.2.2.2.2.2.2.2.1, r35.2.2.2.2.2.2.2.2.2.2.2.2.2.2.2.2.2.2.2.2.2.2.2.2.2.2.2.2.2.2.2.1, r35.2.2.2.2.2.2.2.2.2.2.2.2.2.2.2.2.2.2.2.2.2.2.2.2.2.2.2.2.2.2.2.2) 15 (0 : Int32) (100 : Int32) r41 er41 (by decide)) (cwV 3 hts (lw_V q699 q701 qs9 q114 q702) rfl rfl rfl (by decide +kernel) ⟨Nat.le_of_ble_eq_true rfl, Nat.le_of_ble_eq_true rfl⟩) (preX_V ZE_ok hP hK hD (ev_at ZE_ok hE hS (w_free hD hS hA)) hP (ci := 1) (q0 := 0) rfl rfl) rfl rfl hl.1 rfl (lv_room (Nat.le_of_ble_eq_true rfl)) dX2_personLine_57 ⟨Nat.le_of_ble_eq_true rfl, Nat.le_of_ble_eq_true rfl⟩) hD hS hA (fun u42 H locs x43 hP hD hS => ?_)
              have hl : lv_has ls 2 [(1, .ref (u42.2.2.2.1 r32.1)), (0, .ref (za 0))] := by simp only [x43.2.1 r32.1 h44]; exact hl
              refine W.widen (k := 21) (n := 127) (Nat.le_of_ble_eq_true rfl) (Nat.le_of_ble_eq_true rfl) ?_
              refine W.eq (g2 := F0 m 60 ls [.int r41.1, .ref (u42.2.2.2.1 r32.1)]) (by first | rfl | (simp only [x43.2.1 r32.1 h44]; rfl) | (simp only [x43.2.1 r32.1 h44]) | (simp only [*]; rfl) | simp only [*]) ?_
              obtain ⟨h45, hM⟩ := gn_inv hM
              obtain ⟨h46, hM⟩ := gn_inv hM
              refine zz_put3 hx hb hts hown hK hP hD hS h45 h46 r41.1 (hts _ q756) dX2_personLine_60 (fun H locs hP hD hS => ?_)
              have hP : va_P D clG (zw dA za k9 tx u42 (r41.2.1, r41.2.2.1, r41.2.2.2.1, r41.2.2.2.2.1, r41.2.2.2.2.2.1, r41.2.2.2.2.2.2.1, r41.2.2.2.2.2.2.2.1, r41.2.2.2.2.2.2.2.2.1, r41.2.2.2.2.2.2.2.2.2.1, r41.2.2.2.2.2.2.2.2.2.2.1, r41.2.2.2.2.2.2.2.2.2.2.2.1, r41.2.2.2.2.2.2.2.2.2.2.2.2.1, r41.2.2.2.2.2.2.2.2.2.2.2.2.2.1, r41.2.2.2.2.2.2.2.2.2.2.2.2.2.2.1, r41.2.2.2.2.2.2.2.2.2.2.2.2.2.2.2.1, r41.2.2.2.2.2.2.2.2.2.2.2.2.2.2.2.2.1, r41.2.2.2.2.2.2.2.2.2.2.2.2.2.2.2.2.2.1, r41.2.2.2.2.2.2.2.2.2.2.2.2.2.2.2.2.2.2.1, r41.2.2.2.2.2.2.2.2.2.2.2.2.2.2.2.2.2.2.2.1, r41.2.2.2.2.2.2.2.2.2.2.2.2.2.2.2.2.2.2.2.2.1, r41.2.2.2.2.2.2.2.2.2.2.2.2.2.2.2.2.2.2.2.2.2.1, r41.2.2.2.2.2.2.2.2.2.2.2.2.2.2.2.2.2.2.2.2.2.2.1, r41.2.2.2.2.2.2.2.2.2.2.2.2.2.2.2.2.2.2.2.2.2.2.2.1, r41.2.2.2.2.2.2.2.2.2.2.2.2.2.2.2.2.2.2.2.2.2.2.2.2.1, (upd r41.2.2.2.2.2.2.2.2.2.2.2.2.2.2.2.2.2.2.2.2.2.2.2.2.2.1 r32.1 r41.1), r41.2.2.2.2.2.2.2.2.2.2.2.2.2.2.2.2.2.2.2.2.2.2.2.2.2.2.1, r41.2.2.2.2.2.2.2.2.2.2.2.2.2.2.2.2.2.2.2.2.2.2.2.2.2.2.2.1, r41.2.2.2.2.2.2.2.2.2.2.2.2.2.2.2.2.2.2.2.2.2.2.2.2.2.2.2.2.1, r41.2.2.2.2.2.2.2.2.2.2.2.2.2.2.2.2.2.2.2.2.2.2.2.2.2.2.2.2.2.1, r41.2.2.2.2.2.2.2.2.2.2.2.2.2.2.2.2.2.2.2.2.2.2.2.2.2.2.2.2.2.2.1, r41.2.2.2.2.2.2.2.2.2.2.2.2.2.2.2.2.2.2.2.2.2.2.2.2.2.2.2.2.2.2.2.1, r41.2.2.2.2.2.2.2.2.2.2.2.2.2.2.2.2.2.2.2.2.2.2.2.2.2.2.2.2.2.2.2.2)) H := hP
              have hD : va_D A (zw dA za k9 tx u42 (r41.2.1, r41.2.2.1, r41.2.2.2.1, r41.2.2.2.2.1, r41.2.2.2.2.2.1, r41.2.2.2.2.2.2.1, r41.2.2.2.2.2.2.2.1, r41.2.2.2.2.2.2.2.2.1, r41.2.2.2.2.2.2.2.2.2.1, r41.2.2.2.2.2.2.2.2.2.2.1, r41.2.2.2.2.2.2.2.2.2.2.2.1, r41.2.2.2.2.2.2.2.2.2.2.2.2.1, r41.2.2.2.2.2.2.2.2.2.2.2.2.2.1, r41.2.2.2.2.2.2.2.2.2.2.2.2.2.2.1, r41.2.2.2.2.2.2.2.2.2.2.2.2.2.2.2.1, r41.2.2.2.2.2.2.2.2.2.2.2.2.2.2.2.2.1, r41.2.2.2.2.2.2.2.2.2.2.2.2.2.2.2.2.2.1, r41.2.2.2.2.2.2.2.2.2.2.2.2.2.2.2.2.2.2.1, r41.2.2.2.2.2.2.2.2.2.2.2.2.2.2.2.2.2.2.2.1, r41.2.2.2.2.2.2.2.2.2.2.2.2.2.2.2.2.2.2.2.2.1, r41.2.2.2.2.2.2.2.2.2.2.2.2.2.2.2.2.2.2.2.2.2.1, r41.2.2.2.2.2.2.2.2.2.2.2.2.2.2.2.2.2.2.2.2.2.2.1, r41.2.2.2.2.2.2.2.2.2.2.2.2.2.2.2.2.2.2.2.2.2.2.2.1, r41.2.2.2.2.2.2.2.2.2.2.2.2.2.2.2.2.2.2.2.2.2.2.2.2.1, (upd r41.2.2.2.2.2.2.2.2.2.2.2.2.2.2.2.2.2.2.2.2.2.2.2.2.2.1 r32.1 r41.1), r41.2.2.2.2.2.2.2.2.2.2.2.2.2.2.2.2.2.2.2.2.2.2.2.2.2.2.1, r41.2.2.2.2.2.2.2.2.2.2.2.2.2.2.2.2.2.2.2.2.2.2.2.2.2.2.2.1, r41.2.2.2.2.2.2.2.2.2.2.2.2.2.2.2.2.2.2.2.2.2.2.2.2.2.2.2.2.1, r41.2.2.2.2.2.2.2.2.2.2.2.2.2.2.2.2.2.2.2.2.2.2.2.2.2.2.2.2.2.1, r41.2.2.2.2.2.2.2.2.2.2.2.2.2.2.2.2.2.2.2.2.2.2.2.2.2.2.2.2.2.2.1, r41.2.2.2.2.2.2.2.2.2.2.2.2.2.2.2.2.2.2.2.2.2.2.2.2.2.2.2.2.2.2.2.1, r41.2.2.2.2.2.2.2.2.2.2.2.2.2.2.2.2.2.2.2.2.2.2.2.2.2.2.2.2.2.2.2.2)) := hD
              refine lv_aload_n hx hb dX2_personLine_63 rfl (lv_at hl 1 rfl) ?_
              refine va_get (D := D) (ci := 1) (v := .ref (za 4)) (C := RX2) (T := TX2) (N := 11) hx hb hts in_X2 hown hK.1 hP 0 rfl rfl 9 (by decide) (hts _ q235) (fun _ h9 => h9) rfl dX2_personLine_64 ?_
              refine va_get (D := D) (ci := 6) (v := .ref (za 5)) (C := RX8) (T := TX8) (N := 13) hx hb hts in_X8 hown hK.1 hP 4 rfl rfl 0 (by decide) (hts _ q459) (fun _ h9 => h9) rfl dX2_personLine_67 ?_
              refine lv_aload_n hx hb dX2_personLine_70 rfl (lv_at hl 1 rfl) ?_
              refine va_get (D := D) (ci := 1) (v := .ref (za 4)) (C := RX2) (T := TX2) (N := 11) hx hb hts in_X2 hown hK.1 hP 0 rfl rfl 9 (by decide) (hts _ q235) (fun _ h9 => h9) rfl dX2_personLine_71 ?_
              refine va_get (D := D) (ci := 6) (v := .int r41.2.2.2.2.2.2.2.2.2.2.1) (C := RX8) (T := TX8) (N := 13) hx hb hts in_X8 hown hK.1 hP 4 rfl rfl 8 (by decide) (hts _ q485) (fun _ h9 => h9) rfl dX2_personLine_74 ?_
              refine lv_aload_n hx hb dX2_personLine_77 rfl (lv_at hl 0 rfl) ?_
              obtain ⟨h49, hM⟩ := gi_inv hM
              obtain ⟨h47, hM⟩ := gall_inv hM
              refine z_ast hx hb hK hP hD hS hE.2.2.2 h47.1 h47.2.1 h47.2.2.1 h47.2.2.2 h49 dX2_personLine_78 (fun H locs hP hD hS => ?_)
              have hP : va_P D clG (zw dA za k9 tx u42 (r41.2.1, r41.2.2.1, r41.2.2.2.1, r41.2.2.2.2.1, r41.2.2.2.2.2.1, r41.2.2.2.2.2.2.1, r41.2.2.2.2.2.2.2.1, r41.2.2.2.2.2.2.2.2.1, r41.2.2.2.2.2.2.2.2.2.1, r41.2.2.2.2.2.2.2.2.2.2.1, r41.2.2.2.2.2.2.2.2.2.2.2.1, r41.2.2.2.2.2.2.2.2.2.2.2.2.1, r41.2.2.2.2.2.2.2.2.2.2.2.2.2.1, r41.2.2.2.2.2.2.2.2.2.2.2.2.2.2.1, r41.2.2.2.2.2.2.2.2.2.2.2.2.2.2.2.1, r41.2.2.2.2.2.2.2.2.2.2.2.2.2.2.2.2.1, r41.2.2.2.2.2.2.2.2.2.2.2.2.2.2.2.2.2.1, r41.2.2.2.2.2.2.2.2.2.2.2.2.2.2.2.2.2.2.1, r41.2.2.2.2.2.2.2.2.2.2.2.2.2.2.2.2.2.2.2.1, r41.2.2.2.2.2.2.2.2.2.2.2.2.2.2.2.2.2.2.2.2.1, r41.2.2.2.2.2.2.2.2.2.2.2.2.2.2.2.2.2.2.2.2.2.1, r41.2.2.2.2.2.2.2.2.2.2.2.2.2.2.2.2.2.2.2.2.2.2.1, r41.2.2.2.2.2.2.2.2.2.2.2.2.2.2.2.2.2.2.2.2.2.2.2.1, r41.2.2.2.2.2.2.2.2.2.2.2.2.2.2.2.2.2.2.2.2.2.2.2.2.1, (upd r41.2.2.2.2.2.2.2.2.2.2.2.2.2.2.2.2.2.2.2.2.2.2.2.2.2.1 r32.1 r41.1), r41.2.2.2.2.2.2.2.2.2.2.2.2.2.2.2.2.2.2.2.2.2.2.2.2.2.2.1, r41.2.2.2.2.2.2.2.2.2.2.2.2.2.2.2.2.2.2.2.2.2.2.2.2.2.2.2.1, r41.2.2.2.2.2.2.2.2.2.2.2.2.2.2.2.2.2.2.2.2.2.2.2.2.2.2.2.2.1, r41.2.2.2.2.2.2.2.2.2.2.2.2.2.2.2.2.2.2.2.2.2.2.2.2.2.2.2.2.2.1, r41.2.2.2.2.2.2.2.2.2.2.2.2.2.2.2.2.2.2.2.2.2.2.2.2.2.2.2.2.2.2.1, r41.2.2.2.2.2.2.2.2.2.2.2.2.2.2.2.2.2.2.2.2.2.2.2.2.2.2.2.2.2.2.2.1, (r41.2.2.2.2.2.2.2.2.2.2.2.2.2.2.2.2.2.2.2.2.2.2.2.2.2.2.2.2.2.2.2.2 + 1))) H := hP
              have hD : va_D A (zw dA za k9 tx u42 (r41.2.1, r41.2.2.1, r41.2.2.2.1, r41.2.2.2.2.1, r41.2.2.2.2.2.1, r41.2.2.2.2.2.2.1, r41.2.2.2.2.2.2.2.1, r41.2.2.2.2.2.2.2.2.1, r41.2.2.2.2.2.2.2.2.2.1, r41.2.2.2.2.2.2.2.2.2.2.1, r41.2.2.2.2.2.2.2.2.2.2.2.1, r41.2.2.2.2.2.2.2.2.2.2.2.2.1, r41.2.2.2.2.2.2.2.2.2.2.2.2.2.1, r41.2.2.2.2.2.2.2.2.2.2.2.2.2.2.1, r41.2.2.2.2.2.2.2.2.2.2.2.2.2.2.2.1, r41.2.2.2.2.2.2.2.2.2.2.2.2.2.2.2.2.1, r41.2.2.2.2.2.2.2.2.2.2.2.2.2.2.2.2.2.1, r41.2.2.2.2.2.2.2.2.2.2.2.2.2.2.2.2.2.2.1, r41.2.2.2.2.2.2.2.2.2.2.2.2.2.2.2.2.2.2.2.1, r41.2.2.2.2.2.2.2.2.2.2.2.2.2.2.2.2.2.2.2.2.1, r41.2.2.2.2.2.2.2.2.2.2.2.2.2.2.2.2.2.2.2.2.2.1, r41.2.2.2.2.2.2.2.2.2.2.2.2.2.2.2.2.2.2.2.2.2.2.1, r41.2.2.2.2.2.2.2.2.2.2.2.2.2.2.2.2.2.2.2.2.2.2.2.1, r41.2.2.2.2.2.2.2.2.2.2.2.2.2.2.2.2.2.2.2.2.2.2.2.2.1, (upd r41.2.2.2.2.2.2.2.2.2.2.2.2.2.2.2.2.2.2.2.2.2.2.2.2.2.1 r32.1 r41.1), r41.2.2.2.2.2.2.2.2.2.2.2.2.2.2.2.2.2.2.2.2.2.2.2.2.2.2.1, r41.2.2.2.2.2.2.2.2.2.2.2.2.2.2.2.2.2.2.2.2.2.2.2.2.2.2.2.1, r41.2.2.2.2.2.2.2.2.2.2.2.2.2.2.2.2.2.2.2.2.2.2.2.2.2.2.2.2.1, r41.2.2.2.2.2.2.2.2.2.2.2.2.2.2.2.2.2.2.2.2.2.2.2.2.2.2.2.2.2.1, r41.2.2.2.2.2.2.2.2.2.2.2.2.2.2.2.2.2.2.2.2.2.2.2.2.2.2.2.2.2.2.1, r41.2.2.2.2.2.2.2.2.2.2.2.2.2.2.2.2.2.2.2.2.2.2.2.2.2.2.2.2.2.2.2.1, (r41.2.2.2.2.2.2.2.2.2.2.2.2.2.2.2.2.2.2.2.2.2.2.2.2.2.2.2.2.2.2.2.2 + 1))) := hD
              refine lv_aload_n hx hb dX2_personLine_79 rfl (lv_at hl 1 rfl) ?_
              refine va_get (D := D) (ci := 1) (v := .ref (za 4)) (C := RX2) (T := TX2) (N := 11) hx hb hts in_X2 hown hK.1 hP 0 rfl rfl 9 (by decide) (hts _ q235) (fun _ h9 => h9) rfl dX2_personLine_80 ?_
              refine lv_dup hx hb dX2_personLine_83 rfl ?_
              refine va_get (D := D) (ci := 6) (v := .int r41.2.2.2.2.2.2.2.2.2.2.1) (C := RX8) (T := TX8) (N := 13) hx hb hts in_X8 hown hK.1 hP 4 rfl rfl 8 (by decide) (hts _ q485) (fun _ h9 => h9) rfl dX2_personLine_84 ?_
              refine lv_iconst (v := (1 : Int32)) hx hb dX2_personLine_87 (by decide) ?_
              refine lv_iadd hx hb dX2_personLine_88 ?_
              obtain ⟨v1_, hv1_⟩ : ∃ v_ : Int32, v_ = (r41.2.2.2.2.2.2.2.2.2.2.1 + (1 : Int32)) := ⟨_, rfl⟩
              rw [← hv1_]
              try rw [← hv1_] at hM
              refine va_put (D := D) (ci := 6) (v := .int v1_) (ty := .int) (C := RX8) (T := TX8) (N := 13) hx hb hts in_X8 tyX8 tyX8_ok nmX8 hown hK.1 hP hD hS 4 rfl rfl 8 (by decide) (hts _ q485) (fun _ h9 => h9) rfl (by decide +kernel) rfl rfl (Nat.le_of_ble_eq_true rfl) dX2_personLine_89 (fun H locs hP hD hS => ?_)
              have hP : va_P D clG (zw dA za k9 tx u42 (r41.2.1, r41.2.2.1, r41.2.2.2.1, r41.2.2.2.2.1, r41.2.2.2.2.2.1, r41.2.2.2.2.2.2.1, r41.2.2.2.2.2.2.2.1, r41.2.2.2.2.2.2.2.2.1, r41.2.2.2.2.2.2.2.2.2.1, v1_, r41.2.2.2.2.2.2.2.2.2.2.2.1, r41.2.2.2.2.2.2.2.2.2.2.2.2.1, r41.2.2.2.2.2.2.2.2.2.2.2.2.2.1, r41.2.2.2.2.2.2.2.2.2.2.2.2.2.2.1, r41.2.2.2.2.2.2.2.2.2.2.2.2.2.2.2.1, r41.2.2.2.2.2.2.2.2.2.2.2.2.2.2.2.2.1, r41.2.2.2.2.2.2.2.2.2.2.2.2.2.2.2.2.2.1, r41.2.2.2.2.2.2.2.2.2.2.2.2.2.2.2.2.2.2.1, r41.2.2.2.2.2.2.2.2.2.2.2.2.2.2.2.2.2.2.2.1, r41.2.2.2.2.2.2.2.2.2.2.2.2.2.2.2.2.2.2.2.2.1, r41.2.2.2.2.2.2.2.2.2.2.2.2.2.2.2.2.2.2.2.2.2.1, r41.2.2.2.2.2.2.2.2.2.2.2.2.2.2.2.2.2.2.2.2.2.2.1, r41.2.2.2.2.2.2.2.2.2.2.2.2.2.2.2.2.2.2.2.2.2.2.2.1, r41.2.2.2.2.2.2.2.2.2.2.2.2.2.2.2.2.2.2.2.2.2.2.2.2.1, (upd r41.2.2.2.2.2.2.2.2.2.2.2.2.2.2.2.2.2.2.2.2.2.2.2.2.2.1 r32.1 r41.1), r41.2.2.2.2.2.2.2.2.2.2.2.2.2.2.2.2.2.2.2.2.2.2.2.2.2.2.1, r41.2.2.2.2.2.2.2.2.2.2.2.2.2.2.2.2.2.2.2.2.2.2.2.2.2.2.2.1, r41.2.2.2.2.2.2.2.2.2.2.2.2.2.2.2.2.2.2.2.2.2.2.2.2.2.2.2.2.1, r41.2.2.2.2.2.2.2.2.2.2.2.2.2.2.2.2.2.2.2.2.2.2.2.2.2.2.2.2.2.1, r41.2.2.2.2.2.2.2.2.2.2.2.2.2.2.2.2.2.2.2.2.2.2.2.2.2.2.2.2.2.2.1, r41.2.2.2.2.2.2.2.2.2.2.2.2.2.2.2.2.2.2.2.2.2.2.2.2.2.2.2.2.2.2.2.1, (r41.2.2.2.2.2.2.2.2.2.2.2.2.2.2.2.2.2.2.2.2.2.2.2.2.2.2.2.2.2.2.2.2 + 1))) H := zP_set hP (Nat.le_of_ble_eq_true rfl) rfl rfl
              have hD : va_D A (zw dA za k9 tx u42 (r41.2.1, r41.2.2.1, r41.2.2.2.1, r41.2.2.2.2.1, r41.2.2.2.2.2.1, r41.2.2.2.2.2.2.1, r41.2.2.2.2.2.2.2.1, r41.2.2.2.2.2.2.2.2.1, r41.2.2.2.2.2.2.2.2.2.1, v1_, r41.2.2.2.2.2.2.2.2.2.2.2.1, r41.2.2.2.2.2.2.2.2.2.2.2.2.1, r41.2.2.2.2.2.2.2.2.2.2.2.2.2.1, r41.2.2.2.2.2.2.2.2.2.2.2.2.2.2.1, r41.2.2.2.2.2.2.2.2.2.2.2.2.2.2.2.1, r41.2.2.2.2.2.2.2.2.2.2.2.2.2.2.2.2.1, r41.2.2.2.2.2.2.2.2.2.2.2.2.2.2.2.2.2.1, r41.2.2.2.2.2.2.2.2.2.2.2.2.2.2.2.2.2.2.1, r41.2.2.2.2.2.2.2.2.2.2.2.2.2.2.2.2.2.2.2.1, r41.2.2.2.2.2.2.2.2.2.2.2.2.2.2.2.2.2.2.2.2.1, r41.2.2.2.2.2.2.2.2.2.2.2.2.2.2.2.2.2.2.2.2.2.1, r41.2.2.2.2.2.2.2.2.2.2.2.2.2.2.2.2.2.2.2.2.2.2.1, r41.2.2.2.2.2.2.2.2.2.2.2.2.2.2.2.2.2.2.2.2.2.2.2.1, r41.2.2.2.2.2.2.2.2.2.2.2.2.2.2.2.2.2.2.2.2.2.2.2.2.1, (upd r41.2.2.2.2.2.2.2.2.2.2.2.2.2.2.2.2.2.2.2.2.2.2.2.2.2.1 r32.1 r41.1), r41.2.2.2.2.2.2.2.2.2.2.2.2.2.2.2.2.2.2.2.2.2.2.2.2.2.2.1, r41.2.2.2.2.2.2.2.2.2.2.2.2.2.2.2.2.2.2.2.2.2.2.2.2.2.2.2.1, r41.2.2.2.2.2.2.2.2.2.2.2.2.2.2.2.2.2.2.2.2.2.2.2.2.2.2.2.2.1, r41.2.2.2.2.2.2.2.2.2.2.2.2.2.2.2.2.2.2.2.2.2.2.2.2.2.2.2.2.2.1, r41.2.2.2.2.2.2.2.2.2.2.2.2.2.2.2.2.2.2.2.2.2.2.2.2.2.2.2.2.2.2.1, r41.2.2.2.2.2.2.2.2.2.2.2.2.2.2.2.2.2.2.2.2.2.2.2.2.2.2.2.2.2.2.2.1, (r41.2.2.2.2.2.2.2.2.2.2.2.2.2.2.2.2.2.2.2.2.2.2.2.2.2.2.2.2.2.2.2.2 + 1))) := zD_set hD (Nat.le_of_ble_eq_true rfl) rfl rfl
              have hM := Sum.inr.inj (Option.some.inj hM)
              subst hM
              refine W.widen (k := 21) (n := 127) (Nat.le_of_ble_eq_true rfl) (Nat.le_of_ble_eq_true rfl) ?_
              exact W.vret hx hb hr (fun t ht hW => ⟨⟨u42, rfl, (zext_trans (zext_trans (zext_trans (zext_trans (zext_trans zext_rf x28) x31) x34) x37) x43), by rw [ht]; exact hP, hD⟩, hS.F ht⟩) hS.2.2 dX2_personLine_92
