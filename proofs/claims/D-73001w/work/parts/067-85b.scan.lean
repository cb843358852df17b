set_option maxRecDepth 100000
set_option maxHeartbeats 40000000 in
theorem ctZ_mustName (l : Launch) (D : va_G) (dA : Nat → ClassId) (sz : Nat) (za : Nat → Nat) (h : ZH) (tx : AI) (k9 : Int32 × Int32 × Int32) (ka kv : Nat → Nat) (s : ZS) (r : ZS) (hM : MZ_mustName tx k9.1 s = some (.inr r)) : Met l yX2_mustName (ws_ yX2_mustName cX2_mustName 3 none) ({ frames := 5, cells := 0, slots := 0, locals := 241 }) (preX D dA (ZE ka kv) [.ref (za 0)] (zw dA za k9 tx h s) sz) (qz_ D (fun (u : ZH) => none) (fun u => zext h u s r) (fun u => zw dA za k9 tx u r) (va_A (zw dA za k9 tx h s) sz)) 0 0 (va_A (zw dA za k9 tx h s) sz) := by
  refine Met.ofW (cc := cX2_mustName) (maxL := 3) (ret := none) (by decide) rfl ?_
  intro p e s0 m args below meth c s₁ B hml hv
  obtain ⟨rfl, hsz, hP, hK, hD0, hE⟩ := hv
  have hx := B.exec
  have hb := B.bytes
  have hr := B.returns
  have hts := atoms_spec (ws := (ws_ yX2_mustName cX2_mustName 3 none)) B.pre
  have hts : ∀ w ∈ lw_all, w.before _ s0 = true := fun w h => hts w (List.mem_cons_of_mem _ h)
  have hown : s0.vm.findClass RX2 = some m.cls := findClass_of_methodNamed B.named
  have hlocks := B.notSynchronized
  subst hsz
  have hD := hD0.self (sz := s0.heap.size)
  generalize hAe : va_A (zw dA za k9 tx h s) s0.heap.size = A at hD hE ⊢
  have hA : ∀ q : Nat, s0.heap.size ≤ q → A q := fun q h => by rw [← hAe]; exact Or.inr h
  have hS : va_S A s0.heap s0.heap [] := va_S.rf
  have hl := lv_entry ([.ref (za 0)]) (n := 3) (Nat.le_of_ble_eq_true rfl)
  rw [lg_entry_eq]
  generalize (lg_sl ([.ref (za 0)]) ++ List.replicate (3 - (lg_sl ([.ref (za 0)])).length) Slot.unset).toArray = ls at hl ⊢
  have hl : lv_has ls 3 [(0, .ref (za 0))] := hl
  unfold MZ_mustName at hM
  refine lv_aload_n hx hb dX2_mustName_0 rfl (lv_at hl 0 rfl) ?_
  refine va_get (D := D) (ci := 1) (v := .int s.2.1) (C := RX2) (T := TX2) (N := 11) hx hb hts in_X2 hown hK.1 hP 0 rfl rfl 5 (by decide) (hts _ q231) (fun _ h9 => h9) rfl dX2_mustName_1 ?_
  refine lv_iconst (v := (2 : Int32)) hx hb dX2_mustName_4 (by decide) ?_
  refine lv_icmp_eq (tgt := 14) hx hb dX2_mustName_5 (by decide) (fun c1 => ?_) (fun c1 => ?_)
  · rw [if_pos c1] at hM
    refine lv_aload_n hx hb dX2_mustName_14 rfl (lv_at hl 0 rfl) ?_
    obtain ⟨i2, ei2, hM⟩ := b_inv hM
    obtain ⟨hi2, hM⟩ := gn_inv hM
    refine va_get (D := D) (ci := 1) (v := (zwv h s.2.2.2.2.1)) (C := RX2) (T := TX2) (N := 11) hx hb hts in_X2 hown hK.1 hP 0 rfl rfl 8 (by decide) (hts _ q234) (fun _ h9 => h9) rfl dX2_mustName_15 ?_
    refine lv_tor (v := .ref (h.1 i2)) (zwv_some ei2) ?_
    refine lv_astore_n (lv' := [(1, .ref (h.1 i2)), (0, .ref (za 0))]) hx hb dX2_mustName_18 rfl hl (by decide) rfl (fun ls hl => ?_)
    refine lv_iconst (v := (-1 : Int32)) hx hb dX2_mustName_19 (by decide) ?_
    refine lv_istore_n (lv' := [(2, .int (-1 : Int32)), (1, .ref (h.1 i2)), (0, .ref (za 0))]) hx hb dX2_mustName_20 rfl hl (by decide) rfl (fun ls hl => ?_)
    refine lv_aload_n hx hb dX2_mustName_21 rfl (lv_at hl 1 rfl) ?_
    obtain ⟨h3, hM⟩ := gn_inv hM
    obtain ⟨h4, hM⟩ := gn_inv hM
    have hC_ : [11 + i2, 11 + s.2.2.2.2.2.2.2.2.2.2.2.2.2.2.2.2.2.2.2.2.2.2.2.2.2.2.2.2.1 + i2].map (fun k_ => (zw dA za k9 tx h s)[k_]?) = ([scell (h.1 i2) (h.2.1 i2) (s.2.2.2.2.2.2.2.2.2.2.2.2.2.2.2.2.2.2.2.2.2.2.2.2.2.2.2.2.2.1 i2) (s.2.2.2.2.2.2.2.2.2.2.2.2.2.2.2.2.2.2.2.2.2.2.2.2.2.2.2.2.2.2.1 i2) (h.2.2.1 i2), bcell dA (h.2.1 i2) (s.2.2.2.2.2.2.2.2.2.2.2.2.2.2.2.2.2.2.2.2.2.2.2.2.2.2.2.2.2.1 i2) (s.2.2.2.2.2.2.2.2.2.2.2.2.2.2.2.2.2.2.2.2.2.2.2.2.2.2.2.2.2.2.1 i2)] : va_W).map some := by rw [List.map_cons, List.map_cons, List.map_nil, zw_so h3, zw_sb h3]; rfl
    have hP2 : va_P D clG [scell (h.1 i2) (h.2.1 i2) (s.2.2.2.2.2.2.2.2.2.2.2.2.2.2.2.2.2.2.2.2.2.2.2.2.2.2.2.2.2.1 i2) (s.2.2.2.2.2.2.2.2.2.2.2.2.2.2.2.2.2.2.2.2.2.2.2.2.2.2.2.2.2.2.1 i2) (h.2.2.1 i2), bcell dA (h.2.1 i2) (s.2.2.2.2.2.2.2.2.2.2.2.2.2.2.2.2.2.2.2.2.2.2.2.2.2.2.2.2.2.1 i2) (s.2.2.2.2.2.2.2.2.2.2.2.2.2.2.2.2.2.2.2.2.2.2.2.2.2.2.2.2.2.2.1 i2)] _ := pair_P (hP _ _ (zw_so h3)) (hP _ _ (zw_sb h3))
    have hD2 : va_D A [scell (h.1 i2) (h.2.1 i2) (s.2.2.2.2.2.2.2.2.2.2.2.2.2.2.2.2.2.2.2.2.2.2.2.2.2.2.2.2.2.1 i2) (s.2.2.2.2.2.2.2.2.2.2.2.2.2.2.2.2.2.2.2.2.2.2.2.2.2.2.2.2.2.2.1 i2) (h.2.2.1 i2), bcell dA (h.2.1 i2) (s.2.2.2.2.2.2.2.2.2.2.2.2.2.2.2.2.2.2.2.2.2.2.2.2.2.2.2.2.2.1 i2) (s.2.2.2.2.2.2.2.2.2.2.2.2.2.2.2.2.2.2.2.2.2.2.2.2.2.2.2.2.2.2.1 i2)] := hD.sub [11 + i2, 11 + s.2.2.2.2.2.2.2.2.2.2.2.2.2.2.2.2.2.2.2.2.2.2.2.2.2.2.2.2.1 + i2] (nd2 (by omega)) hC_
    have ok_ := ev_at OK_ok hE.1 hS (w_free hD2 hS hA)
    refine k_i0 [11 + i2, 11 + s.2.2.2.2.2.2.2.2.2.2.2.2.2.2.2.2.2.2.2.2.2.2.2.2.2.2.2.2.1 + i2] (va_runV (As := []) (rest := []) ⟨hx, hb, hml, hown, hts⟩ (ctJ3_hashCode l D dA _ _ _ _ _ _ (by omega)) (cwV 0 hts (lw_V q627 q628 q629 q124 q630) rfl rfl rfl (by decide +kernel) ⟨Nat.le_of_ble_eq_true rfl, Nat.le_of_ble_eq_true rfl⟩) (preX_V OK_ok hP2 hK hD2 ok_ hP2 (ci := 13) (q0 := 0) rfl rfl) rfl rfl hl.1 rfl (lv_room (Nat.le_of_ble_eq_true rfl)) dX2_mustName_22 ⟨Nat.le_of_ble_eq_true rfl, Nat.le_of_ble_eq_true rfl⟩) hP hD hS hA hC_ (fun _ => rfl) (fun u_ H locs hP hD hS => ?_)
    rw [zw_hash h3] at hP hD
    have hl : lv_has ls 3 [(2, .int (-1 : Int32)), (1, .ref ((zhs h i2).1 i2)), (0, .ref (za 0))] := hl
    by_cases c5 : (hashG (s.2.2.2.2.2.2.2.2.2.2.2.2.2.2.2.2.2.2.2.2.2.2.2.2.2.2.2.2.2.1 i2) (s.2.2.2.2.2.2.2.2.2.2.2.2.2.2.2.2.2.2.2.2.2.2.2.2.2.2.2.2.2.2.1 i2)) = (-991716523 : Int32)
    · rw [if_pos c5] at hM
      refine lv_lookup (off := 81) (tgt := 106) hx hb dX2_mustName_25 (by decide) (by rw [show ((hashG (s.2.2.2.2.2.2.2.2.2.2.2.2.2.2.2.2.2.2.2.2.2.2.2.2.2.2.2.2.2.1 i2) (s.2.2.2.2.2.2.2.2.2.2.2.2.2.2.2.2.2.2.2.2.2.2.2.2.2.2.2.2.2.2.1 i2))).toInt = -991716523 by rw [c5]; decide]; decide) (by decide) ?_
      refine lv_aload_n hx hb dX2_mustName_106 rfl (lv_at hl 1 rfl) ?_
      refine va_ldcS hx hb hown (hE.2.2.1 2 (Nat.zero_le _) (by decide)) dX2_mustName_107 ?_
      obtain ⟨h6, hM⟩ := gn_inv hM
      obtain ⟨h7, hM⟩ := gn_inv hM
      have sw_ := sv_world hts hK hP (zw_so h6) (zw_sb h6) rfl rfl (lt_nil (hP _ _ (zw_so h6)).lt) (lt_nil (hP _ _ (zw_sb h6)).lt)
      have sk_ := ev_at sv_ok (hE.2.1 2 (by decide)) hS (ev_nil hA hS)
      have ok_ := ev_at OK_ok hE.1 hS (ev_nil hA hS)
      have ab_ : (zhs h i2).1 i2 = ka 2 → (eqC (s.2.2.2.2.2.2.2.2.2.2.2.2.2.2.2.2.2.2.2.2.2.2.2.2.2.2.2.2.2.1 i2) (s.2.2.2.2.2.2.2.2.2.2.2.2.2.2.2.2.2.2.2.2.2.2.2.2.2.2.2.2.2.2.1 i2) (klen 2) (kby 2)) = 1 := fun h9 => absurd (hD.2 _ _ (zw_so h6)) (by rw [show (scell ((zhs h i2).1 i2) ((zhs h i2).2.1 i2) (s.2.2.2.2.2.2.2.2.2.2.2.2.2.2.2.2.2.2.2.2.2.2.2.2.2.2.2.2.2.1 i2) (s.2.2.2.2.2.2.2.2.2.2.2.2.2.2.2.2.2.2.2.2.2.2.2.2.2.2.2.2.2.2.1 i2) ((zhs h i2).2.2.1 i2)).1 = ka 2 from h9]; obtain ⟨⟨_, _, _, _, hn9⟩, _⟩ := hE.2.1 2 (by decide); exact hn9)
      refine k_i0 [] (va_runV (As := [.ref (ka 2)]) (rest := []) ⟨hx, hb, hml, hown, hts⟩ (ctJ3_equals l D dA _ _ _ _ _ _ _ _ _ (by omega) (klen_lt _) ab_) (cwV 1 hts (lw_V q681 q682 q683 q124 q684) rfl rfl rfl (by decide +kernel) ⟨Nat.le_of_ble_eq_true rfl, Nat.le_of_ble_eq_true rfl⟩) (preX_O (ev2_ok OK_ok (ev2_ok sv_ok sv_ok)) p_nil hK (A := A) d_nil ⟨ok_, sw_, sk_⟩ sw_.1) rfl rfl hl.1 rfl (lv_room (Nat.le_of_ble_eq_true rfl)) dX2_mustName_109 ⟨Nat.le_of_ble_eq_true rfl, Nat.le_of_ble_eq_true rfl⟩) hP hD hS hA rfl (fun _ => rfl) (fun u_ H locs hP hD hS => ?_)
      have hP : va_P D clG (zw dA za k9 tx (zhs h i2) s) H := hP
      have hD : va_D A (zw dA za k9 tx (zhs h i2) s) := hD
      refine lv_if_eq (tgt := 188) hx hb dX2_mustName_112 (by decide) (fun c8 => ?_) (fun c8 => ?_)
      · rw [if_pos c8] at hM
        refine lv_iload_n hx hb dX2_mustName_188 rfl (lv_at hl 0 rfl) ?_
        refine lv_tableOut (tgt := 238) hx hb dX2_mustName_189 (by decide) (by decide) ?_
        have hM := Sum.inr.inj (Option.some.inj hM)
        subst hM
        refine W.widen (k := 0) (n := 0) (Nat.le_of_ble_eq_true rfl) (Nat.le_of_ble_eq_true rfl) ?_
        exact W.vret hx hb hr (fun t ht hW => ⟨⟨(zhs h i2), rfl, (zext_trans zext_rf zext_hs), by rw [ht]; exact hP, hD⟩, hS.F ht⟩) hS.2.2 dX2_mustName_238
      · rw [if_neg c8] at hM
        refine lv_iconst (v := (1 : Int32)) hx hb dX2_mustName_115 (by decide) ?_
        refine lv_istore_n (lv' := [(2, .int (1 : Int32)), (1, .ref ((zhs h i2).1 i2)), (0, .ref (za 0))]) hx hb dX2_mustName_116 rfl hl (by decide) rfl (fun ls hl => ?_)
        have hl := lv_sub (l' := [(2, .int (1 : Int32)), (0, .ref (za 0))]) hl [0, 2] rfl
        refine lv_goto (tgt := 188) hx hb dX2_mustName_117 (by decide) ?_
        refine lv_iload_n hx hb dX2_mustName_188 rfl (lv_at hl 0 rfl) ?_
        refine lv_tableIn (off := 43) (tgt := 232) hx hb dX2_mustName_189 (by decide) (by decide) rfl (by decide) ?_
        refine lv_aload_n hx hb dX2_mustName_232 rfl (lv_at hl 1 rfl) ?_
        refine lv_iconst (v := (1 : Int32)) hx hb dX2_mustName_233 (by decide) ?_
        have er9 : MX2_fail (1 : Int32) s.2.2.1 = some ((1 : Int32), s.2.2.1) := rfl
        refine k_r0 [0, 1] (va_runV (As := [.int (1 : Int32)]) (rest := []) ⟨hx, hb, hml, hown, hts⟩ (ctX2_fail l D dA _ (za 0) (za 1) (1 : Int32) k9.1 s.1 s.2.1 s.2.2.1 s.2.2.2.1 0 k9.2.1 k9.2.2 (.ref (za 2)) (.ref (za 3)) (zwv (zhs h i2) s.2.2.2.2.1) (.ref (za 4)) (zav (zhs h i2) s.2.2.2.2.2.1) .null .null .null .null .null _ er9) (cwV 1 hts (lw_V q619 q621 qs7 q114 q622) rfl rfl rfl (by decide +kernel) ⟨Nat.le_of_ble_eq_true rfl, Nat.le_of_ble_eq_true rfl⟩) (pre_V (hP.sub [0, 1] rfl) hK (hD.sub [0, 1] (by decide) rfl) (ci := 1) (q0 := 0) rfl rfl) rfl rfl hl.1 rfl (lv_room (Nat.le_of_ble_eq_true rfl)) dX2_mustName_234 ⟨Nat.le_of_ble_eq_true rfl, Nat.le_of_ble_eq_true rfl⟩) hP hD hS hA rfl (fun _ => rfl) (fun u10 H locs hP hD hS => ?_)
        have hP : va_P D clG (zw dA za (k9.1, (1 : Int32), s.2.2.1) tx (zhs h i2) s) H := hP
        have hD : va_D A (zw dA za (k9.1, (1 : Int32), s.2.2.1) tx (zhs h i2) s) := hD
        cases hM
    · rw [if_neg c5] at hM
      by_cases c11 : (hashG (s.2.2.2.2.2.2.2.2.2.2.2.2.2.2.2.2.2.2.2.2.2.2.2.2.2.2.2.2.2.1 i2) (s.2.2.2.2.2.2.2.2.2.2.2.2.2.2.2.2.2.2.2.2.2.2.2.2.2.2.2.2.2.2.1 i2)) = (98262 : Int32)
      · rw [if_pos c11] at hM
        refine lv_lookup (off := 151) (tgt := 176) hx hb dX2_mustName_25 (by decide) (by rw [show ((hashG (s.2.2.2.2.2.2.2.2.2.2.2.2.2.2.2.2.2.2.2.2.2.2.2.2.2.2.2.2.2.1 i2) (s.2.2.2.2.2.2.2.2.2.2.2.2.2.2.2.2.2.2.2.2.2.2.2.2.2.2.2.2.2.2.1 i2))).toInt = 98262 by rw [c11]; decide]; decide) (by decide) ?_
        refine lv_aload_n hx hb dX2_mustName_176 rfl (lv_at hl 1 rfl) ?_
        refine va_ldcS hx hb hown (hE.2.2.1 9 (Nat.zero_le _) (by decide)) dX2_mustName_177 ?_
        obtain ⟨h12, hM⟩ := gn_inv hM
        obtain ⟨h13, hM⟩ := gn_inv hM
        have sw_ := sv_world hts hK hP (zw_so h12) (zw_sb h12) rfl rfl (lt_nil (hP _ _ (zw_so h12)).lt) (lt_nil (hP _ _ (zw_sb h12)).lt)
        have sk_ := ev_at sv_ok (hE.2.1 9 (by decide)) hS (ev_nil hA hS)
        have ok_ := ev_at OK_ok hE.1 hS (ev_nil hA hS)
        have ab_ : (zhs h i2).1 i2 = ka 9 → (eqC (s.2.2.2.2.2.2.2.2.2.2.2.2.2.2.2.2.2.2.2.2.2.2.2.2.2.2.2.2.2.1 i2) (s.2.2.2.2.2.2.2.2.2.2.2.2.2.2.2.2.2.2.2.2.2.2.2.2.2.2.2.2.2.2.1 i2) (klen 9) (kby 9)) = 1 := fun h9 => absurd (hD.2 _ _ (zw_so h12)) (by rw [show (scell ((zhs h i2).1 i2) ((zhs h i2).2.1 i2) (s.2.2.2.2.2.2.2.2.2.2.2.2.2.2.2.2.2.2.2.2.2.2.2.2.2.2.2.2.2.1 i2) (s.2.2.2.2.2.2.2.2.2.2.2.2.2.2.2.2.2.2.2.2.2.2.2.2.2.2.2.2.2.2.1 i2) ((zhs h i2).2.2.1 i2)).1 = ka 9 from h9]; obtain ⟨⟨_, _, _, _, hn9⟩, _⟩ := hE.2.1 9 (by decide); exact hn9)
        refine k_i0 [] (va_runV (As := [.ref (ka 9)]) (rest := []) ⟨hx, hb, hml, hown, hts⟩ (ctJ3_equals l D dA _ _ _ _ _ _ _ _ _ (by omega) (klen_lt _) ab_) (cwV 1 hts (lw_V q681 q682 q683 q124 q684) rfl rfl rfl (by decide +kernel) ⟨Nat.le_of_ble_eq_true rfl, Nat.le_of_ble_eq_true rfl⟩) (preX_O (ev2_ok OK_ok (ev2_ok sv_ok sv_ok)) p_nil hK (A := A) d_nil ⟨ok_, sw_, sk_⟩ sw_.1) rfl rfl hl.1 rfl (lv_room (Nat.le_of_ble_eq_true rfl)) dX2_mustName_179 ⟨Nat.le_of_ble_eq_true rfl, Nat.le_of_ble_eq_true rfl⟩) hP hD hS hA rfl (fun _ => rfl) (fun u_ H locs hP hD hS => ?_)
        have hP : va_P D clG (zw dA za k9 tx (zhs h i2) s) H := hP
        have hD : va_D A (zw dA za k9 tx (zhs h i2) s) := hD
        refine lv_if_eq (tgt := 188) hx hb dX2_mustName_182 (by decide) (fun c14 => ?_) (fun c14 => ?_)
        · rw [if_pos c14] at hM
          refine lv_iload_n hx hb dX2_mustName_188 rfl (lv_at hl 0 rfl) ?_
          refine lv_tableOut (tgt := 238) hx hb dX2_mustName_189 (by decide) (by decide) ?_
          have hM := Sum.inr.inj (Option.some.inj hM)
          subst hM
          refine W.widen (k := 0) (n := 0) (Nat.le_of_ble_eq_true rfl) (Nat.le_of_ble_eq_true rfl) ?_
          exact W.vret hx hb hr (fun t ht hW => ⟨⟨(zhs h i2), rfl, (zext_trans zext_rf zext_hs), by rw [ht]; exact hP, hD⟩, hS.F ht⟩) hS.2.2 dX2_mustName_238
        · rw [if_neg c14] at hM
          refine lv_bipush (v := (6 : Int32)) hx hb dX2_mustName_185 (by decide) ?_
          refine lv_istore_n (lv' := [(2, .int (6 : Int32)), (1, .ref ((zhs h i2).1 i2)), (0, .ref (za 0))]) hx hb dX2_mustName_187 rfl hl (by decide) rfl (fun ls hl => ?_)
          have hl := lv_sub (l' := [(2, .int (6 : Int32)), (0, .ref (za 0))]) hl [0, 2] rfl
          refine lv_iload_n hx hb dX2_mustName_188 rfl (lv_at hl 0 rfl) ?_
          refine lv_tableIn (off := 43) (tgt := 232) hx hb dX2_mustName_189 (by decide) (by decide) rfl (by decide) ?_
          refine lv_aload_n hx hb dX2_mustName_232 rfl (lv_at hl 1 rfl) ?_
          refine lv_iconst (v := (1 : Int32)) hx hb dX2_mustName_233 (by decide) ?_
          have er15 : MX2_fail (1 : Int32) s.2.2.1 = some ((1 : Int32), s.2.2.1) := rfl
          refine k_r0 [0, 1] (va_runV (As := [.int (1 : Int32)]) (rest := []) ⟨hx, hb, hml, hown, hts⟩ (ctX2_fail l D dA _ (za 0) (za 1) (1 : Int32) k9.1 s.1 s.2.1 s.2.2.1 s.2.2.2.1 0 k9.2.1 k9.2.2 (.ref (za 2)) (.ref (za 3)) (zwv (zhs h i2) s.2.2.2.2.1) (.ref (za 4)) (zav (zhs h i2) s.2.2.2.2.2.1) .null .null .null .null .null _ er15) (cwV 1 hts (lw_V q619 q621 qs7 q114 q622) rfl rfl rfl (by decide +kernel) ⟨Nat.le_of_ble_eq_true rfl, Nat.le_of_ble_eq_true rfl⟩) (pre_V (hP.sub [0, 1] rfl) hK (hD.sub [0, 1] (by decide) rfl) (ci := 1) (q0 := 0) rfl rfl) rfl rfl hl.1 rfl (lv_room (Nat.le_of_ble_eq_true rfl)) dX2_mustName_234 ⟨Nat.le_of_ble_eq_true rfl, Nat.le_of_ble_eq_true rfl⟩) hP hD hS hA rfl (fun _ => rfl) (fun u16 H locs hP hD hS => ?_)
          have hP : va_P D clG (zw dA za (k9.1, (1 : Int32), s.2.2.1) tx (zhs h i2) s) H := hP
          have hD : va_D A (zw dA za (k9.1, (1 : Int32), s.2.2.1) tx (zhs h i2) s) := hD
          cases hM
      · rw [if_neg c11] at hM
        by_cases c17 : (hashG (s.2.2.2.2.2.2.2.2.2.2.2.2.2.2.2.2.2.2.2.2.2.2.2.2.2.2.2.2.2.1 i2) (s.2.2.2.2.2.2.2.2.2.2.2.2.2.2.2.2.2.2.2.2.2.2.2.2.2.2.2.2.2.2.1 i2)) = (3053931 : Int32)
        · rw [if_pos c17] at hM
          refine lv_lookup (off := 67) (tgt := 92) hx hb dX2_mustName_25 (by decide) (by rw [show ((hashG (s.2.2.2.2.2.2.2.2.2.2.2.2.2.2.2.2.2.2.2.2.2.2.2.2.2.2.2.2.2.1 i2) (s.2.2.2.2.2.2.2.2.2.2.2.2.2.2.2.2.2.2.2.2.2.2.2.2.2.2.2.2.2.2.1 i2))).toInt = 3053931 by rw [c17]; decide]; decide) (by decide) ?_
          refine lv_aload_n hx hb dX2_mustName_92 rfl (lv_at hl 1 rfl) ?_
          refine va_ldcS hx hb hown (hE.2.2.1 1 (Nat.zero_le _) (by decide)) dX2_mustName_93 ?_
          obtain ⟨h18, hM⟩ := gn_inv hM
          obtain ⟨h19, hM⟩ := gn_inv hM
          have sw_ := sv_world hts hK hP (zw_so h18) (zw_sb h18) rfl rfl (lt_nil (hP _ _ (zw_so h18)).lt) (lt_nil (hP _ _ (zw_sb h18)).lt)
          have sk_ := ev_at sv_ok (hE.2.1 1 (by decide)) hS (ev_nil hA hS)
          have ok_ := ev_at OK_ok hE.1 hS (ev_nil hA hS)
          have ab_ : (zhs h i2).1 i2 = ka 1 → (eqC (s.2.2.2.2.2.2.2.2.2.2.2.2.2.2.2.2.2.2.2.2.2.2.2.2.2.2.2.2.2.1 i2) (s.2.2.2.2.2.2.2.2.2.2.2.2.2.2.2.2.2.2.2.2.2.2.2.2.2.2.2.2.2.2.1 i2) (klen 1) (kby 1)) = 1 := fun h9 => absurd (hD.2 _ _ (zw_so h18)) (by rw [show (scell ((zhs h i2).1 i2) ((zhs h i2).2.1 i2) (s.2.2.2.2.2.2.2.2.2.2.2.2.2.2.2.2.2.2.2.2.2.2.2.2.2.2.2.2.2.1 i2) (s.2.2.2.2.2.2.2.2.2.2.2.2.2.2.2.2.2.2.2.2.2.2.2.2.2.2.2.2.2.2.1 i2) ((zhs h i2).2.2.1 i2)).1 = ka 1 from h9]; obtain ⟨⟨_, _, _, _, hn9⟩, _⟩ := hE.2.1 1 (by decide); exact hn9)
          refine k_i0 [] (va_runV (As := [.ref (ka 1)]) (rest := []) ⟨hx, hb, hml, hown, hts⟩ (ctJ3_equals l D dA _ _ _ _ _ _ _ _ _ (by omega) (klen_lt _) ab_) (cwV 1 hts (lw_V q681 q682 q683 q124 q684) rfl rfl rfl (by decide +kernel) ⟨Nat.le_of_ble_eq_true rfl, Nat.le_of_ble_eq_true rfl⟩) (preX_O (ev2_ok OK_ok (ev2_ok sv_ok sv_ok)) p_nil hK (A := A) d_nil ⟨ok_, sw_, sk_⟩ sw_.1) rfl rfl hl.1 rfl (lv_room (Nat.le_of_ble_eq_true rfl)) dX2_mustName_95 ⟨Nat.le_of_ble_eq_true rfl, Nat.le_of_ble_eq_true rfl⟩) hP hD hS hA rfl (fun _ => rfl) (fun u_ H locs hP hD hS => ?_)
          have hP : va_P D clG (zw dA za k9 tx (zhs h i2) s) H := hP
          have hD : va_D A (zw dA za k9 tx (zhs h i2) s) := hD
          refine lv_if_eq (tgt := 188) hx hb dX2_mustName_98 (by decide) (fun c20 => ?_) (fun c20 => ?_)
          · rw [if_pos c20] at hM
            refine lv_iload_n hx hb dX2_mustName_188 rfl (lv_at hl 0 rfl) ?_
            refine lv_tableOut (tgt := 238) hx hb dX2_mustName_189 (by decide) (by decide) ?_
            have hM := Sum.inr.inj (Option.some.inj hM)
            subst hM
            refine W.widen (k := 0) (n := 0) (Nat.le_of_ble_eq_true rfl) (Nat.le_of_ble_eq_true rfl) ?_
            exact W.vret hx hb hr (fun t ht hW => ⟨⟨(zhs h i2), rfl, (zext_trans zext_rf zext_hs), by rw [ht]; exact hP, hD⟩, hS.F ht⟩) hS.2.2 dX2_mustName_238
          · rw [if_neg c20] at hM
            refine lv_iconst (v := (0 : Int32)) hx hb dX2_mustName_101 (by decide) ?_
            refine lv_istore_n (lv' := [(2, .int (0 : Int32)), (1, .ref ((zhs h i2).1 i2)), (0, .ref (za 0))]) hx hb dX2_mustName_102 rfl hl (by decide) rfl (fun ls hl => ?_)
            have hl := lv_sub (l' := [(2, .int (0 : Int32)), (0, .ref (za 0))]) hl [0, 2] rfl
            refine lv_goto (tgt := 188) hx hb dX2_mustName_103 (by decide) ?_
            refine lv_iload_n hx hb dX2_mustName_188 rfl (lv_at hl 0 rfl) ?_
            refine lv_tableIn (off := 43) (tgt := 232) hx hb dX2_mustName_189 (by decide) (by decide) rfl (by decide) ?_
            refine lv_aload_n hx hb dX2_mustName_232 rfl (lv_at hl 1 rfl) ?_
            refine lv_iconst (v := (1 : Int32)) hx hb dX2_mustName_233 (by decide) ?_
            have er21 : MX2_fail (1 : Int32) s.2.2.1 = some ((1 : Int32), s.2.2.1) := rfl
            refine k_r0 [0, 1] (va_runV (As := [.int (1 : Int32)]) (rest := []) ⟨hx, hb, hml, hown, hts⟩ (ctX2_fail l D dA _ (za 0) (za 1) (1 : Int32) k9.1 s.1 s.2.1 s.2.2.1 s.2.2.2.1 0 k9.2.1 k9.2.2 (.ref (za 2)) (.ref (za 3)) (zwv (zhs h i2) s.2.2.2.2.1) (.ref (za 4)) (zav (zhs h i2) s.2.2.2.2.2.1) .null .null .null .null .null _ er21) (cwV 1 hts (lw_V q619 q621 qs7 q114 q622) rfl rfl rfl (by decide +kernel) ⟨Nat.le_of_ble_eq_true rfl, Nat.le_of_ble_eq_true rfl⟩) (pre_V (hP.sub [0, 1] rfl) hK (hD.sub [0, 1] (by decide) rfl) (ci := 1) (q0 := 0) rfl rfl) rfl rfl hl.1 rfl (lv_room (Nat.le_of_ble_eq_true rfl)) dX2_mustName_234 ⟨Nat.le_of_ble_eq_true rfl, Nat.le_of_ble_eq_true rfl⟩) hP hD hS hA rfl (fun _ => rfl) (fun u22 H locs hP hD hS => ?_)
            have hP : va_P D clG (zw dA za (k9.1, (1 : Int32), s.2.2.1) tx (zhs h i2) s) H := hP
            have hD : va_D A (zw dA za (k9.1, (1 : Int32), s.2.2.1) tx (zhs h i2) s) := hD
            cases hM
        · rw [if_neg c17] at hM
          by_cases c23 : (hashG (s.2.2.2.2.2.2.2.2.2.2.2.2.2.2.2.2.2.2.2.2.2.2.2.2.2.2.2.2.2.1 i2) (s.2.2.2.2.2.2.2.2.2.2.2.2.2.2.2.2.2.2.2.2.2.2.2.2.2.2.2.2.2.2.1 i2)) = (3377192 : Int32)
          · rw [if_pos c23] at hM
            refine lv_lookup (off := 95) (tgt := 120) hx hb dX2_mustName_25 (by decide) (by rw [show ((hashG (s.2.2.2.2.2.2.2.2.2.2.2.2.2.2.2.2.2.2.2.2.2.2.2.2.2.2.2.2.2.1 i2) (s.2.2.2.2.2.2.2.2.2.2.2.2.2.2.2.2.2.2.2.2.2.2.2.2.2.2.2.2.2.2.1 i2))).toInt = 3377192 by rw [c23]; decide]; decide) (by decide) ?_
            refine lv_aload_n hx hb dX2_mustName_120 rfl (lv_at hl 1 rfl) ?_
            refine va_ldcS hx hb hown (hE.2.2.1 3 (Nat.zero_le _) (by decide)) dX2_mustName_121 ?_
            obtain ⟨h24, hM⟩ := gn_inv hM
            obtain ⟨h25, hM⟩ := gn_inv hM
            have sw_ := sv_world hts hK hP (zw_so h24) (zw_sb h24) rfl rfl (lt_nil (hP _ _ (zw_so h24)).lt) (lt_nil (hP _ _ (zw_sb h24)).lt)
            have sk_ := ev_at sv_ok (hE.2.1 3 (by decide)) hS (ev_nil hA hS)
            have ok_ := ev_at OK_ok hE.1 hS (ev_nil hA hS)
            have ab_ : (zhs h i2).1 i2 = ka 3 → (eqC (s.2.2.2.2.2.2.2.2.2.2.2.2.2.2.2.2.2.2.2.2.2.2.2.2.2.2.2.2.2.1 i2) (s.2.2.2.2.2.2.2.2.2.2.2.2.2.2.2.2.2.2.2.2.2.2.2.2.2.2.2.2.2.2.1 i2) (klen 3) (kby 3)) = 1 := fun h9 => absurd (hD.2 _ _ (zw_so h24)) (by rw [show (scell ((zhs h i2).1 i2) ((zhs h i2).2.1 i2) (s.2.2.2.2.2.2.2.2.2.2.2.2.2.2.2.2.2.2.2.2.2.2.2.2.2.2.2.2.2.1 i2) (s.2.2.2.2.2.2.2.2.2.2.2.2.2.2.2.2.2.2.2.2.2.2.2.2.2.2.2.2.2.2.1 i2) ((zhs h i2).2.2.1 i2)).1 = ka 3 from h9]; obtain ⟨⟨_, _, _, _, hn9⟩, _⟩ := hE.2.1 3 (by decide); exact hn9)
            refine k_i0 [] (va_runV (As := [.ref (ka 3)]) (rest := []) ⟨hx, hb, hml, hown, hts⟩ (ctJ3_equals l D dA _ _ _ _ _ _ _ _ _ (by omega) (klen_lt _) ab_) (cwV 1 hts (lw_V q681 q682 q683 q124 q684) rfl rfl rfl (by decide +kernel) ⟨Nat.le_of_ble_eq_true rfl, Nat.le_of_ble_eq_true rfl⟩) (preX_O (ev2_ok OK_ok (ev2_ok sv_ok sv_ok)) p_nil hK (A := A) d_nil ⟨ok_, sw_, sk_⟩ sw_.1) rfl rfl hl.1 rfl (lv_room (Nat.le_of_ble_eq_true rfl)) dX2_mustName_123 ⟨Nat.le_of_ble_eq_true rfl, Nat.le_of_ble_eq_true rfl⟩) hP hD hS hA rfl (fun _ => rfl) (fun u_ H locs hP hD hS => ?_)
            have hP : va_P D clG (zw dA za k9 tx (zhs h i2) s) H := hP
            have hD : va_D A (zw dA za k9 tx (zhs h i2) s) := hD
            refine lv_if_eq (tgt := 188) hx hb dX2_mustName_126 (by decide) (fun c26 => ?_) (fun c26 => ?_)
            · rw [if_pos c26] at hM
              refine lv_iload_n hx hb dX2_mustName_188 rfl (lv_at hl 0 rfl) ?_
              refine lv_tableOut (tgt := 238) hx hb dX2_mustName_189 (by decide) (by decide) ?_
              have hM := Sum.inr.inj (Option.some.inj hM)
              subst hM
              refine W.widen (k := 0) (n := 0) (Nat.le_of_ble_eq_true rfl) (Nat.le_of_ble_eq_true rfl) ?_
              exact W.vret hx hb hr (fun t ht hW => ⟨⟨(zhs h i2), rfl, (zext_trans zext_rf zext_hs), by rw [ht]; exact hP, hD⟩, hS.F ht⟩) hS.2.2 dX2_mustName_238
            · rw [if_neg c26] at hM
              refine lv_iconst (v := (2 : Int32)) hx hb dX2_mustName_129 (by decide) ?_
              refine lv_istore_n (lv' := [(2, .int (2 : Int32)), (1, .ref ((zhs h i2).1 i2)), (0, .ref (za 0))]) hx hb dX2_mustName_130 rfl hl (by decide) rfl (fun ls hl => ?_)
              have hl := lv_sub (l' := [(2, .int (2 : Int32)), (0, .ref (za 0))]) hl [0, 2] rfl
              refine lv_goto (tgt := 188) hx hb dX2_mustName_131 (by decide) ?_
              refine lv_iload_n hx hb dX2_mustName_188 rfl (lv_at hl 0 rfl) ?_
              refine lv_tableIn (off := 43) (tgt := 232) hx hb dX2_mustName_189 (by decide) (by decide) rfl (by decide) ?_
              refine lv_aload_n hx hb dX2_mustName_232 rfl (lv_at hl 1 rfl) ?_
              refine lv_iconst (v := (1 : Int32)) hx hb dX2_mustName_233 (by decide) ?_
              have er27 : MX2_fail (1 : Int32) s.2.2.1 = some ((1 : Int32), s.2.2.1) := rfl
              refine k_r0 [0, 1] (va_runV (As := [.int (1 : Int32)]) (rest := []) ⟨hx, hb, hml, hown, hts⟩ (ctX2_fail l D dA _ (za 0) (za 1) (1 : Int32) k9.1 s.1 s.2.1 s.2.2.1 s.2.2.2.1 0 k9.2.1 k9.2.2 (.ref (za 2)) (.ref (za 3)) (zwv (zhs h i2) s.2.2.2.2.1) (.ref (za 4)) (zav (zhs h i2) s.2.2.2.2.2.1) .null .null .null .null .null _ er27) (cwV 1 hts (lw_V q619 q621 qs7 q114 q622) rfl rfl rfl (by decide +kernel) ⟨Nat.le_of_ble_eq_true rfl, Nat.le_of_ble_eq_true rfl⟩) (pre_V (hP.sub [0, 1] rfl) hK (hD.sub [0, 1] (by decide) rfl) (ci := 1) (q0 := 0) rfl rfl) rfl rfl hl.1 rfl (lv_room (Nat.le_of_ble_eq_true rfl)) dX2_mustName_234 ⟨Nat.le_of_ble_eq_true rfl, Nat.le_of_ble_eq_true rfl⟩) hP hD hS hA rfl (fun _ => rfl) (fun u28 H locs hP hD hS => ?_)
              have hP : va_P D clG (zw dA za (k9.1, (1 : Int32), s.2.2.1) tx (zhs h i2) s) H := hP
              have hD : va_D A (zw dA za (k9.1, (1 : Int32), s.2.2.1) tx (zhs h i2) s) := hD
              cases hM
          · rw [if_neg c23] at hM
            by_cases c29 : (hashG (s.2.2.2.2.2.2.2.2.2.2.2.2.2.2.2.2.2.2.2.2.2.2.2.2.2.2.2.2.2.1 i2) (s.2.2.2.2.2.2.2.2.2.2.2.2.2.2.2.2.2.2.2.2.2.2.2.2.2.2.2.2.2.2.1 i2)) = (3645716 : Int32)
            · rw [if_pos c29] at hM
              refine lv_lookup (off := 137) (tgt := 162) hx hb dX2_mustName_25 (by decide) (by rw [show ((hashG (s.2.2.2.2.2.2.2.2.2.2.2.2.2.2.2.2.2.2.2.2.2.2.2.2.2.2.2.2.2.1 i2) (s.2.2.2.2.2.2.2.2.2.2.2.2.2.2.2.2.2.2.2.2.2.2.2.2.2.2.2.2.2.2.1 i2))).toInt = 3645716 by rw [c29]; decide]; decide) (by decide) ?_
              refine lv_aload_n hx hb dX2_mustName_162 rfl (lv_at hl 1 rfl) ?_
              refine va_ldcS hx hb hown (hE.2.2.1 6 (Nat.zero_le _) (by decide)) dX2_mustName_163 ?_
              obtain ⟨h30, hM⟩ := gn_inv hM
              obtain ⟨h31, hM⟩ := gn_inv hM
              have sw_ := sv_world hts hK hP (zw_so h30) (zw_sb h30) rfl rfl (lt_nil (hP _ _ (zw_so h30)).lt) (lt_nil (hP _ _ (zw_sb h30)).lt)
              have sk_ := ev_at sv_ok (hE.2.1 6 (by decide)) hS (ev_nil hA hS)
              have ok_ := ev_at OK_ok hE.1 hS (ev_nil hA hS)
              have ab_ : (zhs h i2).1 i2 = ka 6 → (eqC (s.2.2.2.2.2.2.2.2.2.2.2.2.2.2.2.2.2.2.2.2.2.2.2.2.2.2.2.2.2.1 i2) (s.2.2.2.2.2.2.2.2.2.2.2.2.2.2.2.2.2.2.2.2.2.2.2.2.2.2.2.2.2.2.1 i2) (klen 6) (kby 6)) = 1 := fun h9 => absurd (hD.2 _ _ (zw_so h30)) (by rw [show (scell ((zhs h i2).1 i2) ((zhs h i2).2.1 i2) (s.2.2.2.2.2.2.2.2.2.2.2.2.2.2.2.2.2.2.2.2.2.2.2.2.2.2.2.2.2.1 i2) (s.2.2.2.2.2.2.2.2.2.2.2.2.2.2.2.2.2.2.2.2.2.2.2.2.2.2.2.2.2.2.1 i2) ((zhs h i2).2.2.1 i2)).1 = ka 6 from h9]; obtain ⟨⟨_, _, _, _, hn9⟩, _⟩ := hE.2.1 6 (by decide); exact hn9)
              refine k_i0 [] (va_runV (As := [.ref (ka 6)]) (rest := []) ⟨hx, hb, hml, hown, hts⟩ (ctJ3_equals l D dA _ _ _ _ _ _ _ _ _ (by omega) (klen_lt _) ab_) (cwV 1 hts (lw_V q681 q682 q683 q124 q684) rfl rfl rfl (by decide +kernel) ⟨Nat.le_of_ble_eq_true rfl, Nat.le_of_ble_eq_true rfl⟩) (preX_O (ev2_ok OK_ok (ev2_ok sv_ok sv_ok)) p_nil hK (A := A) d_nil ⟨ok_, sw_, sk_⟩ sw_.1) rfl rfl hl.1 rfl (lv_room (Nat.le_of_ble_eq_true rfl)) dX2_mustName_165 ⟨Nat.le_of_ble_eq_true rfl, Nat.le_of_ble_eq_true rfl⟩) hP hD hS hA rfl (fun _ => rfl) (fun u_ H locs hP hD hS => ?_)
              have hP : va_P D clG (zw dA za k9 tx (zhs h i2) s) H := hP
              have hD : va_D A (zw dA za k9 tx (zhs h i2) s) := hD
              refine lv_if_eq (tgt := 188) hx hb dX2_mustName_168 (by decide) (fun c32 => ?_) (fun c32 => ?_)
              · rw [if_pos c32] at hM
                refine lv_iload_n hx hb dX2_mustName_188 rfl (lv_at hl 0 rfl) ?_
                refine lv_tableOut (tgt := 238) hx hb dX2_mustName_189 (by decide) (by decide) ?_
                have hM := Sum.inr.inj (Option.some.inj hM)
                subst hM
                refine W.widen (k := 0) (n := 0) (Nat.le_of_ble_eq_true rfl) (Nat.le_of_ble_eq_true rfl) ?_
                exact W.vret hx hb hr (fun t ht hW => ⟨⟨(zhs h i2), rfl, (zext_trans zext_rf zext_hs), by rw [ht]; exact hP, hD⟩, hS.F ht⟩) hS.2.2 dX2_mustName_238
              · rw [if_neg c32] at hM
                refine lv_iconst (v := (5 : Int32)) hx hb dX2_mustName_171 (by decide) ?_
                refine lv_istore_n (lv' := [(2, .int (5 : Int32)), (1, .ref ((zhs h i2).1 i2)), (0, .ref (za 0))]) hx hb dX2_mustName_172 rfl hl (by decide) rfl (fun ls hl => ?_)
                have hl := lv_sub (l' := [(2, .int (5 : Int32)), (0, .ref (za 0))]) hl [0, 2] rfl
                refine lv_goto (tgt := 188) hx hb dX2_mustName_173 (by decide) ?_
                refine lv_iload_n hx hb dX2_mustName_188 rfl (lv_at hl 0 rfl) ?_
                refine lv_tableIn (off := 43) (tgt := 232) hx hb dX2_mustName_189 (by decide) (by decide) rfl (by decide) ?_
                refine lv_aload_n hx hb dX2_mustName_232 rfl (lv_at hl 1 rfl) ?_
                refine lv_iconst (v := (1 : Int32)) hx hb dX2_mustName_233 (by decide) ?_
                have er33 : MX2_fail (1 : Int32) s.2.2.1 = some ((1 : Int32), s.2.2.1) := rfl
                refine k_r0 [0, 1] (va_runV (As := [.int (1 : Int32)]) (rest := []) ⟨hx, hb, hml, hown, hts⟩ (ctX2_fail l D dA _ (za 0) (za 1) (1 : Int32) k9.1 s.1 s.2.1 s.2.2.1 s.2.2.2.1 0 k9.2.1 k9.2.2 (.ref (za 2)) (.ref (za 3)) (zwv (zhs h i2) s.2.2.2.2.1) (.ref (za 4)) (zav (zhs h i2) s.2.2.2.2.2.1) .null .null .null .null .null _ er33) (cwV 1 hts (lw_V q619 q621 qs7 q114 q622) rfl rfl rfl (by decide +kernel) ⟨Nat.le_of_ble_eq_true rfl, Nat.le_of_ble_eq_true rfl⟩) (pre_V (hP.sub [0, 1] rfl) hK (hD.sub [0, 1] (by decide) rfl) (ci := 1) (q0 := 0) rfl rfl) rfl rfl hl.1 rfl (lv_room (Nat.le_of_ble_eq_true rfl)) dX2_mustName_234 ⟨Nat.le_of_ble_eq_true rfl, Nat.le_of_ble_eq_true rfl⟩) hP hD hS hA rfl (fun _ => rfl) (fun u34 H locs hP hD hS => ?_)
                have hP : va_P D clG (zw dA za (k9.1, (1 : Int32), s.2.2.1) tx (zhs h i2) s) H := hP
                have hD : va_D A (zw dA za (k9.1, (1 : Int32), s.2.2.1) tx (zhs h i2) s) := hD
                cases hM
            · rw [if_neg c29] at hM
              by_cases c35 : (hashG (s.2.2.2.2.2.2.2.2.2.2.2.2.2.2.2.2.2.2.2.2.2.2.2.2.2.2.2.2.2.1 i2) (s.2.2.2.2.2.2.2.2.2.2.2.2.2.2.2.2.2.2.2.2.2.2.2.2.2.2.2.2.2.2.1 i2)) = (93113560 : Int32)
              · rw [if_pos c35] at hM
                refine lv_lookup (off := 109) (tgt := 134) hx hb dX2_mustName_25 (by decide) (by rw [show ((hashG (s.2.2.2.2.2.2.2.2.2.2.2.2.2.2.2.2.2.2.2.2.2.2.2.2.2.2.2.2.2.1 i2) (s.2.2.2.2.2.2.2.2.2.2.2.2.2.2.2.2.2.2.2.2.2.2.2.2.2.2.2.2.2.2.1 i2))).toInt = 93113560 by rw [c35]; decide]; decide) (by decide) ?_
                refine lv_aload_n hx hb dX2_mustName_134 rfl (lv_at hl 1 rfl) ?_
                refine va_ldcS hx hb hown (hE.2.2.1 4 (Nat.zero_le _) (by decide)) dX2_mustName_135 ?_
                obtain ⟨h36, hM⟩ := gn_inv hM
                obtain ⟨h37, hM⟩ := gn_inv hM
                have sw_ := sv_world hts hK hP (zw_so h36) (zw_sb h36) rfl rfl (lt_nil (hP _ _ (zw_so h36)).lt) (lt_nil (hP _ _ (zw_sb h36)).lt)
                have sk_ := ev_at sv_ok (hE.2.1 4 (by decide)) hS (ev_nil hA hS)
                have ok_ := ev_at OK_ok hE.1 hS (ev_nil hA hS)
                have ab_ : (zhs h i2).1 i2 = ka 4 → (eqC (s.2.2.2.2.2.2.2.2.2.2.2.2.2.2.2.2.2.2.2.2.2.2.2.2.2.2.2.2.2.1 i2) (s.2.2.2.2.2.2.2.2.2.2.2.2.2.2.2.2.2.2.2.2.2.2.2.2.2.2.2.2.2.2.1 i2) (klen 4) (kby 4)) = 1 := fun h9 => absurd (hD.2 _ _ (zw_so h36)) (by rw [show (scell ((zhs h i2).1 i2) ((zhs h i2).2.1 i2) (s.2.2.2.2.2.2.2.2.2.2.2.2.2.2.2.2.2.2.2.2.2.2.2.2.2.2.2.2.2.1 i2) (s.2.2.2.2.2.2.2.2.2.2.2.2.2.2.2.2.2.2.2.2.2.2.2.2.2.2.2.2.2.2.1 i2) ((zhs h i2).2.2.1 i2)).1 = ka 4 from h9]; obtain ⟨⟨_, _, _, _, hn9⟩, _⟩ := hE.2.1 4 (by decide); exact hn9)
                refine k_i0 [] (va_runV (As := [.ref (ka 4)]) (rest := []) ⟨hx, hb, hml, hown, hts⟩ (ctJ3_equals l D dA _ _ _ _ _ _ _ _ _ (by omega) (klen_lt _) ab_) (cwV 1 hts (lw_V q681 q682 q683 q124 q684) rfl rfl rfl (by decide +kernel) ⟨Nat.le_of_ble_eq_true rfl, Nat.le_of_ble_eq_true rfl⟩) (preX_O (ev2_ok OK_ok (ev2_ok sv_ok sv_ok)) p_nil hK (A := A) d_nil ⟨ok_, sw_, sk_⟩ sw_.1) rfl rfl hl.1 rfl (lv_room (Nat.le_of_ble_eq_true rfl)) dX2_mustName_137 ⟨Nat.le_of_ble_eq_true rfl, Nat.le_of_ble_eq_true rfl⟩) hP hD hS hA rfl (fun _ => rfl) (fun u_ H locs hP hD hS => ?_)
                have hP : va_P D clG (zw dA za k9 tx (zhs h i2) s) H := hP
                have hD : va_D A (zw dA za k9 tx (zhs h i2) s) := hD
                refine lv_if_eq (tgt := 188) hx hb dX2_mustName_140 (by decide) (fun c38 => ?_) (fun c38 => ?_)
                · rw [if_pos c38] at hM
                  refine lv_iload_n hx hb dX2_mustName_188 rfl (lv_at hl 0 rfl) ?_
                  refine lv_tableOut (tgt := 238) hx hb dX2_mustName_189 (by decide) (by decide) ?_
                  have hM := Sum.inr.inj (Option.some.inj hM)
                  subst hM
                  refine W.widen (k := 0) (n := 0) (Nat.le_of_ble_eq_true rfl) (Nat.le_of_ble_eq_true rfl) ?_
                  exact W.vret hx hb hr (fun t ht hW => ⟨⟨(zhs h i2), rfl, (zext_trans zext_rf zext_hs), by rw [ht]; exact hP, hD⟩, hS.F ht⟩) hS.2.2 dX2_mustName_238
                · rw [if_neg c38] at hM
                  refine lv_iconst (v := (3 : Int32)) hx hb dX2_mustName_143 (by decide) ?_
                  refine lv_istore_n (lv' := [(2, .int (3 : Int32)), (1, .ref ((zhs h i2).1 i2)), (0, .ref (za 0))]) hx hb dX2_mustName_144 rfl hl (by decide) rfl (fun ls hl => ?_)
                  have hl := lv_sub (l' := [(2, .int (3 : Int32)), (0, .ref (za 0))]) hl [0, 2] rfl
                  refine lv_goto (tgt := 188) hx hb dX2_mustName_145 (by decide) ?_
                  refine lv_iload_n hx hb dX2_mustName_188 rfl (lv_at hl 0 rfl) ?_
                  refine lv_tableIn (off := 43) (tgt := 232) hx hb dX2_mustName_189 (by decide) (by decide) rfl (by decide) ?_
                  refine lv_aload_n hx hb dX2_mustName_232 rfl (lv_at hl 1 rfl) ?_
                  refine lv_iconst (v := (1 : Int32)) hx hb dX2_mustName_233 (by decide) ?_
                  have er39 : MX2_fail (1 : Int32) s.2.2.1 = some ((1 : Int32), s.2.2.1) := rfl
                  refine k_r0 [0, 1] (va_runV (As := [.int (1 : Int32)]) (rest := []) ⟨hx, hb, hml, hown, hts⟩ (ctX2_fail l D dA _ (za 0) (za 1) (1 : Int32) k9.1 s.1 s.2.1 s.2.2.1 s.2.2.2.1 0 k9.2.1 k9.2.2 (.ref (za 2)) (.ref (za 3)) (zwv (zhs h i2) s.2.2.2.2.1) (.ref (za 4)) (zav (zhs h i2) s.2.2.2.2.2.1) .null .null .null .null .null _ er39) (cwV 1 hts (lw_V q619 q621 qs7 q114 q622) rfl rfl rfl (by decide +kernel) ⟨Nat.le_of_ble_eq_true rfl, Nat.le_of_ble_eq_true rfl⟩) (pre_V (hP.sub [0, 1] rfl) hK (hD.sub [0, 1] (by decide) rfl) (ci := 1) (q0 := 0) rfl rfl) rfl rfl hl.1 rfl (lv_room (Nat.le_of_ble_eq_true rfl)) dX2_mustName_234 ⟨Nat.le_of_ble_eq_true rfl, Nat.le_of_ble_eq_true rfl⟩) hP hD hS hA rfl (fun _ => rfl) (fun u40 H locs hP hD hS => ?_)
                  have hP : va_P D clG (zw dA za (k9.1, (1 : Int32), s.2.2.1) tx (zhs h i2) s) H := hP
                  have hD : va_D A (zw dA za (k9.1, (1 : Int32), s.2.2.1) tx (zhs h i2) s) := hD
                  cases hM
              · rw [if_neg c35] at hM
                by_cases c41 : (hashG (s.2.2.2.2.2.2.2.2.2.2.2.2.2.2.2.2.2.2.2.2.2.2.2.2.2.2.2.2.2.1 i2) (s.2.2.2.2.2.2.2.2.2.2.2.2.2.2.2.2.2.2.2.2.2.2.2.2.2.2.2.2.2.2.1 i2)) = (99151926 : Int32)
                · rw [if_pos c41] at hM
                  refine lv_lookup (off := 123) (tgt := 148) hx hb dX2_mustName_25 (by decide) (by rw [show ((hashG (s.2.2.2.2.2.2.2.2.2.2.2.2.2.2.2.2.2.2.2.2.2.2.2.2.2.2.2.2.2.1 i2) (s.2.2.2.2.2.2.2.2.2.2.2.2.2.2.2.2.2.2.2.2.2.2.2.2.2.2.2.2.2.2.1 i2))).toInt = 99151926 by rw [c41]; decide]; decide) (by decide) ?_
                  refine lv_aload_n hx hb dX2_mustName_148 rfl (lv_at hl 1 rfl) ?_
                  refine va_ldcS hx hb hown (hE.2.2.1 5 (Nat.zero_le _) (by decide)) dX2_mustName_149 ?_
                  obtain ⟨h42, hM⟩ := gn_inv hM
                  obtain ⟨h43, hM⟩ := gn_inv hM
                  have sw_ := sv_world hts hK hP (zw_so h42) (zw_sb h42) rfl rfl (lt_nil (hP _ _ (zw_so h42)).lt) (lt_nil (hP _ _ (zw_sb h42)).lt)
                  have sk_ := ev_at sv_ok (hE.2.1 5 (by decide)) hS (ev_nil hA hS)
                  have ok_ := ev_at OK_ok hE.1 hS (ev_nil hA hS)
                  have ab_ : (zhs h i2).1 i2 = ka 5 → (eqC (s.2.2.2.2.2.2.2.2.2.2.2.2.2.2.2.2.2.2.2.2.2.2.2.2.2.2.2.2.2.1 i2) (s.2.2.2.2.2.2.2.2.2.2.2.2.2.2.2.2.2.2.2.2.2.2.2.2.2.2.2.2.2.2.1 i2) (klen 5) (kby 5)) = 1 := fun h9 => absurd (hD.2 _ _ (zw_so h42)) (by rw [show (scell ((zhs h i2).1 i2) ((zhs h i2).2.1 i2) (s.2.2.2.2.2.2.2.2.2.2.2.2.2.2.2.2.2.2.2.2.2.2.2.2.2.2.2.2.2.1 i2) (s.2.2.2.2.2.2.2.2.2.2.2.2.2.2.2.2.2.2.2.2.2.2.2.2.2.2.2.2.2.2.1 i2) ((zhs h i2).2.2.1 i2)).1 = ka 5 from h9]; obtain ⟨⟨_, _, _, _, hn9⟩, _⟩ := hE.2.1 5 (by decide); exact hn9)
                  refine k_i0 [] (va_runV (As := [.ref (ka 5)]) (rest := []) ⟨hx, hb, hml, hown, hts⟩ (ctJ3_equals l D dA _ _ _ _ _ _ _ _ _ (by omega) (klen_lt _) ab_) (cwV 1 hts (lw_V q681 q682 q683 q124 q684) rfl rfl rfl (by decide +kernel) ⟨Nat.le_of_ble_eq_true rfl, Nat.le_of_ble_eq_true rfl⟩) (preX_O (ev2_ok OK_ok (ev2_ok sv_ok sv_ok)) p_nil hK (A := A) d_nil ⟨ok_, sw_, sk_⟩ sw_.1) rfl rfl hl.1 rfl (lv_room (Nat.le_of_ble_eq_true rfl)) dX2_mustName_151 ⟨Nat.le_of_ble_eq_true rfl, Nat.le_of_ble_eq_true rfl⟩) hP hD hS hA rfl (fun _ => rfl) (fun u_ H locs hP hD hS => ?_)
                  have hP : va_P D clG (zw dA za k9 tx (zhs h i2) s) H := hP
                  have hD : va_D A (zw dA za k9 tx (zhs h i2) s) := hD
                  refine lv_if_eq (tgt := 188) hx hb dX2_mustName_154 (by decide) (fun c44 => ?_) (fun c44 => ?_)
                  · rw [if_pos c44] at hM
                    refine lv_iload_n hx hb dX2_mustName_188 rfl (lv_at hl 0 rfl) ?_
                    refine lv_tableOut (tgt := 238) hx hb dX2_mustName_189 (by decide) (by decide) ?_
                    have hM := Sum.inr.inj (Option.some.inj hM)
                    subst hM
                    refine W.widen (k := 0) (n := 0) (Nat.le_of_ble_eq_true rfl) (Nat.le_of_ble_eq_true rfl) ?_
                    exact W.vret hx hb hr (fun t ht hW => ⟨⟨(zhs h i2), rfl, (zext_trans zext_rf zext_hs), by rw [ht]; exact hP, hD⟩, hS.F ht⟩) hS.2.2 dX2_mustName_238
                  · rw [if_neg c44] at hM
                    refine lv_iconst (v := (4 : Int32)) hx hb dX2_mustName_157 (by decide) ?_
                    refine lv_istore_n (lv' := [(2, .int (4 : Int32)), (1, .ref ((zhs h i2).1 i2)), (0, .ref (za 0))]) hx hb dX2_mustName_158 rfl hl (by decide) rfl (fun ls hl => ?_)
                    have hl := lv_sub (l' := [(2, .int (4 : Int32)), (0, .ref (za 0))]) hl [0, 2] rfl
                    refine lv_goto (tgt := 188) hx hb dX2_mustName_159 (by decide) ?_
                    refine lv_iload_n hx hb dX2_mustName_188 rfl (lv_at hl 0 rfl) ?_
                    refine lv_tableIn (off := 43) (tgt := 232) hx hb dX2_mustName_189 (by decide) (by decide) rfl (by decide) ?_
                    refine lv_aload_n hx hb dX2_mustName_232 rfl (lv_at hl 1 rfl) ?_
                    refine lv_iconst (v := (1 : Int32)) hx hb dX2_mustName_233 (by decide) ?_
                    have er45 : MX2_fail (1 : Int32) s.2.2.1 = some ((1 : Int32), s.2.2.1) := rfl
                    refine k_r0 [0, 1] (va_runV (As := [.int (1 : Int32)]) (rest := []) ⟨hx, hb, hml, hown, hts⟩ (ctX2_fail l D dA _ (za 0) (za 1) (1 : Int32) k9.1 s.1 s.2.1 s.2.2.1 s.2.2.2.1 0 k9.2.1 k9.2.2 (.ref (za 2)) (.ref (za 3)) (zwv (zhs h i2) s.2.2.2.2.1) (.ref (za 4)) (zav (zhs h i2) s.2.2.2.2.2.1) .null .null .null .null .null _ er45) (cwV 1 hts (lw_V q619 q621 qs7 q114 q622) rfl rfl rfl (by decide +kernel) ⟨Nat.le_of_ble_eq_true rfl, Nat.le_of_ble_eq_true rfl⟩) (pre_V (hP.sub [0, 1] rfl) hK (hD.sub [0, 1] (by decide) rfl) (ci := 1) (q0 := 0) rfl rfl) rfl rfl hl.1 rfl (lv_room (Nat.le_of_ble_eq_true rfl)) dX2_mustName_234 ⟨Nat.le_of_ble_eq_true rfl, Nat.le_of_ble_eq_true rfl⟩) hP hD hS hA rfl (fun _ => rfl) (fun u46 H locs hP hD hS => ?_)
                    have hP : va_P D clG (zw dA za (k9.1, (1 : Int32), s.2.2.1) tx (zhs h i2) s) H := hP
                    have hD : va_D A (zw dA za (k9.1, (1 : Int32), s.2.2.1) tx (zhs h i2) s) := hD
                    cases hM
                · rw [if_neg c41] at hM
                  refine lv_lookup (off := 163) (tgt := 188) hx hb dX2_mustName_25 (by decide) (by show Op.lookupswitch.offset [(-991716523, 81), (98262, 151), (3053931, 67), (3377192, 95), (3645716, 137), (93113560, 109), (99151926, 123)] _ _ = _; rw [lv_osw (k := (-991716523 : Int32)) c5 (by decide), lv_osw (k := (98262 : Int32)) c11 (by decide), lv_osw (k := (3053931 : Int32)) c17 (by decide), lv_osw (k := (3377192 : Int32)) c23 (by decide), lv_osw (k := (3645716 : Int32)) c29 (by decide), lv_osw (k := (93113560 : Int32)) c35 (by decide), lv_osw (k := (99151926 : Int32)) c41 (by decide)]; rfl) (by decide) ?_
                  refine lv_iload_n hx hb dX2_mustName_188 rfl (lv_at hl 0 rfl) ?_
                  refine lv_tableOut (tgt := 238) hx hb dX2_mustName_189 (by decide) (by decide) ?_
                  have hM := Sum.inr.inj (Option.some.inj hM)
                  subst hM
                  refine W.widen (k := 0) (n := 0) (Nat.le_of_ble_eq_true rfl) (Nat.le_of_ble_eq_true rfl) ?_
                  exact W.vret hx hb hr (fun t ht hW => ⟨⟨(zhs h i2), rfl, (zext_trans zext_rf zext_hs), by rw [ht]; exact hP, hD⟩, hS.F ht⟩) hS.2.2 dX2_mustName_238
  · rw [if_neg c1] at hM
    refine lv_aload_n hx hb dX2_mustName_8 rfl (lv_at hl 0 rfl) ?_
    refine lv_iconst (v := (1 : Int32)) hx hb dX2_mustName_9 (by decide) ?_
    have er47 : MX2_fail (1 : Int32) s.2.2.1 = some ((1 : Int32), s.2.2.1) := rfl
    refine k_r0 [0, 1] (va_runV (As := [.int (1 : Int32)]) (rest := []) ⟨hx, hb, hml, hown, hts⟩ (ctX2_fail l D dA _ (za 0) (za 1) (1 : Int32) k9.1 s.1 s.2.1 s.2.2.1 s.2.2.2.1 0 k9.2.1 k9.2.2 (.ref (za 2)) (.ref (za 3)) (zwv h s.2.2.2.2.1) (.ref (za 4)) (zav h s.2.2.2.2.2.1) .null .null .null .null .null _ er47) (cwV 1 hts (lw_V q619 q621 qs7 q114 q622) rfl rfl rfl (by decide +kernel) ⟨Nat.le_of_ble_eq_true rfl, Nat.le_of_ble_eq_true rfl⟩) (pre_V (hP.sub [0, 1] rfl) hK (hD.sub [0, 1] (by decide) rfl) (ci := 1) (q0 := 0) rfl rfl) rfl rfl hl.1 rfl (lv_room (Nat.le_of_ble_eq_true rfl)) dX2_mustName_10 ⟨Nat.le_of_ble_eq_true rfl, Nat.le_of_ble_eq_true rfl⟩) hP hD hS hA rfl (fun _ => rfl) (fun u48 H locs hP hD hS => ?_)
    have hP : va_P D clG (zw dA za (k9.1, (1 : Int32), s.2.2.1) tx h s) H := hP
    have hD : va_D A (zw dA za (k9.1, (1 : Int32), s.2.2.1) tx h s) := hD
    cases hM
set_option maxHeartbeats 40000000 in
theorem ceZ_mustName (l : Launch) (D : va_G) (dA : Nat → ClassId) (sz : Nat) (za : Nat → Nat) (h : ZH) (tx : AI) (k9 : Int32 × Int32 × Int32) (ka kv : Nat → Nat) (s : ZS) (er : Int32 × Int32) (hM : MZ_mustName tx k9.1 s = some (.inl er)) : vy_Met l yX2_mustName (ws_ yX2_mustName cX2_mustName 3 none) ({ frames := 5, cells := 0, slots := 0, locals := 241 }) (preX D dA (ZE ka kv) [.ref (za 0)] (zw dA za k9 tx h s) sz) (fun _ _ _ _ => False) (zQ D dA za tx er (va_A (zw dA za k9 tx h s) sz)) 0 0 (va_A (zw dA za k9 tx h s) sz) := by
  refine vy_ofW (cc := cX2_mustName) (maxL := 3) (ret := none) (by decide) rfl ?_
  intro p e s0 m args below meth c s₁ B hml hout hv
  obtain ⟨rfl, hsz, hP, hK, hD0, hE⟩ := hv
  have hx := B.exec
  have hb := B.bytes
  have hr := B.returns
  have hts := atoms_spec (ws := (ws_ yX2_mustName cX2_mustName 3 none)) B.pre
  have hts : ∀ w ∈ lw_all, w.before _ s0 = true := fun w h => hts w (List.mem_cons_of_mem _ h)
  have hown : s0.vm.findClass RX2 = some m.cls := findClass_of_methodNamed B.named
  have hlocks := B.notSynchronized
  subst hsz
  have hD := hD0.self (sz := s0.heap.size)
  generalize hAe : va_A (zw dA za k9 tx h s) s0.heap.size = A at hD hE ⊢
  have hA : ∀ q : Nat, s0.heap.size ≤ q → A q := fun q h => by rw [← hAe]; exact Or.inr h
  have hS : va_S A s0.heap s0.heap [] := va_S.rf
  have hl := lv_entry ([.ref (za 0)]) (n := 3) (Nat.le_of_ble_eq_true rfl)
  rw [lg_entry_eq]
  generalize (lg_sl ([.ref (za 0)]) ++ List.replicate (3 - (lg_sl ([.ref (za 0)])).length) Slot.unset).toArray = ls at hl ⊢
  have hl : lv_has ls 3 [(0, .ref (za 0))] := hl
  unfold MZ_mustName at hM
  refine lv_aload_n hx hb dX2_mustName_0 rfl (lv_at hl 0 rfl) ?_
  refine va_get (D := D) (ci := 1) (v := .int s.2.1) (C := RX2) (T := TX2) (N := 11) hx hb hts in_X2 hown hK.1 hP 0 rfl rfl 5 (by decide) (hts _ q231) (fun _ h9 => h9) rfl dX2_mustName_1 ?_
  refine lv_iconst (v := (2 : Int32)) hx hb dX2_mustName_4 (by decide) ?_
  refine lv_icmp_eq (tgt := 14) hx hb dX2_mustName_5 (by decide) (fun c1 => ?_) (fun c1 => ?_)
  · rw [if_pos c1] at hM
    refine lv_aload_n hx hb dX2_mustName_14 rfl (lv_at hl 0 rfl) ?_
    obtain ⟨i2, ei2, hM⟩ := b_inv hM
    obtain ⟨hi2, hM⟩ := gn_inv hM
    refine va_get (D := D) (ci := 1) (v := (zwv h s.2.2.2.2.1)) (C := RX2) (T := TX2) (N := 11) hx hb hts in_X2 hown hK.1 hP 0 rfl rfl 8 (by decide) (hts _ q234) (fun _ h9 => h9) rfl dX2_mustName_15 ?_
    refine lv_tor (v := .ref (h.1 i2)) (zwv_some ei2) ?_
    refine lv_astore_n (lv' := [(1, .ref (h.1 i2)), (0, .ref (za 0))]) hx hb dX2_mustName_18 rfl hl (by decide) rfl (fun ls hl => ?_)
    refine lv_iconst (v := (-1 : Int32)) hx hb dX2_mustName_19 (by decide) ?_
    refine lv_istore_n (lv' := [(2, .int (-1 : Int32)), (1, .ref (h.1 i2)), (0, .ref (za 0))]) hx hb dX2_mustName_20 rfl hl (by decide) rfl (fun ls hl => ?_)
    refine lv_aload_n hx hb dX2_mustName_21 rfl (lv_at hl 1 rfl) ?_
    obtain ⟨h3, hM⟩ := gn_inv hM
    obtain ⟨h4, hM⟩ := gn_inv hM
    have hC_ : [11 + i2, 11 + s.2.2.2.2.2.2.2.2.2.2.2.2.2.2.2.2.2.2.2.2.2.2.2.2.2.2.2.2.1 + i2].map (fun k_ => (zw dA za k9 tx h s)[k_]?) = ([scell (h.1 i2) (h.2.1 i2) (s.2.2.2.2.2.2.2.2.2.2.2.2.2.2.2.2.2.2.2.2.2.2.2.2.2.2.2.2.2.1 i2) (s.2.2.2.2.2.2.2.2.2.2.2.2.2.2.2.2.2.2.2.2.2.2.2.2.2.2.2.2.2.2.1 i2) (h.2.2.1 i2), bcell dA (h.2.1 i2) (s.2.2.2.2.2.2.2.2.2.2.2.2.2.2.2.2.2.2.2.2.2.2.2.2.2.2.2.2.2.1 i2) (s.2.2.2.2.2.2.2.2.2.2.2.2.2.2.2.2.2.2.2.2.2.2.2.2.2.2.2.2.2.2.1 i2)] : va_W).map some := by rw [List.map_cons, List.map_cons, List.map_nil, zw_so h3, zw_sb h3]; rfl
    have hP2 : va_P D clG [scell (h.1 i2) (h.2.1 i2) (s.2.2.2.2.2.2.2.2.2.2.2.2.2.2.2.2.2.2.2.2.2.2.2.2.2.2.2.2.2.1 i2) (s.2.2.2.2.2.2.2.2.2.2.2.2.2.2.2.2.2.2.2.2.2.2.2.2.2.2.2.2.2.2.1 i2) (h.2.2.1 i2), bcell dA (h.2.1 i2) (s.2.2.2.2.2.2.2.2.2.2.2.2.2.2.2.2.2.2.2.2.2.2.2.2.2.2.2.2.2.1 i2) (s.2.2.2.2.2.2.2.2.2.2.2.2.2.2.2.2.2.2.2.2.2.2.2.2.2.2.2.2.2.2.1 i2)] _ := pair_P (hP _ _ (zw_so h3)) (hP _ _ (zw_sb h3))
    have hD2 : va_D A [scell (h.1 i2) (h.2.1 i2) (s.2.2.2.2.2.2.2.2.2.2.2.2.2.2.2.2.2.2.2.2.2.2.2.2.2.2.2.2.2.1 i2) (s.2.2.2.2.2.2.2.2.2.2.2.2.2.2.2.2.2.2.2.2.2.2.2.2.2.2.2.2.2.2.1 i2) (h.2.2.1 i2), bcell dA (h.2.1 i2) (s.2.2.2.2.2.2.2.2.2.2.2.2.2.2.2.2.2.2.2.2.2.2.2.2.2.2.2.2.2.1 i2) (s.2.2.2.2.2.2.2.2.2.2.2.2.2.2.2.2.2.2.2.2.2.2.2.2.2.2.2.2.2.2.1 i2)] := hD.sub [11 + i2, 11 + s.2.2.2.2.2.2.2.2.2.2.2.2.2.2.2.2.2.2.2.2.2.2.2.2.2.2.2.2.1 + i2] (nd2 (by omega)) hC_
    have ok_ := ev_at OK_ok hE.1 hS (w_free hD2 hS hA)
    refine k_i0 [11 + i2, 11 + s.2.2.2.2.2.2.2.2.2.2.2.2.2.2.2.2.2.2.2.2.2.2.2.2.2.2.2.2.1 + i2] (va_runV (As := []) (rest := []) ⟨hx, hb, hml, hown, hts⟩ (ctJ3_hashCode l D dA _ _ _ _ _ _ (by omega)) (cwV 0 hts (lw_V q627 q628 q629 q124 q630) rfl rfl rfl (by decide +kernel) ⟨Nat.le_of_ble_eq_true rfl, Nat.le_of_ble_eq_true rfl⟩) (preX_V OK_ok hP2 hK hD2 ok_ hP2 (ci := 13) (q0 := 0) rfl rfl) rfl rfl hl.1 rfl (lv_room (Nat.le_of_ble_eq_true rfl)) dX2_mustName_22 ⟨Nat.le_of_ble_eq_true rfl, Nat.le_of_ble_eq_true rfl⟩) hP hD hS hA hC_ (fun _ => rfl) (fun u_ H locs hP hD hS => ?_)
    rw [zw_hash h3] at hP hD
    have hl : lv_has ls 3 [(2, .int (-1 : Int32)), (1, .ref ((zhs h i2).1 i2)), (0, .ref (za 0))] := hl
    by_cases c5 : (hashG (s.2.2.2.2.2.2.2.2.2.2.2.2.2.2.2.2.2.2.2.2.2.2.2.2.2.2.2.2.2.1 i2) (s.2.2.2.2.2.2.2.2.2.2.2.2.2.2.2.2.2.2.2.2.2.2.2.2.2.2.2.2.2.2.1 i2)) = (-991716523 : Int32)
    · rw [if_pos c5] at hM
      refine lv_lookup (off := 81) (tgt := 106) hx hb dX2_mustName_25 (by decide) (by rw [show ((hashG (s.2.2.2.2.2.2.2.2.2.2.2.2.2.2.2.2.2.2.2.2.2.2.2.2.2.2.2.2.2.1 i2) (s.2.2.2.2.2.2.2.2.2.2.2.2.2.2.2.2.2.2.2.2.2.2.2.2.2.2.2.2.2.2.1 i2))).toInt = -991716523 by rw [c5]; decide]; decide) (by decide) ?_
      refine lv_aload_n hx hb dX2_mustName_106 rfl (lv_at hl 1 rfl) ?_
      refine va_ldcS hx hb hown (hE.2.2.1 2 (Nat.zero_le _) (by decide)) dX2_mustName_107 ?_
      obtain ⟨h6, hM⟩ := gn_inv hM
      obtain ⟨h7, hM⟩ := gn_inv hM
      have sw_ := sv_world hts hK hP (zw_so h6) (zw_sb h6) rfl rfl (lt_nil (hP _ _ (zw_so h6)).lt) (lt_nil (hP _ _ (zw_sb h6)).lt)
      have sk_ := ev_at sv_ok (hE.2.1 2 (by decide)) hS (ev_nil hA hS)
      have ok_ := ev_at OK_ok hE.1 hS (ev_nil hA hS)
      have ab_ : (zhs h i2).1 i2 = ka 2 → (eqC (s.2.2.2.2.2.2.2.2.2.2.2.2.2.2.2.2.2.2.2.2.2.2.2.2.2.2.2.2.2.1 i2) (s.2.2.2.2.2.2.2.2.2.2.2.2.2.2.2.2.2.2.2.2.2.2.2.2.2.2.2.2.2.2.1 i2) (klen 2) (kby 2)) = 1 := fun h9 => absurd (hD.2 _ _ (zw_so h6)) (by rw [show (scell ((zhs h i2).1 i2) ((zhs h i2).2.1 i2) (s.2.2.2.2.2.2.2.2.2.2.2.2.2.2.2.2.2.2.2.2.2.2.2.2.2.2.2.2.2.1 i2) (s.2.2.2.2.2.2.2.2.2.2.2.2.2.2.2.2.2.2.2.2.2.2.2.2.2.2.2.2.2.2.1 i2) ((zhs h i2).2.2.1 i2)).1 = ka 2 from h9]; obtain ⟨⟨_, _, _, _, hn9⟩, _⟩ := hE.2.1 2 (by decide); exact hn9)
      refine k_i0 [] (va_runV (As := [.ref (ka 2)]) (rest := []) ⟨hx, hb, hml, hown, hts⟩ (ctJ3_equals l D dA _ _ _ _ _ _ _ _ _ (by omega) (klen_lt _) ab_) (cwV 1 hts (lw_V q681 q682 q683 q124 q684) rfl rfl rfl (by decide +kernel) ⟨Nat.le_of_ble_eq_true rfl, Nat.le_of_ble_eq_true rfl⟩) (preX_O (ev2_ok OK_ok (ev2_ok sv_ok sv_ok)) p_nil hK (A := A) d_nil ⟨ok_, sw_, sk_⟩ sw_.1) rfl rfl hl.1 rfl (lv_room (Nat.le_of_ble_eq_true rfl)) dX2_mustName_109 ⟨Nat.le_of_ble_eq_true rfl, Nat.le_of_ble_eq_true rfl⟩) hP hD hS hA rfl (fun _ => rfl) (fun u_ H locs hP hD hS => ?_)
      have hP : va_P D clG (zw dA za k9 tx (zhs h i2) s) H := hP
      have hD : va_D A (zw dA za k9 tx (zhs h i2) s) := hD
      refine lv_if_eq (tgt := 188) hx hb dX2_mustName_112 (by decide) (fun c8 => ?_) (fun c8 => ?_)
      · rw [if_pos c8] at hM
        refine lv_iload_n hx hb dX2_mustName_188 rfl (lv_at hl 0 rfl) ?_
        refine lv_tableOut (tgt := 238) hx hb dX2_mustName_189 (by decide) (by decide) ?_
        cases hM
      · rw [if_neg c8] at hM
        refine lv_iconst (v := (1 : Int32)) hx hb dX2_mustName_115 (by decide) ?_
        refine lv_istore_n (lv' := [(2, .int (1 : Int32)), (1, .ref ((zhs h i2).1 i2)), (0, .ref (za 0))]) hx hb dX2_mustName_116 rfl hl (by decide) rfl (fun ls hl => ?_)
        have hl := lv_sub (l' := [(2, .int (1 : Int32)), (0, .ref (za 0))]) hl [0, 2] rfl
        refine lv_goto (tgt := 188) hx hb dX2_mustName_117 (by decide) ?_
        refine lv_iload_n hx hb dX2_mustName_188 rfl (lv_at hl 0 rfl) ?_
        refine lv_tableIn (off := 43) (tgt := 232) hx hb dX2_mustName_189 (by decide) (by decide) rfl (by decide) ?_
        refine lv_aload_n hx hb dX2_mustName_232 rfl (lv_at hl 1 rfl) ?_
        refine lv_iconst (v := (1 : Int32)) hx hb dX2_mustName_233 (by decide) ?_
        have er9 : MX2_fail (1 : Int32) s.2.2.1 = some ((1 : Int32), s.2.2.1) := rfl
        refine k_r0 [0, 1] (va_runV (As := [.int (1 : Int32)]) (rest := []) ⟨hx, hb, hml, hown, hts⟩ (ctX2_fail l D dA _ (za 0) (za 1) (1 : Int32) k9.1 s.1 s.2.1 s.2.2.1 s.2.2.2.1 0 k9.2.1 k9.2.2 (.ref (za 2)) (.ref (za 3)) (zwv (zhs h i2) s.2.2.2.2.1) (.ref (za 4)) (zav (zhs h i2) s.2.2.2.2.2.1) .null .null .null .null .null _ er9) (cwV 1 hts (lw_V q619 q621 qs7 q114 q622) rfl rfl rfl (by decide +kernel) ⟨Nat.le_of_ble_eq_true rfl, Nat.le_of_ble_eq_true rfl⟩) (pre_V (hP.sub [0, 1] rfl) hK (hD.sub [0, 1] (by decide) rfl) (ci := 1) (q0 := 0) rfl rfl) rfl rfl hl.1 rfl (lv_room (Nat.le_of_ble_eq_true rfl)) dX2_mustName_234 ⟨Nat.le_of_ble_eq_true rfl, Nat.le_of_ble_eq_true rfl⟩) hP hD hS hA rfl (fun _ => rfl) (fun u10 H locs hP hD hS => ?_)
        have hP : va_P D clG (zw dA za (k9.1, (1 : Int32), s.2.2.1) tx (zhs h i2) s) H := hP
        have hD : va_D A (zw dA za (k9.1, (1 : Int32), s.2.2.1) tx (zhs h i2) s) := hD
        have hM := Sum.inl.inj (Option.some.inj hM)
        subst hM
        exact z_throw hx hb dX2_mustName_237 hK hP hD hS hout hlocks rfl (Nat.le_of_ble_eq_true rfl) (Nat.le_of_ble_eq_true rfl)
    · rw [if_neg c5] at hM
      by_cases c11 : (hashG (s.2.2.2.2.2.2.2.2.2.2.2.2.2.2.2.2.2.2.2.2.2.2.2.2.2.2.2.2.2.1 i2) (s.2.2.2.2.2.2.2.2.2.2.2.2.2.2.2.2.2.2.2.2.2.2.2.2.2.2.2.2.2.2.1 i2)) = (98262 : Int32)
      · rw [if_pos c11] at hM
        refine lv_lookup (off := 151) (tgt := 176) hx hb dX2_mustName_25 (by decide) (by rw [show ((hashG (s.2.2.2.2.2.2.2.2.2.2.2.2.2.2.2.2.2.2.2.2.2.2.2.2.2.2.2.2.2.1 i2) (s.2.2.2.2.2.2.2.2.2.2.2.2.2.2.2.2.2.2.2.2.2.2.2.2.2.2.2.2.2.2.1 i2))).toInt = 98262 by rw [c11]; decide]; decide) (by decide) ?_
        refine lv_aload_n hx hb dX2_mustName_176 rfl (lv_at hl 1 rfl) ?_
        refine va_ldcS hx hb hown (hE.2.2.1 9 (Nat.zero_le _) (by decide)) dX2_mustName_177 ?_
        obtain ⟨h12, hM⟩ := gn_inv hM
        obtain ⟨h13, hM⟩ := gn_inv hM
        have sw_ := sv_world hts hK hP (zw_so h12) (zw_sb h12) rfl rfl (lt_nil (hP _ _ (zw_so h12)).lt) (lt_nil (hP _ _ (zw_sb h12)).lt)
        have sk_ := ev_at sv_ok (hE.2.1 9 (by decide)) hS (ev_nil hA hS)
        have ok_ := ev_at OK_ok hE.1 hS (ev_nil hA hS)
        have ab_ : (zhs h i2).1 i2 = ka 9 → (eqC (s.2.2.2.2.2.2.2.2.2.2.2.2.2.2.2.2.2.2.2.2.2.2.2.2.2.2.2.2.2.1 i2) (s.2.2.2.2.2.2.2.2.2.2.2.2.2.2.2.2.2.2.2.2.2.2.2.2.2.2.2.2.2.2.1 i2) (klen 9) (kby 9)) = 1 := fun h9 => absurd (hD.2 _ _ (zw_so h12)) (by rw [show (scell ((zhs h i2).1 i2) ((zhs h i2).2.1 i2) (s.2.2.2.2.2.2.2.2.2.2.2.2.2.2.2.2.2.2.2.2.2.2.2.2.2.2.2.2.2.1 i2) (s.2.2.2.2.2.2.2.2.2.2.2.2.2.2.2.2.2.2.2.2.2.2.2.2.2.2.2.2.2.2.1 i2) ((zhs h i2).2.2.1 i2)).1 = ka 9 from h9]; obtain ⟨⟨_, _, _, _, hn9⟩, _⟩ := hE.2.1 9 (by decide); exact hn9)
        refine k_i0 [] (va_runV (As := [.ref (ka 9)]) (rest := []) ⟨hx, hb, hml, hown, hts⟩ (ctJ3_equals l D dA _ _ _ _ _ _ _ _ _ (by omega) (klen_lt _) ab_) (cwV 1 hts (lw_V q681 q682 q683 q124 q684) rfl rfl rfl (by decide +kernel) ⟨Nat.le_of_ble_eq_true rfl, Nat.le_of_ble_eq_true rfl⟩) (preX_O (ev2_ok OK_ok (ev2_ok sv_ok sv_ok)) p_nil hK (A := A) d_nil ⟨ok_, sw_, sk_⟩ sw_.1) rfl rfl hl.1 rfl (lv_room (Nat.le_of_ble_eq_true rfl)) dX2_mustName_179 ⟨Nat.le_of_ble_eq_true rfl, Nat.le_of_ble_eq_true rfl⟩) hP hD hS hA rfl (fun _ => rfl) (fun u_ H locs hP hD hS => ?_)
        have hP : va_P D clG (zw dA za k9 tx (zhs h i2) s) H := hP
        have hD : va_D A (zw dA za k9 tx (zhs h i2) s) := hD
        refine lv_if_eq (tgt := 188) hx hb dX2_mustName_182 (by decide) (fun c14 => ?_) (fun c14 => ?_)
        · rw [if_pos c14] at hM
          refine lv_iload_n hx hb dX2_mustName_188 rfl (lv_at hl 0 rfl) ?_
          refine lv_tableOut (tgt := 238) hx hb dX2_mustName_189 (by decide) (by decide) ?_
          cases hM
        · rw [if_neg c14] at hM
          refine lv_bipush (v := (6 : Int32)) hx hb dX2_mustName_185 (by decide) ?_
          refine lv_istore_n (lv' := [(2, .int (6 : Int32)), (1, .ref ((zhs h i2).1 i2)), (0, .ref (za 0))]) hx hb dX2_mustName_187 rfl hl (by decide) rfl (fun ls hl => ?_)
          have hl := lv_sub (l' := [(2, .int (6 : Int32)), (0, .ref (za 0))]) hl [0, 2] rfl
          refine lv_iload_n hx hb dX2_mustName_188 rfl (lv_at hl 0 rfl) ?_
          refine lv_tableIn (off := 43) (tgt := 232) hx hb dX2_mustName_189 (by decide) (by decide) rfl (by decide) ?_
          refine lv_aload_n hx hb dX2_mustName_232 rfl (lv_at hl 1 rfl) ?_
          refine lv_iconst (v := (1 : Int32)) hx hb dX2_mustName_233 (by decide) ?_
          have er15 : MX2_fail (1 : Int32) s.2.2.1 = some ((1 : Int32), s.2.2.1) := rfl
          refine k_r0 [0, 1] (va_runV (As := [.int (1 : Int32)]) (rest := []) ⟨hx, hb, hml, hown, hts⟩ (ctX2_fail l D dA _ (za 0) (za 1) (1 : Int32) k9.1 s.1 s.2.1 s.2.2.1 s.2.2.2.1 0 k9.2.1 k9.2.2 (.ref (za 2)) (.ref (za 3)) (zwv (zhs h i2) s.2.2.2.2.1) (.ref (za 4)) (zav (zhs h i2) s.2.2.2.2.2.1) .null .null .null .null .null _ er15) (cwV 1 hts (lw_V q619 q621 qs7 q114 q622) rfl rfl rfl (by decide +kernel) ⟨Nat.le_of_ble_eq_true rfl, Nat.le_of_ble_eq_true rfl⟩) (pre_V (hP.sub [0, 1] rfl) hK (hD.sub [0, 1] (by decide) rfl) (ci := 1) (q0 := 0) rfl rfl) rfl rfl hl.1 rfl (lv_room (Nat.le_of_ble_eq_true rfl)) dX2_mustName_234 ⟨Nat.le_of_ble_eq_true rfl, Nat.le_of_ble_eq_true rfl⟩) hP hD hS hA rfl (fun _ => rfl) (fun u16 H locs hP hD hS => ?_)
          have hP : va_P D clG (zw dA za (k9.1, (1 : Int32), s.2.2.1) tx (zhs h i2) s) H := hP
          have hD : va_D A (zw dA za (k9.1, (1 : Int32), s.2.2.1) tx (zhs h i2) s) := hD
          have hM := Sum.inl.inj (Option.some.inj hM)
          subst hM
          exact z_throw hx hb dX2_mustName_237 hK hP hD hS hout hlocks rfl (Nat.le_of_ble_eq_true rfl) (Nat.le_of_ble_eq_true rfl)
      · rw [if_neg c11] at hM
        by_cases c17 : (hashG (s.2.2.2.2.2.2.2.2.2.2.2.2.2.2.2.2.2.2.2.2.2.2.2.2.2.2.2.2.2.1 i2) (s.2.2.2.2.2.2.2.2.2.2.2.2.2.2.2.2.2.2.2.2.2.2.2.2.2.2.2.2.2.2.1 i2)) = (3053931 : Int32)
        · rw [if_pos c17] at hM
          refine lv_lookup (off := 67) (tgt := 92) hx hb dX2_mustName_25 (by decide) (by rw [show ((hashG (s.2.2.2.2.2.2.2.2.2.2.2.2.2.2.2.2.2.2.2.2.2.2.2.2.2.2.2.2.2.1 i2) (s.2.2.2.2.2.2.2.2.2.2.2.2.2.2.2.2.2.2.2.2.2.2.2.2.2.2.2.2.2.2.1 i2))).toInt = 3053931 by rw [c17]; decide]; decide) (by decide) ?_
          refine lv_aload_n hx hb dX2_mustName_92 rfl (lv_at hl 1 rfl) ?_
          refine va_ldcS hx hb hown (hE.2.2.1 1 (Nat.zero_le _) (by decide)) dX2_mustName_93 ?_
          obtain ⟨h18, hM⟩ := gn_inv hM
          obtain ⟨h19, hM⟩ := gn_inv hM
          have sw_ := sv_world hts hK hP (zw_so h18) (zw_sb h18) rfl rfl (lt_nil (hP _ _ (zw_so h18)).lt) (lt_nil (hP _ _ (zw_sb h18)).lt)
          have sk_ := ev_at sv_ok (hE.2.1 1 (by decide)) hS (ev_nil hA hS)
          have ok_ := ev_at OK_ok hE.1 hS (ev_nil hA hS)
          have ab_ : (zhs h i2).1 i2 = ka 1 → (eqC (s.2.2.2.2.2.2.2.2.2.2.2.2.2.2.2.2.2.2.2.2.2.2.2.2.2.2.2.2.2.1 i2) (s.2.2.2.2.2.2.2.2.2.2.2.2.2.2.2.2.2.2.2.2.2.2.2.2.2.2.2.2.2.2.1 i2) (klen 1) (kby 1)) = 1 := fun h9 => absurd (hD.2 _ _ (zw_so h18)) (by rw [show (scell ((zhs h i2).1 i2) ((zhs h i2).2.1 i2) (s.2.2.2.2.2.2.2.2.2.2.2.2.2.2.2.2.2.2.2.2.2.2.2.2.2.2.2.2.2.1 i2) (s.2.2.2.2.2.2.2.2.2.2.2.2.2.2.2.2.2.2.2.2.2.2.2.2.2.2.2.2.2.2.1 i2) ((zhs h i2).2.2.1 i2)).1 = ka 1 from h9]; obtain ⟨⟨_, _, _, _, hn9⟩, _⟩ := hE.2.1 1 (by decide); exact hn9)
          refine k_i0 [] (va_runV (As := [.ref (ka 1)]) (rest := []) ⟨hx, hb, hml, hown, hts⟩ (ctJ3_equals l D dA _ _ _ _ _ _ _ _ _ (by omega) (klen_lt _) ab_) (cwV 1 hts (lw_V q681 q682 q683 q124 q684) rfl rfl rfl (by decide +kernel) ⟨Nat.le_of_ble_eq_true rfl, Nat.le_of_ble_eq_true rfl⟩) (preX_O (ev2_ok OK_ok (ev2_ok sv_ok sv_ok)) p_nil hK (A := A) d_nil ⟨ok_, sw_, sk_⟩ sw_.1) rfl rfl hl.1 rfl (lv_room (Nat.le_of_ble_eq_true rfl)) dX2_mustName_95 ⟨Nat.le_of_ble_eq_true rfl, Nat.le_of_ble_eq_true rfl⟩) hP hD hS hA rfl (fun _ => rfl) (fun u_ H locs hP hD hS => ?_)
          have hP : va_P D clG (zw dA za k9 tx (zhs h i2) s) H := hP
          have hD : va_D A (zw dA za k9 tx (zhs h i2) s) := hD
          refine lv_if_eq (tgt := 188) hx hb dX2_mustName_98 (by decide) (fun c20 => ?_) (fun c20 => ?_)
          · rw [if_pos c20] at hM
            refine lv_iload_n hx hb dX2_mustName_188 rfl (lv_at hl 0 rfl) ?_
            refine lv_tableOut (tgt := 238) hx hb dX2_mustName_189 (by decide) (by decide) ?_
            cases hM
          · rw [if_neg c20] at hM
            refine lv_iconst (v := (0 : Int32)) hx hb dX2_mustName_101 (by decide) ?_
            refine lv_istore_n (lv' := [(2, .int (0 : Int32)), (1, .ref ((zhs h i2).1 i2)), (0, .ref (za 0))]) hx hb dX2_mustName_102 rfl hl (by decide) rfl (fun ls hl => ?_)
            have hl := lv_sub (l' := [(2, .int (0 : Int32)), (0, .ref (za 0))]) hl [0, 2] rfl
            refine lv_goto (tgt := 188) hx hb dX2_mustName_103 (by decide) ?_
            refine lv_iload_n hx hb dX2_mustName_188 rfl (lv_at hl 0 rfl) ?_
            refine lv_tableIn (off := 43) (tgt := 232) hx hb dX2_mustName_189 (by decide) (by decide) rfl (by decide) ?_
            refine lv_aload_n hx hb dX2_mustName_232 rfl (lv_at hl 1 rfl) ?_
            refine lv_iconst (v := (1 : Int32)) hx hb dX2_mustName_233 (by decide) ?_
            have er21 : MX2_fail (1 : Int32) s.2.2.1 = some ((1 : Int32), s.2.2.1) := rfl
            refine k_r0 [0, 1] (va_runV (As := [.int (1 : Int32)]) (rest := []) ⟨hx, hb, hml, hown, hts⟩ (ctX2_fail l D dA _ (za 0) (za 1) (1 : Int32) k9.1 s.1 s.2.1 s.2.2.1 s.2.2.2.1 0 k9.2.1 k9.2.2 (.ref (za 2)) (.ref (za 3)) (zwv (zhs h i2) s.2.2.2.2.1) (.ref (za 4)) (zav (zhs h i2) s.2.2.2.2.2.1) .null .null .null .null .null _ er21) (cwV 1 hts (lw_V q619 q621 qs7 q114 q622) rfl rfl rfl (by decide +kernel) ⟨Nat.le_of_ble_eq_true rfl, Nat.le_of_ble_eq_true rfl⟩) (pre_V (hP.sub [0, 1] rfl) hK (hD.sub [0, 1] (by decide) rfl) (ci := 1) (q0 := 0) rfl rfl) rfl rfl hl.1 rfl (lv_room (Nat.le_of_ble_eq_true rfl)) dX2_mustName_234 ⟨Nat.le_of_ble_eq_true rfl, Nat.le_of_ble_eq_true rfl⟩) hP hD hS hA rfl (fun _ => rfl) (fun u22 H locs hP hD hS => ?_)
            have hP : va_P D clG (zw dA za (k9.1, (1 : Int32), s.2.2.1) tx (zhs h i2) s) H := hP
            have hD : va_D A (zw dA za (k9.1, (1 : Int32), s.2.2.1) tx (zhs h i2) s) := hD
            have hM := Sum.inl.inj (Option.some.inj hM)
            subst hM
            exact z_throw hx hb dX2_mustName_237 hK hP hD hS hout hlocks rfl (Nat.le_of_ble_eq_true rfl) (Nat.le_of_ble_eq_true rfl)
        · rw [if_neg c17] at hM
          by_cases c23 : (hashG (s.2.2.2.2.2.2.2.2.2.2.2.2.2.2.2.2.2.2.2.2.2.2.2.2.2.2.2.2.2.1 i2) (s.2.2.2.2.2.2.2.2.2.2.2.2.2.2.2.2.2.2.2.2.2.2.2.2.2.2.2.2.2.2.1 i2)) = (3377192 : Int32)
          · rw [if_pos c23] at hM
            refine lv_lookup (off := 95) (tgt := 120) hx hb dX2_mustName_25 (by decide) (by rw [show ((hashG (s.2.2.2.2.2.2.2.2.2.2.2.2.2.2.2.2.2.2.2.2.2.2.2.2.2.2.2.2.2.1 i2) (s.2.2.2.2.2.2.2.2.2.2.2.2.2.2.2.2.2.2.2.2.2.2.2.2.2.2.2.2.2.2.1 i2))).toInt = 3377192 by rw [c23]; decide]; decide) (by decide) ?_
            refine lv_aload_n hx hb dX2_mustName_120 rfl (lv_at hl 1 rfl) ?_
            refine va_ldcS hx hb hown (hE.2.2.1 3 (Nat.zero_le _) (by decide)) dX2_mustName_121 ?_
            obtain ⟨h24, hM⟩ := gn_inv hM
            obtain ⟨h25, hM⟩ := gn_inv hM
            have sw_ := sv_world hts hK hP (zw_so h24) (zw_sb h24) rfl rfl (lt_nil (hP _ _ (zw_so h24)).lt) (lt_nil (hP _ _ (zw_sb h24)).lt)
            have sk_ := ev_at sv_ok (hE.2.1 3 (by decide)) hS (ev_nil hA hS)
            have ok_ := ev_at OK_ok hE.1 hS (ev_nil hA hS)
            have ab_ : (zhs h i2).1 i2 = ka 3 → (eqC (s.2.2.2.2.2.2.2.2.2.2.2.2.2.2.2.2.2.2.2.2.2.2.2.2.2.2.2.2.2.1 i2) (s.2.2.2.2.2.2.2.2.2.2.2.2.2.2.2.2.2.2.2.2.2.2.2.2.2.2.2.2.2.2.1 i2) (klen 3) (kby 3)) = 1 := fun h9 => absurd (hD.2 _ _ (zw_so h24)) (by rw [show (scell ((zhs h i2).1 i2) ((zhs h i2).2.1 i2) (s.2.2.2.2.2.2.2.2.2.2.2.2.2.2.2.2.2.2.2.2.2.2.2.2.2.2.2.2.2.1 i2) (s.2.2.2.2.2.2.2.2.2.2.2.2.2.2.2.2.2.2.2.2.2.2.2.2.2.2.2.2.2.2.1 i2) ((zhs h i2).2.2.1 i2)).1 = ka 3 from h9]; obtain ⟨⟨_, _, _, _, hn9⟩, _⟩ := hE.2.1 3 (by decide); exact hn9)
            refine k_i0 [] (va_runV (As := [.ref (ka 3)]) (rest := []) ⟨hx, hb, hml, hown, hts⟩ (ctJ3_equals l D dA _ _ _ _ _ _ _ _ _ (by omega) (klen_lt _) ab_) (cwV 1 hts (lw_V q681 q682 q683 q124 q684) rfl rfl rfl (by decide +kernel) ⟨Nat.le_of_ble_eq_true rfl, Nat.le_of_ble_eq_true rfl⟩) (preX_O (ev2_ok OK_ok (ev2_ok sv_ok sv_ok)) p_nil hK (A := A) d_nil ⟨ok_, sw_, sk_⟩ sw_.1) rfl rfl hl.1 rfl (lv_room (Nat.le_of_ble_eq_true rfl)) dX2_mustName_123 ⟨Nat.le_of_ble_eq_true rfl, Nat.le_of_ble_eq_true rfl⟩) hP hD hS hA rfl (fun _ => rfl) (fun u_ H locs hP hD hS => ?_)
            have hP : va_P D clG (zw dA za k9 tx (zhs h i2) s) H := hP
            have hD : va_D A (zw dA za k9 tx (zhs h i2) s) := hD
            refine lv_if_eq (tgt := 188) hx hb dX2_mustName_126 (by decide) (fun c26 => ?_) (fun c26 => ?_)
            · rw [if_pos c26] at hM
              refine lv_iload_n hx hb dX2_mustName_188 rfl (lv_at hl 0 rfl) ?_
              refine lv_tableOut (tgt := 238) hx hb dX2_mustName_189 (by decide) (by decide) ?_
              cases hM
            · rw [if_neg c26] at hM
              refine lv_iconst (v := (2 : Int32)) hx hb dX2_mustName_129 (by decide) ?_
              refine lv_istore_n (lv' := [(2, .int (2 : Int32)), (1, .ref ((zhs h i2).1 i2)), (0, .ref (za 0))]) hx hb dX2_mustName_130 rfl hl (by decide) rfl (fun ls hl => ?_)
              have hl := lv_sub (l' := [(2, .int (2 : Int32)), (0, .ref (za 0))]) hl [0, 2] rfl
              refine lv_goto (tgt := 188) hx hb dX2_mustName_131 (by decide) ?_
              refine lv_iload_n hx hb dX2_mustName_188 rfl (lv_at hl 0 rfl) ?_
              refine lv_tableIn (off := 43) (tgt := 232) hx hb dX2_mustName_189 (by decide) (by decide) rfl (by decide) ?_
              refine lv_aload_n hx hb dX2_mustName_232 rfl (lv_at hl 1 rfl) ?_
              refine lv_iconst (v := (1 : Int32)) hx hb dX2_mustName_233 (by decide) ?_
              have er27 : MX2_fail (1 : Int32) s.2.2.1 = some ((1 : Int32), s.2.2.1) := rfl
              refine k_r0 [0, 1] (va_runV (As := [.int (1 : Int32)]) (rest := []) ⟨hx, hb, hml, hown, hts⟩ (ctX2_fail l D dA _ (za 0) (za 1) (1 : Int32) k9.1 s.1 s.2.1 s.2.2.1 s.2.2.2.1 0 k9.2.1 k9.2.2 (.ref (za 2)) (.ref (za 3)) (zwv (zhs h i2) s.2.2.2.2.1) (.ref (za 4)) (zav (zhs h i2) s.2.2.2.2.2.1) .null .null .null .null .null _ er27) (cwV 1 hts (lw_V q619 q621 qs7 q114 q622) rfl rfl rfl (by decide +kernel) ⟨Nat.le_of_ble_eq_true rfl, Nat.le_of_ble_eq_true rfl⟩) (pre_V (hP.sub [0, 1] rfl) hK (hD.sub [0, 1] (by decide) rfl) (ci := 1) (q0 := 0) rfl rfl) rfl rfl hl.1 rfl (lv_room (Nat.le_of_ble_eq_true rfl)) dX2_mustName_234 ⟨Nat.le_of_ble_eq_true rfl, Nat.le_of_ble_eq_true rfl⟩) hP hD hS hA rfl (fun _ => rfl) (fun u28 H locs hP hD hS => ?_)
              have hP : va_P D clG (zw dA za (k9.1, (1 : Int32), s.2.2.1) tx (zhs h i2) s) H := hP
              have hD : va_D A (zw dA za (k9.1, (1 : Int32), s.2.2.1) tx (zhs h i2) s) := hD
              have hM := Sum.inl.inj (Option.some.inj hM)
              subst hM
              exact z_throw hx hb dX2_mustName_237 hK hP hD hS hout hlocks rfl (Nat.le_of_ble_eq_true rfl) (Nat.le_of_ble_eq_true rfl)
          · rw [if_neg c23] at hM
            by_cases c29 : (hashG (s.2.2.2.2.2.2.2.2.2.2.2.2.2.2.2.2.2.2.2.2.2.2.2.2.2.2.2.2.2.1 i2) (s.2.2.2.2.2.2.2.2.2.2.2.2.2.2.2.2.2.2.2.2.2.2.2.2.2.2.2.2.2.2.1 i2)) = (3645716 : Int32)
            · rw [if_pos c29] at hM
              refine lv_lookup (off := 137) (tgt := 162) hx hb dX2_mustName_25 (by decide) (by rw [show ((hashG (s.2.2.2.2.2.2.2.2.2.2.2.2.2.2.2.2.2.2.2.2.2.2.2.2.2.2.2.2.2.1 i2) (s.2.2.2.2.2.2.2.2.2.2.2.2.2.2.2.2.2.2.2.2.2.2.2.2.2.2.2.2.2.2.1 i2))).toInt = 3645716 by rw [c29]; decide]; decide) (by decide) ?_
              refine lv_aload_n hx hb dX2_mustName_162 rfl (lv_at hl 1 rfl) ?_
              refine va_ldcS hx hb hown (hE.2.2.1 6 (Nat.zero_le _) (by decide)) dX2_mustName_163 ?_
              obtain ⟨h30, hM⟩ := gn_inv hM
              obtain ⟨h31, hM⟩ := gn_inv hM
              have sw_ := sv_world hts hK hP (zw_so h30) (zw_sb h30) rfl rfl (lt_nil (hP _ _ (zw_so h30)).lt) (lt_nil (hP _ _ (zw_sb h30)).lt)
              have sk_ := ev_at sv_ok (hE.2.1 6 (by decide)) hS (ev_nil hA hS)
              have ok_ := ev_at OK_ok hE.1 hS (ev_nil hA hS)
              have ab_ : (zhs h i2).1 i2 = ka 6 → (eqC (s.2.2.2.2.2.2.2.2.2.2.2.2.2.2.2.2.2.2.2.2.2.2.2.2.2.2.2.2.2.1 i2) (s.2.2.2.2.2.2.2.2.2.2.2.2.2.2.2.2.2.2.2.2.2.2.2.2.2.2.2.2.2.2.1 i2) (klen 6) (kby 6)) = 1 := fun h9 => absurd (hD.2 _ _ (zw_so h30)) (by rw [show (scell ((zhs h i2).1 i2) ((zhs h i2).2.1 i2) (s.2.2.2.2.2.2.2.2.2.2.2.2.2.2.2.2.2.2.2.2.2.2.2.2.2.2.2.2.2.1 i2) (s.2.2.2.2.2.2.2.2.2.2.2.2.2.2.2.2.2.2.2.2.2.2.2.2.2.2.2.2.2.2.1 i2) ((zhs h i2).2.2.1 i2)).1 = ka 6 from h9]; obtain ⟨⟨_, _, _, _, hn9⟩, _⟩ := hE.2.1 6 (by decide); exact hn9)
              refine k_i0 [] (va_runV (As := [.ref (ka 6)]) (rest := []) ⟨hx, hb, hml, hown, hts⟩ (ctJ3_equals l D dA _ _ _ _ _ _ _ _ _ (by omega) (klen_lt _) ab_) (cwV 1 hts (lw_V q681 q682 q683 q124 q684) rfl rfl rfl (by decide +kernel) ⟨Nat.le_of_ble_eq_true rfl, Nat.le_of_ble_eq_true rfl⟩) (preX_O (ev2_ok OK_ok (ev2_ok sv_ok sv_ok)) p_nil hK (A := A) d_nil ⟨ok_, sw_, sk_⟩ sw_.1) rfl rfl hl.1 rfl (lv_room (Nat.le_of_ble_eq_true rfl)) dX2_mustName_165 ⟨Nat.le_of_ble_eq_true rfl, Nat.le_of_ble_eq_true rfl⟩) hP hD hS hA rfl (fun _ => rfl) (fun u_ H locs hP hD hS => ?_)
              have hP : va_P D clG (zw dA za k9 tx (zhs h i2) s) H := hP
              have hD : va_D A (zw dA za k9 tx (zhs h i2) s) := hD
              refine lv_if_eq (tgt := 188) hx hb dX2_mustName_168 (by decide) (fun c32 => ?_) (fun c32 => ?_)
              · rw [if_pos c32] at hM
                refine lv_iload_n hx hb dX2_mustName_188 rfl (lv_at hl 0 rfl) ?_
                refine lv_tableOut (tgt := 238) hx hb dX2_mustName_189 (by decide) (by decide) ?_
                cases hM
              · rw [if_neg c32] at hM
                refine lv_iconst (v := (5 : Int32)) hx hb dX2_mustName_171 (by decide) ?_
                refine lv_istore_n (lv' := [(2, .int (5 : Int32)), (1, .ref ((zhs h i2).1 i2)), (0, .ref (za 0))]) hx hb dX2_mustName_172 rfl hl (by decide) rfl (fun ls hl => ?_)
                have hl := lv_sub (l' := [(2, .int (5 : Int32)), (0, .ref (za 0))]) hl [0, 2] rfl
                refine lv_goto (tgt := 188) hx hb dX2_mustName_173 (by decide) ?_
                refine lv_iload_n hx hb dX2_mustName_188 rfl (lv_at hl 0 rfl) ?_
                refine lv_tableIn (off := 43) (tgt := 232) hx hb dX2_mustName_189 (by decide) (by decide) rfl (by decide) ?_
                refine lv_aload_n hx hb dX2_mustName_232 rfl (lv_at hl 1 rfl) ?_
                refine lv_iconst (v := (1 : Int32)) hx hb dX2_mustName_233 (by decide) ?_
                have er33 : MX2_fail (1 : Int32) s.2.2.1 = some ((1 : Int32), s.2.2.1) := rfl
                refine k_r0 [0, 1] (va_runV (As := [.int (1 : Int32)]) (rest := []) ⟨hx, hb, hml, hown, hts⟩ (ctX2_fail l D dA _ (za 0) (za 1) (1 : Int32) k9.1 s.1 s.2.1 s.2.2.1 s.2.2.2.1 0 k9.2.1 k9.2.2 (.ref (za 2)) (.ref (za 3)) (zwv (zhs h i2) s.2.2.2.2.1) (.ref (za 4)) (zav (zhs h i2) s.2.2.2.2.2.1) .null .null .null .null .null _ er33) (cwV 1 hts (lw_V q619 q621 qs7 q114 q622) rfl rfl rfl (by decide +kernel) ⟨Nat.le_of_ble_eq_true rfl, Nat.le_of_ble_eq_true rfl⟩) (pre_V (hP.sub [0, 1] rfl) hK (hD.sub [0, 1] (by decide) rfl) (ci := 1) (q0 := 0) rfl rfl) rfl rfl hl.1 rfl (lv_room (Nat.le_of_ble_eq_true rfl)) dX2_mustName_234 ⟨Nat.le_of_ble_eq_true rfl, Nat.le_of_ble_eq_true rfl⟩) hP hD hS hA rfl (fun _ => rfl) (fun u34 H locs hP hD hS => ?_)
                have hP : va_P D clG (zw dA za (k9.1, (1 : Int32), s.2.2.1) tx (zhs h i2) s) H := hP
                have hD : va_D A (zw dA za (k9.1, (1 : Int32), s.2.2.1) tx (zhs h i2) s) := hD
                have hM := Sum.inl.inj (Option.some.inj hM)
                subst hM
                exact z_throw hx hb dX2_mustName_237 hK hP hD hS hout hlocks rfl (Nat.le_of_ble_eq_true rfl) (Nat.le_of_ble_eq_true rfl)
            · rw [if_neg c29] at hM
              by_cases c35 : (hashG (s.2.2.2.2.2.2.2.2.2.2.2.2.2.2.2.2.2.2.2.2.2.2.2.2.2.2.2.2.2.1 i2) (s.2.2.2.2.2.2.2.2.2.2.2.2.2.2.2.2.2.2.2.2.2.2.2.2.2.2.2.2.2.2.1 i2)) = (93113560 : Int32)
              · rw [if_pos c35] at hM
                refine lv_lookup (off := 109) (tgt := 134) hx hb dX2_mustName_25 (by decide) (by rw [show ((hashG (s.2.2.2.2.2.2.2.2.2.2.2.2.2.2.2.2.2.2.2.2.2.2.2.2.2.2.2.2.2.1 i2) (s.2.2.2.2.2.2.2.2.2.2.2.2.2.2.2.2.2.2.2.2.2.2.2.2.2.2.2.2.2.2.1 i2))).toInt = 93113560 by rw [c35]; decide]; decide) (by decide) ?_
                refine lv_aload_n hx hb dX2_mustName_134 rfl (lv_at hl 1 rfl) ?_
                refine va_ldcS hx hb hown (hE.2.2.1 4 (Nat.zero_le _) (by decide)) dX2_mustName_135 ?_
                obtain ⟨h36, hM⟩ := gn_inv hM
                obtain ⟨h37, hM⟩ := gn_inv hM
                have sw_ := sv_world hts hK hP (zw_so h36) (zw_sb h36) rfl rfl (lt_nil (hP _ _ (zw_so h36)).lt) (lt_nil (hP _ _ (zw_sb h36)).lt)
                have sk_ := ev_at sv_ok (hE.2.1 4 (by decide)) hS (ev_nil hA hS)
                have ok_ := ev_at OK_ok hE.1 hS (ev_nil hA hS)
                have ab_ : (zhs h i2).1 i2 = ka 4 → (eqC (s.2.2.2.2.2.2.2.2.2.2.2.2.2.2.2.2.2.2.2.2.2.2.2.2.2.2.2.2.2.1 i2) (s.2.2.2.2.2.2.2.2.2.2.2.2.2.2.2.2.2.2.2.2.2.2.2.2.2.2.2.2.2.2.1 i2) (klen 4) (kby 4)) = 1 := fun h9 => absurd (hD.2 _ _ (zw_so h36)) (by rw [show (scell ((zhs h i2).1 i2) ((zhs h i2).2.1 i2) (s.2.2.2.2.2.2.2.2.2.2.2.2.2.2.2.2.2.2.2.2.2.2.2.2.2.2.2.2.2.1 i2) (s.2.2.2.2.2.2.2.2.2.2.2.2.2.2.2.2.2.2.2.2.2.2.2.2.2.2.2.2.2.2.1 i2) ((zhs h i2).2.2.1 i2)).1 = ka 4 from h9]; obtain ⟨⟨_, _, _, _, hn9⟩, _⟩ := hE.2.1 4 (by decide); exact hn9)
                refine k_i0 [] (va_runV (As := [.ref (ka 4)]) (rest := []) ⟨hx, hb, hml, hown, hts⟩ (ctJ3_equals l D dA _ _ _ _ _ _ _ _ _ (by omega) (klen_lt _) ab_) (cwV 1 hts (lw_V q681 q682 q683 q124 q684) rfl rfl rfl (by decide +kernel) ⟨Nat.le_of_ble_eq_true rfl, Nat.le_of_ble_eq_true rfl⟩) (preX_O (ev2_ok OK_ok (ev2_ok sv_ok sv_ok)) p_nil hK (A := A) d_nil ⟨ok_, sw_, sk_⟩ sw_.1) rfl rfl hl.1 rfl (lv_room (Nat.le_of_ble_eq_true rfl)) dX2_mustName_137 ⟨Nat.le_of_ble_eq_true rfl, Nat.le_of_ble_eq_true rfl⟩) hP hD hS hA rfl (fun _ => rfl) (fun u_ H locs hP hD hS => ?_)
                have hP : va_P D clG (zw dA za k9 tx (zhs h i2) s) H := hP
                have hD : va_D A (zw dA za k9 tx (zhs h i2) s) := hD
                refine lv_if_eq (tgt := 188) hx hb dX2_mustName_140 (by decide) (fun c38 => ?_) (fun c38 => ?_)
                · rw [if_pos c38] at hM
                  refine lv_iload_n hx hb dX2_mustName_188 rfl (lv_at hl 0 rfl) ?_
                  refine lv_tableOut (tgt := 238) hx hb dX2_mustName_189 (by decide) (by decide) ?_
                  cases hM
                · rw [if_neg c38] at hM
                  refine lv_iconst (v := (3 : Int32)) hx hb dX2_mustName_143 (by decide) ?_
                  refine lv_istore_n (lv' := [(2, .int (3 : Int32)), (1, .ref ((zhs h i2).1 i2)), (0, .ref (za 0))]) hx hb dX2_mustName_144 rfl hl (by decide) rfl (fun ls hl => ?_)
                  have hl := lv_sub (l' := [(2, .int (3 : Int32)), (0, .ref (za 0))]) hl [0, 2] rfl
                  refine lv_goto (tgt := 188) hx hb dX2_mustName_145 (by decide) ?_
                  refine lv_iload_n hx hb dX2_mustName_188 rfl (lv_at hl 0 rfl) ?_
                  refine lv_tableIn (off := 43) (tgt := 232) hx hb dX2_mustName_189 (by decide) (by decide) rfl (by decide) ?_
                  refine lv_aload_n hx hb dX2_mustName_232 rfl (lv_at hl 1 rfl) ?_
                  refine lv_iconst (v := (1 : Int32)) hx hb dX2_mustName_233 (by decide) ?_
                  have er39 : MX2_fail (1 : Int32) s.2.2.1 = some ((1 : Int32), s.2.2.1) := rfl
                  refine k_r0 [0, 1] (va_runV (As := [.int (1 : Int32)]) (rest := []) ⟨hx, hb, hml, hown, hts⟩ (ctX2_fail l D dA _ (za 0) (za 1) (1 : Int32) k9.1 s.1 s.2.1 s.2.2.1 s.2.2.2.1 0 k9.2.1 k9.2.2 (.ref (za 2)) (.ref (za 3)) (zwv (zhs h i2) s.2.2.2.2.1) (.ref (za 4)) (zav (zhs h i2) s.2.2.2.2.2.1) .null .null .null .null .null _ er39) (cwV 1 hts (lw_V q619 q621 qs7 q114 q622) rfl rfl rfl (by decide +kernel) ⟨Nat.le_of_ble_eq_true rfl, Nat.le_of_ble_eq_true rfl⟩) (pre_V (hP.sub [0, 1] rfl) hK (hD.sub [0, 1] (by decide) rfl) (ci := 1) (q0 := 0) rfl rfl) rfl rfl hl.1 rfl (lv_room (Nat.le_of_ble_eq_true rfl)) dX2_mustName_234 ⟨Nat.le_of_ble_eq_true rfl, Nat.le_of_ble_eq_true rfl⟩) hP hD hS hA rfl (fun _ => rfl) (fun u40 H locs hP hD hS => ?_)
                  have hP : va_P D clG (zw dA za (k9.1, (1 : Int32), s.2.2.1) tx (zhs h i2) s) H := hP
                  have hD : va_D A (zw dA za (k9.1, (1 : Int32), s.2.2.1) tx (zhs h i2) s) := hD
                  have hM := Sum.inl.inj (Option.some.inj hM)
                  subst hM
                  exact z_throw hx hb dX2_mustName_237 hK hP hD hS hout hlocks rfl (Nat.le_of_ble_eq_true rfl) (Nat.le_of_ble_eq_true rfl)
              · rw [if_neg c35] at hM
                by_cases c41 : (hashG (s.2.2.2.2.2.2.2.2.2.2.2.2.2.2.2.2.2.2.2.2.2.2.2.2.2.2.2.2.2.1 i2) (s.2.2.2.2.2.2.2.2.2.2.2.2.2.2.2.2.2.2.2.2.2.2.2.2.2.2.2.2.2.2.1 i2)) = (99151926 : Int32)
                · rw [if_pos c41] at hM
                  refine lv_lookup (off := 123) (tgt := 148) hx hb dX2_mustName_25 (by decide) (by rw [show ((hashG (s.2.2.2.2.2.2.2.2.2.2.2.2.2.2.2.2.2.2.2.2.2.2.2.2.2.2.2.2.2.1 i2) (s.2.2.2.2.2.2.2.2.2.2.2.2.2.2.2.2.2.2.2.2.2.2.2.2.2.2.2.2.2.2.1 i2))).toInt = 99151926 by rw [c41]; decide]; decide) (by decide) ?_
                  refine lv_aload_n hx hb dX2_mustName_148 rfl (lv_at hl 1 rfl) ?_
                  refine va_ldcS hx hb hown (hE.2.2.1 5 (Nat.zero_le _) (by decide)) dX2_mustName_149 ?_
                  obtain ⟨h42, hM⟩ := gn_inv hM
                  obtain ⟨h43, hM⟩ := gn_inv hM
                  have sw_ := sv_world hts hK hP (zw_so h42) (zw_sb h42) rfl rfl (lt_nil (hP _ _ (zw_so h42)).lt) (lt_nil (hP _ _ (zw_sb h42)).lt)
                  have sk_ := ev_at sv_ok (hE.2.1 5 (by decide)) hS (ev_nil hA hS)
                  have ok_ := ev_at OK_ok hE.1 hS (ev_nil hA hS)
                  have ab_ : (zhs h i2).1 i2 = ka 5 → (eqC (s.2.2.2.2.2.2.2.2.2.2.2.2.2.2.2.2.2.2.2.2.2.2.2.2.2.2.2.2.2.1 i2) (s.2.2.2.2.2.2.2.2.2.2.2.2.2.2.2.2.2.2.2.2.2.2.2.2.2.2.2.2.2.2.1 i2) (klen 5) (kby 5)) = 1 := fun h9 => absurd (hD.2 _ _ (zw_so h42)) (by rw [show (scell ((zhs h i2).1 i2) ((zhs h i2).2.1 i2) (s.2.2.2.2.2.2.2.2.2.2.2.2.2.2.2.2.2.2.2.2.2.2.2.2.2.2.2.2.2.1 i2) (s.2.2.2.2.2.2.2.2.2.2.2.2.2.2.2.2.2.2.2.2.2.2.2.2.2.2.2.2.2.2.1 i2) ((zhs h i2).2.2.1 i2)).1 = ka 5 from h9]; obtain ⟨⟨_, _, _, _, hn9⟩, _⟩ := hE.2.1 5 (by decide); exact hn9)
                  refine k_i0 [] (va_runV (As := [.ref (ka 5)]) (rest := []) ⟨hx, hb, hml, hown, hts⟩ (ctJ3_equals l D dA _ _ _ _ _ _ _ _ _ (by omega) (klen_lt _) ab_) (cwV 1 hts (lw_V q681 q682 q683 q124 q684) rfl rfl rfl (by decide +kernel) ⟨Nat.le_of_ble_eq_true rfl, Nat.le_of_ble_eq_true rfl⟩) (preX_O (ev2_ok OK_ok (ev2_ok sv_ok sv_ok)) p_nil hK (A := A) d_nil ⟨ok_, sw_, sk_⟩ sw_.1) rfl rfl hl.1 rfl (lv_room (Nat.le_of_ble_eq_true rfl)) dX2_mustName_151 ⟨Nat.le_of_ble_eq_true rfl, Nat.le_of_ble_eq_true rfl⟩) hP hD hS hA rfl (fun _ => rfl) (fun u_ H locs hP hD hS => ?_)
                  have hP : va_P D clG (zw dA za k9 tx (zhs h i2) s) H := hP
                  have hD : va_D A (zw dA za k9 tx (zhs h i2) s) := hD
                  refine lv_if_eq (tgt := 188) hx hb dX2_mustName_154 (by decide) (fun c44 => ?_) (fun c44 => ?_)
                  · rw [if_pos c44] at hM
                    refine lv_iload_n hx hb dX2_mustName_188 rfl (lv_at hl 0 rfl) ?_
                    refine lv_tableOut (tgt := 238) hx hb dX2_mustName_189 (by decide) (by decide) ?_
                    cases hM
                  · rw [if_neg c44] at hM
                    refine lv_iconst (v := (4 : Int32)) hx hb dX2_mustName_157 (by decide) ?_
                    refine lv_istore_n (lv' := [(2, .int (4 : Int32)), (1, .ref ((zhs h i2).1 i2)), (0, .ref (za 0))]) hx hb dX2_mustName_158 rfl hl (by decide) rfl (fun ls hl => ?_)
                    have hl := lv_sub (l' := [(2, .int (4 : Int32)), (0, .ref (za 0))]) hl [0, 2] rfl
                    refine lv_goto (tgt := 188) hx hb dX2_mustName_159 (by decide) ?_
                    refine lv_iload_n hx hb dX2_mustName_188 rfl (lv_at hl 0 rfl) ?_
                    refine lv_tableIn (off := 43) (tgt := 232) hx hb dX2_mustName_189 (by decide) (by decide) rfl (by decide) ?_
                    refine lv_aload_n hx hb dX2_mustName_232 rfl (lv_at hl 1 rfl) ?_
                    refine lv_iconst (v := (1 : Int32)) hx hb dX2_mustName_233 (by decide) ?_
                    have er45 : MX2_fail (1 : Int32) s.2.2.1 = some ((1 : Int32), s.2.2.1) := rfl
                    refine k_r0 [0, 1] (va_runV (As := [.int (1 : Int32)]) (rest := []) ⟨hx, hb, hml, hown, hts⟩ (ctX2_fail l D dA _ (za 0) (za 1) (1 : Int32) k9.1 s.1 s.2.1 s.2.2.1 s.2.2.2.1 0 k9.2.1 k9.2.2 (.ref (za 2)) (.ref (za 3)) (zwv (zhs h i2) s.2.2.2.2.1) (.ref (za 4)) (zav (zhs h i2) s.2.2.2.2.2.1) .null .null .null .null .null _ er45) (cwV 1 hts (lw_V q619 q621 qs7 q114 q622) rfl rfl rfl (by decide +kernel) ⟨Nat.le_of_ble_eq_true rfl, Nat.le_of_ble_eq_true rfl⟩) (pre_V (hP.sub [0, 1] rfl) hK (hD.sub [0, 1] (by decide) rfl) (ci := 1) (q0 := 0) rfl rfl) rfl rfl hl.1 rfl (lv_room (Nat.le_of_ble_eq_true rfl)) dX2_mustName_234 ⟨Nat.le_of_ble_eq_true rfl, Nat.le_of_ble_eq_true rfl⟩) hP hD hS hA rfl (fun _ => rfl) (fun u46 H locs hP hD hS => ?_)
                    have hP : va_P D clG (zw dA za (k9.1, (1 : Int32), s.2.2.1) tx (zhs h i2) s) H := hP
                    have hD : va_D A (zw dA za (k9.1, (1 : Int32), s.2.2.1) tx (zhs h i2) s) := hD
                    have hM := Sum.inl.inj (Option.some.inj hM)
                    subst hM
                    exact z_throw hx hb dX2_mustName_237 hK hP hD hS hout hlocks rfl (Nat.le_of_ble_eq_true rfl) (Nat.le_of_ble_eq_true rfl)
                · rw [if_neg c41] at hM
                  refine lv_lookup (off := 163) (tgt := 188) hx hb dX2_mustName_25 (by decide) (by show Op.lookupswitch.offset [(-991716523, 81), (98262, 151), (3053931, 67), (3377192, 95), (3645716, 137), (93113560, 109), (99151926, 123)] _ _ = _; rw [lv_osw (k := (-991716523 : Int32)) c5 (by decide), lv_osw (k := (98262 : Int32)) c11 (by decide), lv_osw (k := (3053931 : Int32)) c17 (by decide), lv_osw (k := (3377192 : Int32)) c23 (by decide), lv_osw (k := (3645716 : Int32)) c29 (by decide), lv_osw (k := (93113560 : Int32)) c35 (by decide), lv_osw (k := (99151926 : Int32)) c41 (by decide)]; rfl) (by decide) ?_
                  refine lv_iload_n hx hb dX2_mustName_188 rfl (lv_at hl 0 rfl) ?_
                  refine lv_tableOut (tgt := 238) hx hb dX2_mustName_189 (by decide) (by decide) ?_
                  cases hM
  · rw [if_neg c1] at hM
    refine lv_aload_n hx hb dX2_mustName_8 rfl (lv_at hl 0 rfl) ?_
    refine lv_iconst (v := (1 : Int32)) hx hb dX2_mustName_9 (by decide) ?_
    have er47 : MX2_fail (1 : Int32) s.2.2.1 = some ((1 : Int32), s.2.2.1) := rfl
    refine k_r0 [0, 1] (va_runV (As := [.int (1 : Int32)]) (rest := []) ⟨hx, hb, hml, hown, hts⟩ (ctX2_fail l D dA _ (za 0) (za 1) (1 : Int32) k9.1 s.1 s.2.1 s.2.2.1 s.2.2.2.1 0 k9.2.1 k9.2.2 (.ref (za 2)) (.ref (za 3)) (zwv h s.2.2.2.2.1) (.ref (za 4)) (zav h s.2.2.2.2.2.1) .null .null .null .null .null _ er47) (cwV 1 hts (lw_V q619 q621 qs7 q114 q622) rfl rfl rfl (by decide +kernel) ⟨Nat.le_of_ble_eq_true rfl, Nat.le_of_ble_eq_true rfl⟩) (pre_V (hP.sub [0, 1] rfl) hK (hD.sub [0, 1] (by decide) rfl) (ci := 1) (q0 := 0) rfl rfl) rfl rfl hl.1 rfl (lv_room (Nat.le_of_ble_eq_true rfl)) dX2_mustName_10 ⟨Nat.le_of_ble_eq_true rfl, Nat.le_of_ble_eq_true rfl⟩) hP hD hS hA rfl (fun _ => rfl) (fun u48 H locs hP hD hS => ?_)
    have hP : va_P D clG (zw dA za (k9.1, (1 : Int32), s.2.2.1) tx h s) H := hP
    have hD : va_D A (zw dA za (k9.1, (1 : Int32), s.2.2.1) tx h s) := hD
    have hM := Sum.inl.inj (Option.some.inj hM)
    subst hM
    exact z_throw hx hb dX2_mustName_13 hK hP hD hS hout hlocks rfl (Nat.le_of_ble_eq_true rfl) (Nat.le_of_ble_eq_true rfl)
set_option maxHeartbeats 40000000 in
theorem ctZ_newName (l : Launch) (D : va_G) (dA : Nat → ClassId) (sz : Nat) (za : Nat → Nat) (h : ZH) (tx : AI) (k9 : Int32 × Int32 × Int32) (ka kv : Nat → Nat) (s : ZS) (r : (Nat × ZS)) (hM : MZ_newName tx k9.1 s = some (.inr r)) : Met l yX2_newName (ws_ yX2_newName cX2_newName 2 (some (.object "java/lang/String"))) ({ frames := 6, cells := 2, slots := 12, locals := 322 }) (preX D dA (ZE ka kv) [.ref (za 0)] (zw dA za k9 tx h s) sz) (qz_ D (fun (u : ZH) => some (.ref (u.1 r.1))) (fun u => zext h u s r.2) (fun u => zw dA za k9 tx u r.2) (va_A (zw dA za k9 tx h s) sz)) 2 12 (va_A (zw dA za k9 tx h s) sz) := by
  refine Met.ofW (cc := cX2_newName) (maxL := 2) (ret := (some (.object "java/lang/String"))) (by decide) rfl ?_
  intro p e s0 m args below meth c s₁ B hml hv
  obtain ⟨rfl, hsz, hP, hK, hD0, hE⟩ := hv
  have hx := B.exec
  have hb := B.bytes
  have hr := B.returns
  have hts := atoms_spec (ws := (ws_ yX2_newName cX2_newName 2 (some (.object "java/lang/String")))) B.pre
  have hts : ∀ w ∈ lw_all, w.before _ s0 = true := fun w h => hts w (List.mem_cons_of_mem _ h)
  have hown : s0.vm.findClass RX2 = some m.cls := findClass_of_methodNamed B.named
  have hlocks := B.notSynchronized
  subst hsz
  have hD := hD0.self (sz := s0.heap.size)
  generalize hAe : va_A (zw dA za k9 tx h s) s0.heap.size = A at hD hE ⊢
  have hA : ∀ q : Nat, s0.heap.size ≤ q → A q := fun q h => by rw [← hAe]; exact Or.inr h
  have hS : va_S A s0.heap s0.heap [] := va_S.rf
  have hl := lv_entry ([.ref (za 0)]) (n := 2) (Nat.le_of_ble_eq_true rfl)
  rw [lg_entry_eq]
  generalize (lg_sl ([.ref (za 0)]) ++ List.replicate (2 - (lg_sl ([.ref (za 0)])).length) Slot.unset).toArray = ls at hl ⊢
  have hl : lv_has ls 2 [(0, .ref (za 0))] := hl
  unfold MZ_newName at hM
  refine lv_aload_n hx hb dX2_newName_0 rfl (lv_at hl 0 rfl) ?_
  obtain ⟨r1_, er1, hM⟩ := b_inv hM
  cases r1_ with
  | inl e9 =>
    dsimp only at hM
    cases hM
  | inr r1 =>
    dsimp only at hM
    refine k_w (va_runV (As := []) (rest := []) ⟨hx, hb, hml, hown, hts⟩ (ctZ_mustName l D dA _ za h tx k9 ka kv s r1 er1 ) (cwV 0 hts (lw_V q724 q726 qs15 q114 q727) rfl rfl rfl (by decide +kernel) ⟨Nat.le_of_ble_eq_true rfl, Nat.le_of_ble_eq_true rfl⟩) (preX_V ZE_ok hP hK hD (ev_at ZE_ok hE hS (w_free hD hS hA)) hP (ci := 1) (q0 := 0) rfl rfl) rfl rfl hl.1 rfl (lv_room (Nat.le_of_ble_eq_true rfl)) dX2_newName_1 ⟨Nat.le_of_ble_eq_true rfl, Nat.le_of_ble_eq_true rfl⟩) hD hS hA (fun u2 H locs x3 hP hD hS => ?_)
    refine W.eq (g2 := F0 m 4 ls []) (by first | rfl | (rfl; rfl) | (rfl) | (simp only [*]; rfl) | simp only [*]) ?_
    refine lv_aload_n hx hb dX2_newName_4 rfl (lv_at hl 0 rfl) ?_
    refine va_get (D := D) (ci := 1) (v := .ref (za 4)) (C := RX2) (T := TX2) (N := 11) hx hb hts in_X2 hown hK.1 hP 0 rfl rfl 9 (by decide) (hts _ q235) (fun _ h9 => h9) rfl dX2_newName_5 ?_
    refine lv_aload_n hx hb dX2_newName_8 rfl (lv_at hl 0 rfl) ?_
    obtain ⟨i4, ei4, hM⟩ := b_inv hM
    obtain ⟨hi4, hM⟩ := gn_inv hM
    refine va_get (D := D) (ci := 1) (v := (zwv u2 r1.2.2.2.2.1)) (C := RX2) (T := TX2) (N := 11) hx hb hts in_X2 hown hK.1 hP 0 rfl rfl 8 (by decide) (hts _ q234) (fun _ h9 => h9) rfl dX2_newName_9 ?_
    refine lv_tor (v := .ref (u2.1 i4)) (zwv_some ei4) ?_
    obtain ⟨r5, er5, hM⟩ := b_inv hM
    refine k_w (va_runV (As := [.ref (u2.1 i4)]) (rest := []) ⟨hx, hb, hml, hown, hts⟩ (ctZ_find l D dA _ za u2 tx k9 ka kv r1 i4 r5 er5 ) (cwV 1 hts (lw_V q729 q730 q731 q123 q732) rfl rfl rfl (by decide +kernel) ⟨Nat.le_of_ble_eq_true rfl, Nat.le_of_ble_eq_true rfl⟩) (preX_V ZE_ok hP hK hD (ev_at ZE_ok hE hS (w_free hD hS hA)) hP (ci := 6) (q0 := 4) rfl rfl) rfl rfl hl.1 rfl (lv_room (Nat.le_of_ble_eq_true rfl)) dX2_newName_12 ⟨Nat.le_of_ble_eq_true rfl, Nat.le_of_ble_eq_true rfl⟩) hD hS hA (fun u6 H locs x7 hP hD hS => ?_)
    generalize eo : r5.1 = o_ at hM
    cases o_ with
    | none =>
      dsimp only at hM
      refine W.eq (g2 := F0 m 15 ls [.null]) (by first | rfl | (rfl; rfl) | (rfl) | (simp only [*]; rfl) | simp only [*]) ?_
      refine lv_ifnullN (tgt := 24) hx hb dX2_newName_15 (by decide) ?_
      refine lv_aload_n hx hb dX2_newName_24 rfl (lv_at hl 0 rfl) ?_
      obtain ⟨i9, ei9, hM⟩ := b_inv hM
      obtain ⟨hi9, hM⟩ := gn_inv hM
      refine va_get (D := D) (ci := 1) (v := (zwv u6 r5.2.2.2.2.2.1)) (C := RX2) (T := TX2) (N := 11) hx hb hts in_X2 hown hK.1 hP 0 rfl rfl 8 (by decide) (hts _ q234) (fun _ h9 => h9) rfl dX2_newName_25 ?_
      refine lv_tor (v := .ref (u6.1 i9)) (zwv_some ei9) ?_
      refine lv_astore_n (lv' := [(1, .ref (u6.1 i9)), (0, .ref (za 0))]) hx hb dX2_newName_28 rfl hl (by decide) rfl (fun ls hl => ?_)
      refine lv_aload_n hx hb dX2_newName_29 rfl (lv_at hl 1 rfl) ?_
      obtain ⟨h13, hM⟩ := gn_inv hM
      obtain ⟨r10, er10, hM⟩ := b_inv hM
      refine k_w (va_runV (As := []) (rest := []) ⟨hx, hb, hml, hown, hts⟩ (ctZ_step l D dA _ za u6 tx k9 ka kv r5.2 r10 er10 ) (cwV 0 hts (lw_V q521 q523 qs4 q114 q524) rfl rfl rfl (by decide +kernel) ⟨Nat.le_of_ble_eq_true rfl, Nat.le_of_ble_eq_true rfl⟩) (preX_V ZE_ok hP hK hD (ev_at ZE_ok hE hS (w_free hD hS hA)) hP (ci := 1) (q0 := 0) rfl rfl) rfl rfl hl.1 rfl (lv_room (Nat.le_of_ble_eq_true rfl)) dX2_newName_30 ⟨Nat.le_of_ble_eq_true rfl, Nat.le_of_ble_eq_true rfl⟩) hD hS hA (fun u11 H locs x12 hP hD hS => ?_)
      have hl : lv_has ls 2 [(1, .ref (u11.1 i9)), (0, .ref (za 0))] := by simp only [x12.1 i9 h13]; exact hl
      refine W.widen (k := 2) (n := 12) (Nat.le_of_ble_eq_true rfl) (Nat.le_of_ble_eq_true rfl) ?_
      refine W.eq (g2 := F0 m 33 ls []) (by first | rfl | (rfl; rfl) | (rfl) | (simp only [*]; rfl) | simp only [*]) ?_
      refine lv_aload_n hx hb dX2_newName_33 rfl (lv_at hl 0 rfl) ?_
      have hM := Sum.inr.inj (Option.some.inj hM)
      subst hM
      refine W.widen (k := 2) (n := 12) (Nat.le_of_ble_eq_true rfl) (Nat.le_of_ble_eq_true rfl) ?_
      exact W.aret (v := .ref (u11.1 i9)) hx hb hr (Or.inl ⟨_, rfl⟩) (Or.inr ⟨_, rfl⟩) (fun t ht hW => ⟨⟨u11, rfl, (zext_trans (zext_trans (zext_trans zext_rf x3) x7) x12), by rw [ht]; exact hP, hD⟩, hS.F ht⟩) hS.2.2 dX2_newName_34
    | some k8 =>
      dsimp only at hM
      refine W.eq (g2 := F0 m 15 ls [.ref (u6.2.2.2.1 k8)]) (by first | rfl | (rfl; rfl) | (rfl) | (simp only [*]; rfl) | simp only [*]) ?_
      refine lv_ifnull hx hb dX2_newName_15 ?_
      refine lv_aload_n hx hb dX2_newName_18 rfl (lv_at hl 0 rfl) ?_
      refine lv_iconst (v := (3 : Int32)) hx hb dX2_newName_19 (by decide) ?_
      have er14 : MX2_fail (3 : Int32) r5.2.2.2.1 = some ((3 : Int32), r5.2.2.2.1) := rfl
      refine k_r0 [0, 1] (va_runV (As := [.int (3 : Int32)]) (rest := []) ⟨hx, hb, hml, hown, hts⟩ (ctX2_fail l D dA _ (za 0) (za 1) (3 : Int32) k9.1 r5.2.1 r5.2.2.1 r5.2.2.2.1 r5.2.2.2.2.1 0 k9.2.1 k9.2.2 (.ref (za 2)) (.ref (za 3)) (zwv u6 r5.2.2.2.2.2.1) (.ref (za 4)) (zav u6 r5.2.2.2.2.2.2.1) .null .null .null .null .null _ er14) (cwV 1 hts (lw_V q619 q621 qs7 q114 q622) rfl rfl rfl (by decide +kernel) ⟨Nat.le_of_ble_eq_true rfl, Nat.le_of_ble_eq_true rfl⟩) (pre_V (hP.sub [0, 1] rfl) hK (hD.sub [0, 1] (by decide) rfl) (ci := 1) (q0 := 0) rfl rfl) rfl rfl hl.1 rfl (lv_room (Nat.le_of_ble_eq_true rfl)) dX2_newName_20 ⟨Nat.le_of_ble_eq_true rfl, Nat.le_of_ble_eq_true rfl⟩) hP hD hS hA rfl (fun _ => rfl) (fun u15 H locs hP hD hS => ?_)
      have hP : va_P D clG (zw dA za (k9.1, (3 : Int32), r5.2.2.2.1) tx u6 r5.2) H := hP
      have hD : va_D A (zw dA za (k9.1, (3 : Int32), r5.2.2.2.1) tx u6 r5.2) := hD
      cases hM
set_option maxHeartbeats 40000000 in
theorem ceZ_newName (l : Launch) (D : va_G) (dA : Nat → ClassId) (sz : Nat) (za : Nat → Nat) (h : ZH) (tx : AI) (k9 : Int32 × Int32 × Int32) (ka kv : Nat → Nat) (s : ZS) (er : Int32 × Int32) (hM : MZ_newName tx k9.1 s = some (.inl er)) : vy_Met l yX2_newName (ws_ yX2_newName cX2_newName 2 (some (.object "java/lang/String"))) ({ frames := 6, cells := 2, slots := 12, locals := 322 }) (preX D dA (ZE ka kv) [.ref (za 0)] (zw dA za k9 tx h s) sz) (fun _ _ _ _ => False) (zQ D dA za tx er (va_A (zw dA za k9 tx h s) sz)) 2 12 (va_A (zw dA za k9 tx h s) sz) := by
  refine vy_ofW (cc := cX2_newName) (maxL := 2) (ret := (some (.object "java/lang/String"))) (by decide) rfl ?_
  intro p e s0 m args below meth c s₁ B hml hout hv
  obtain ⟨rfl, hsz, hP, hK, hD0, hE⟩ := hv
  have hx := B.exec
  have hb := B.bytes
  have hr := B.returns
  have hts := atoms_spec (ws := (ws_ yX2_newName cX2_newName 2 (some (.object "java/lang/String")))) B.pre
  have hts : ∀ w ∈ lw_all, w.before _ s0 = true := fun w h => hts w (List.mem_cons_of_mem _ h)
  have hown : s0.vm.findClass RX2 = some m.cls := findClass_of_methodNamed B.named
  have hlocks := B.notSynchronized
  subst hsz
  have hD := hD0.self (sz := s0.heap.size)
  generalize hAe : va_A (zw dA za k9 tx h s) s0.heap.size = A at hD hE ⊢
  have hA : ∀ q : Nat, s0.heap.size ≤ q → A q := fun q h => by rw [← hAe]; exact Or.inr h
  have hS : va_S A s0.heap s0.heap [] := va_S.rf
  have hl := lv_entry ([.ref (za 0)]) (n := 2) (Nat.le_of_ble_eq_true rfl)
  rw [lg_entry_eq]
  generalize (lg_sl ([.ref (za 0)]) ++ List.replicate (2 - (lg_sl ([.ref (za 0)])).length) Slot.unset).toArray = ls at hl ⊢
  have hl : lv_has ls 2 [(0, .ref (za 0))] := hl
  unfold MZ_newName at hM
  refine lv_aload_n hx hb dX2_newName_0 rfl (lv_at hl 0 rfl) ?_
  obtain ⟨r1_, er1, hM⟩ := b_inv hM
  cases r1_ with
  | inl e9 =>
    dsimp only at hM
    have hM := Sum.inl.inj (Option.some.inj hM)
    subst hM
    exact z_err (vy_runV (As := []) (rest := []) ⟨hx, hb, hml, hown, hts⟩ (ceZ_mustName l D dA _ za h tx k9 ka kv s e9 er1 ) (cwV 0 hts (lw_V q724 q726 qs15 q114 q727) rfl rfl rfl (by decide +kernel) ⟨Nat.le_of_ble_eq_true rfl, Nat.le_of_ble_eq_true rfl⟩) (preX_V ZE_ok hP hK hD (ev_at ZE_ok hE hS (w_free hD hS hA)) hP (ci := 1) (q0 := 0) rfl rfl) rfl rfl hl.1 rfl (lv_room (Nat.le_of_ble_eq_true rfl)) dX2_newName_1 ⟨Nat.le_of_ble_eq_true rfl, Nat.le_of_ble_eq_true rfl⟩) hD hS hA hout hlocks (Nat.le_of_ble_eq_true rfl) (Nat.le_of_ble_eq_true rfl)
  | inr r1 =>
    dsimp only at hM
    refine k_w (va_runV (As := []) (rest := []) ⟨hx, hb, hml, hown, hts⟩ (ctZ_mustName l D dA _ za h tx k9 ka kv s r1 er1 ) (cwV 0 hts (lw_V q724 q726 qs15 q114 q727) rfl rfl rfl (by decide +kernel) ⟨Nat.le_of_ble_eq_true rfl, Nat.le_of_ble_eq_true rfl⟩) (preX_V ZE_ok hP hK hD (ev_at ZE_ok hE hS (w_free hD hS hA)) hP (ci := 1) (q0 := 0) rfl rfl) rfl rfl hl.1 rfl (lv_room (Nat.le_of_ble_eq_true rfl)) dX2_newName_1 ⟨Nat.le_of_ble_eq_true rfl, Nat.le_of_ble_eq_true rfl⟩) hD hS hA (fun u2 H locs x3 hP hD hS => ?_)
    refine W.eq (g2 := F0 m 4 ls []) (by first | rfl | (rfl; rfl) | (rfl) | (simp only [*]; rfl) | simp only [*]) ?_
    refine lv_aload_n hx hb dX2_newName_4 rfl (lv_at hl 0 rfl) ?_
    refine va_get (D := D) (ci := 1) (v := .ref (za 4)) (C := RX2) (T := TX2) (N := 11) hx hb hts in_X2 hown hK.1 hP 0 rfl rfl 9 (by decide) (hts _ q235) (fun _ h9 => h9) rfl dX2_newName_5 ?_
    refine lv_aload_n hx hb dX2_newName_8 rfl (lv_at hl 0 rfl) ?_
    obtain ⟨i4, ei4, hM⟩ := b_inv hM
    obtain ⟨hi4, hM⟩ := gn_inv hM
    refine va_get (D := D) (ci := 1) (v := (zwv u2 r1.2.2.2.2.1)) (C := RX2) (T := TX2) (N := 11) hx hb hts in_X2 hown hK.1 hP 0 rfl rfl 8 (by decide) (hts _ q234) (fun _ h9 => h9) rfl dX2_newName_9 ?_
    refine lv_tor (v := .ref (u2.1 i4)) (zwv_some ei4) ?_
    obtain ⟨r5, er5, hM⟩ := b_inv hM
    refine k_w (va_runV (As := [.ref (u2.1 i4)]) (rest := []) ⟨hx, hb, hml, hown, hts⟩ (ctZ_find l D dA _ za u2 tx k9 ka kv r1 i4 r5 er5 ) (cwV 1 hts (lw_V q729 q730 q731 q123 q732) rfl rfl rfl (by decide +kernel) ⟨Nat.le_of_ble_eq_true rfl, Nat.le_of_ble_eq_true rfl⟩) (preX_V ZE_ok hP hK hD (ev_at ZE_ok hE hS (w_free hD hS hA)) hP (ci := 6) (q0 := 4) rfl rfl) rfl rfl hl.1 rfl (lv_room (Nat.le_of_ble_eq_true rfl)) dX2_newName_12 ⟨Nat.le_of_ble_eq_true rfl, Nat.le_of_ble_eq_true rfl⟩) hD hS hA (fun u6 H locs x7 hP hD hS => ?_)
    generalize eo : r5.1 = o_ at hM
    cases o_ with
    | none =>
      dsimp only at hM
      refine W.eq (g2 := F0 m 15 ls [.null]) (by first | rfl | (rfl; rfl) | (rfl) | (simp only [*]; rfl) | simp only [*]) ?_
      refine lv_ifnullN (tgt := 24) hx hb dX2_newName_15 (by decide) ?_
      refine lv_aload_n hx hb dX2_newName_24 rfl (lv_at hl 0 rfl) ?_
      obtain ⟨i9, ei9, hM⟩ := b_inv hM
      obtain ⟨hi9, hM⟩ := gn_inv hM
      refine va_get (D := D) (ci := 1) (v := (zwv u6 r5.2.2.2.2.2.1)) (C := RX2) (T := TX2) (N := 11) hx hb hts in_X2 hown hK.1 hP 0 rfl rfl 8 (by decide) (hts _ q234) (fun _ h9 => h9) rfl dX2_newName_25 ?_
      refine lv_tor (v := .ref (u6.1 i9)) (zwv_some ei9) ?_
      refine lv_astore_n (lv' := [(1, .ref (u6.1 i9)), (0, .ref (za 0))]) hx hb dX2_newName_28 rfl hl (by decide) rfl (fun ls hl => ?_)
      refine lv_aload_n hx hb dX2_newName_29 rfl (lv_at hl 1 rfl) ?_
      obtain ⟨h13, hM⟩ := gn_inv hM
      obtain ⟨r10, er10, hM⟩ := b_inv hM
      refine k_w (va_runV (As := []) (rest := []) ⟨hx, hb, hml, hown, hts⟩ (ctZ_step l D dA _ za u6 tx k9 ka kv r5.2 r10 er10 ) (cwV 0 hts (lw_V q521 q523 qs4 q114 q524) rfl rfl rfl (by decide +kernel) ⟨Nat.le_of_ble_eq_true rfl, Nat.le_of_ble_eq_true rfl⟩) (preX_V ZE_ok hP hK hD (ev_at ZE_ok hE hS (w_free hD hS hA)) hP (ci := 1) (q0 := 0) rfl rfl) rfl rfl hl.1 rfl (lv_room (Nat.le_of_ble_eq_true rfl)) dX2_newName_30 ⟨Nat.le_of_ble_eq_true rfl, Nat.le_of_ble_eq_true rfl⟩) hD hS hA (fun u11 H locs x12 hP hD hS => ?_)
      have hl : lv_has ls 2 [(1, .ref (u11.1 i9)), (0, .ref (za 0))] := by simp only [x12.1 i9 h13]; exact hl
      refine W.widen (k := 2) (n := 12) (Nat.le_of_ble_eq_true rfl) (Nat.le_of_ble_eq_true rfl) ?_
      refine W.eq (g2 := F0 m 33 ls []) (by first | rfl | (rfl; rfl) | (rfl) | (simp only [*]; rfl) | simp only [*]) ?_
      refine lv_aload_n hx hb dX2_newName_33 rfl (lv_at hl 0 rfl) ?_
      cases hM
    | some k8 =>
      dsimp only at hM
      refine W.eq (g2 := F0 m 15 ls [.ref (u6.2.2.2.1 k8)]) (by first | rfl | (rfl; rfl) | (rfl) | (simp only [*]; rfl) | simp only [*]) ?_
      refine lv_ifnull hx hb dX2_newName_15 ?_
      refine lv_aload_n hx hb dX2_newName_18 rfl (lv_at hl 0 rfl) ?_
      refine lv_iconst (v := (3 : Int32)) hx hb dX2_newName_19 (by decide) ?_
      have er14 : MX2_fail (3 : Int32) r5.2.2.2.1 = some ((3 : Int32), r5.2.2.2.1) := rfl
      refine k_r0 [0, 1] (va_runV (As := [.int (3 : Int32)]) (rest := []) ⟨hx, hb, hml, hown, hts⟩ (ctX2_fail l D dA _ (za 0) (za 1) (3 : Int32) k9.1 r5.2.1 r5.2.2.1 r5.2.2.2.1 r5.2.2.2.2.1 0 k9.2.1 k9.2.2 (.ref (za 2)) (.ref (za 3)) (zwv u6 r5.2.2.2.2.2.1) (.ref (za 4)) (zav u6 r5.2.2.2.2.2.2.1) .null .null .null .null .null _ er14) (cwV 1 hts (lw_V q619 q621 qs7 q114 q622) rfl rfl rfl (by decide +kernel) ⟨Nat.le_of_ble_eq_true rfl, Nat.le_of_ble_eq_true rfl⟩) (pre_V (hP.sub [0, 1] rfl) hK (hD.sub [0, 1] (by decide) rfl) (ci := 1) (q0 := 0) rfl rfl) rfl rfl hl.1 rfl (lv_room (Nat.le_of_ble_eq_true rfl)) dX2_newName_20 ⟨Nat.le_of_ble_eq_true rfl, Nat.le_of_ble_eq_true rfl⟩) hP hD hS hA rfl (fun _ => rfl) (fun u15 H locs hP hD hS => ?_)
      have hP : va_P D clG (zw dA za (k9.1, (3 : Int32), r5.2.2.2.1) tx u6 r5.2) H := hP
      have hD : va_D A (zw dA za (k9.1, (3 : Int32), r5.2.2.2.1) tx u6 r5.2) := hD
      have hM := Sum.inl.inj (Option.some.inj hM)
      subst hM
      exact z_throw hx hb dX2_newName_23 hK hP hD hS hout hlocks rfl (Nat.le_of_ble_eq_true rfl) (Nat.le_of_ble_eq_true rfl)
set_option maxHeartbeats 40000000 in
theorem ctZ_personHere (l : Launch) (D : va_G) (dA : Nat → ClassId) (sz : Nat) (za : Nat → Nat) (h : ZH) (tx : AI) (k9 : Int32 × Int32 × Int32) (ka kv : Nat → Nat) (s : ZS) (r : (Nat × ZS)) (hM : MZ_personHere tx k9.1 s = some (.inr r)) : Met l yX2_personHere (ws_ yX2_personHere cX2_personHere 2 (some (.object "LastAsked$Person"))) ({ frames := 6, cells := 0, slots := 0, locals := 322 }) (preX D dA (ZE ka kv) [.ref (za 0)] (zw dA za k9 tx h s) sz) (qz_ D (fun (u : ZH) => some (.ref (u.2.2.2.1 r.1))) (fun u => zext h u s r.2) (fun u => zw dA za k9 tx u r.2) (va_A (zw dA za k9 tx h s) sz)) 0 0 (va_A (zw dA za k9 tx h s) sz) := by
  refine Met.ofW (cc := cX2_personHere) (maxL := 2) (ret := (some (.object "LastAsked$Person"))) (by decide) rfl ?_
  intro p e s0 m args below meth c s₁ B hml hv
  obtain ⟨rfl, hsz, hP, hK, hD0, hE⟩ := hv
  have hx := B.exec
  have hb := B.bytes
  have hr := B.returns
  have hts := atoms_spec (ws := (ws_ yX2_personHere cX2_personHere 2 (some (.object "LastAsked$Person")))) B.pre
  have hts : ∀ w ∈ lw_all, w.before _ s0 = true := fun w h => hts w (List.mem_cons_of_mem _ h)
  have hown : s0.vm.findClass RX2 = some m.cls := findClass_of_methodNamed B.named
  have hlocks := B.notSynchronized
  subst hsz
  have hD := hD0.self (sz := s0.heap.size)
  generalize hAe : va_A (zw dA za k9 tx h s) s0.heap.size = A at hD hE ⊢
  have hA : ∀ q : Nat, s0.heap.size ≤ q → A q := fun q h => by rw [← hAe]; exact Or.inr h
  have hS : va_S A s0.heap s0.heap [] := va_S.rf
  have hl := lv_entry ([.ref (za 0)]) (n := 2) (Nat.le_of_ble_eq_true rfl)
  rw [lg_entry_eq]
  generalize (lg_sl ([.ref (za 0)]) ++ List.replicate (2 - (lg_sl ([.ref (za 0)])).length) Slot.unset).toArray = ls at hl ⊢
  have hl : lv_has ls 2 [(0, .ref (za 0))] := hl
  unfold MZ_personHere at hM
  refine lv_aload_n hx hb dX2_personHere_0 rfl (lv_at hl 0 rfl) ?_
  obtain ⟨r1_, er1, hM⟩ := b_inv hM
  cases r1_ with
  | inl e9 =>
    dsimp only at hM
    cases hM
  | inr r1 =>
    dsimp only at hM
    refine k_w (va_runV (As := []) (rest := []) ⟨hx, hb, hml, hown, hts⟩ (ctZ_mustName l D dA _ za h tx k9 ka kv s r1 er1 ) (cwV 0 hts (lw_V q724 q726 qs15 q114 q727) rfl rfl rfl (by decide +kernel) ⟨Nat.le_of_ble_eq_true rfl, Nat.le_of_ble_eq_true rfl⟩) (preX_V ZE_ok hP hK hD (ev_at ZE_ok hE hS (w_free hD hS hA)) hP (ci := 1) (q0 := 0) rfl rfl) rfl rfl hl.1 rfl (lv_room (Nat.le_of_ble_eq_true rfl)) dX2_personHere_1 ⟨Nat.le_of_ble_eq_true rfl, Nat.le_of_ble_eq_true rfl⟩) hD hS hA (fun u2 H locs x3 hP hD hS => ?_)
    refine W.eq (g2 := F0 m 4 ls []) (by first | rfl | (rfl; rfl) | (rfl) | (simp only [*]; rfl) | simp only [*]) ?_
    refine lv_aload_n hx hb dX2_personHere_4 rfl (lv_at hl 0 rfl) ?_
    refine va_get (D := D) (ci := 1) (v := .ref (za 4)) (C := RX2) (T := TX2) (N := 11) hx hb hts in_X2 hown hK.1 hP 0 rfl rfl 9 (by decide) (hts _ q235) (fun _ h9 => h9) rfl dX2_personHere_5 ?_
    refine lv_aload_n hx hb dX2_personHere_8 rfl (lv_at hl 0 rfl) ?_
    obtain ⟨i4, ei4, hM⟩ := b_inv hM
    obtain ⟨hi4, hM⟩ := gn_inv hM
    refine va_get (D := D) (ci := 1) (v := (zwv u2 r1.2.2.2.2.1)) (C := RX2) (T := TX2) (N := 11) hx hb hts in_X2 hown hK.1 hP 0 rfl rfl 8 (by decide) (hts _ q234) (fun _ h9 => h9) rfl dX2_personHere_9 ?_
    refine lv_tor (v := .ref (u2.1 i4)) (zwv_some ei4) ?_
    obtain ⟨r5, er5, hM⟩ := b_inv hM
    refine k_w (va_runV (As := [.ref (u2.1 i4)]) (rest := []) ⟨hx, hb, hml, hown, hts⟩ (ctZ_find l D dA _ za u2 tx k9 ka kv r1 i4 r5 er5 ) (cwV 1 hts (lw_V q729 q730 q731 q123 q732) rfl rfl rfl (by decide +kernel) ⟨Nat.le_of_ble_eq_true rfl, Nat.le_of_ble_eq_true rfl⟩) (preX_V ZE_ok hP hK hD (ev_at ZE_ok hE hS (w_free hD hS hA)) hP (ci := 6) (q0 := 4) rfl rfl) rfl rfl hl.1 rfl (lv_room (Nat.le_of_ble_eq_true rfl)) dX2_personHere_12 ⟨Nat.le_of_ble_eq_true rfl, Nat.le_of_ble_eq_true rfl⟩) hD hS hA (fun u6 H locs x7 hP hD hS => ?_)
    generalize eo : r5.1 = o_ at hM
    cases o_ with
    | none =>
      dsimp only at hM
      refine W.eq (g2 := F0 m 15 ls [.null]) (by first | rfl | (rfl; rfl) | (rfl) | (simp only [*]; rfl) | simp only [*]) ?_
      refine lv_astore_nN (lv' := [(1, .null), (0, .ref (za 0))]) hx hb dX2_personHere_15 rfl hl (by decide) rfl (fun ls hl => ?_)
      refine lv_aload_nN hx hb dX2_personHere_16 rfl (lv_at hl 0 rfl) ?_
      refine lv_ifnonnullN hx hb dX2_personHere_17 ?_
      refine lv_aload_n hx hb dX2_personHere_20 rfl (lv_at hl 1 rfl) ?_
      refine lv_iconst (v := (2 : Int32)) hx hb dX2_personHere_21 (by decide) ?_
      have er9 : MX2_fail (2 : Int32) r5.2.2.2.1 = some ((2 : Int32), r5.2.2.2.1) := rfl
      refine k_r0 [0, 1] (va_runV (As := [.int (2 : Int32)]) (rest := []) ⟨hx, hb, hml, hown, hts⟩ (ctX2_fail l D dA _ (za 0) (za 1) (2 : Int32) k9.1 r5.2.1 r5.2.2.1 r5.2.2.2.1 r5.2.2.2.2.1 0 k9.2.1 k9.2.2 (.ref (za 2)) (.ref (za 3)) (zwv u6 r5.2.2.2.2.2.1) (.ref (za 4)) (zav u6 r5.2.2.2.2.2.2.1) .null .null .null .null .null _ er9) (cwV 1 hts (lw_V q619 q621 qs7 q114 q622) rfl rfl rfl (by decide +kernel) ⟨Nat.le_of_ble_eq_true rfl, Nat.le_of_ble_eq_true rfl⟩) (pre_V (hP.sub [0, 1] rfl) hK (hD.sub [0, 1] (by decide) rfl) (ci := 1) (q0 := 0) rfl rfl) rfl rfl hl.1 rfl (lv_room (Nat.le_of_ble_eq_true rfl)) dX2_personHere_22 ⟨Nat.le_of_ble_eq_true rfl, Nat.le_of_ble_eq_true rfl⟩) hP hD hS hA rfl (fun _ => rfl) (fun u10 H locs hP hD hS => ?_)
      have hP : va_P D clG (zw dA za (k9.1, (2 : Int32), r5.2.2.2.1) tx u6 r5.2) H := hP
      have hD : va_D A (zw dA za (k9.1, (2 : Int32), r5.2.2.2.1) tx u6 r5.2) := hD
      cases hM
    | some k8 =>
      dsimp only at hM
      refine W.eq (g2 := F0 m 15 ls [.ref (u6.2.2.2.1 k8)]) (by first | rfl | (rfl; rfl) | (rfl) | (simp only [*]; rfl) | simp only [*]) ?_
      refine lv_astore_n (lv' := [(1, .ref (u6.2.2.2.1 k8)), (0, .ref (za 0))]) hx hb dX2_personHere_15 rfl hl (by decide) rfl (fun ls hl => ?_)
      refine lv_aload_n hx hb dX2_personHere_16 rfl (lv_at hl 0 rfl) ?_
      refine lv_ifnonnull (tgt := 26) hx hb dX2_personHere_17 (by decide) ?_
      refine lv_aload_n hx hb dX2_personHere_26 rfl (lv_at hl 0 rfl) ?_
      have hM := Sum.inr.inj (Option.some.inj hM)
      subst hM
      refine W.widen (k := 0) (n := 0) (Nat.le_of_ble_eq_true rfl) (Nat.le_of_ble_eq_true rfl) ?_
      exact W.aret (v := .ref (u6.2.2.2.1 k8)) hx hb hr (Or.inl ⟨_, rfl⟩) (Or.inr ⟨_, rfl⟩) (fun t ht hW => ⟨⟨u6, rfl, (zext_trans (zext_trans zext_rf x3) x7), by rw [ht]; exact hP, hD⟩, hS.F ht⟩) hS.2.2 dX2_personHere_27
set_option maxHeartbeats 40000000 in
theorem ceZ_personHere (l : Launch) (D : va_G) (dA : Nat → ClassId) (sz : Nat) (za : Nat → Nat) (h : ZH) (tx : AI) (k9 : Int32 × Int32 × Int32) (ka kv : Nat → Nat) (s : ZS) (er : Int32 × Int32) (hM : MZ_personHere tx k9.1 s = some (.inl er)) : vy_Met l yX2_personHere (ws_ yX2_personHere cX2_personHere 2 (some (.object "LastAsked$Person"))) ({ frames := 6, cells := 0, slots := 0, locals := 322 }) (preX D dA (ZE ka kv) [.ref (za 0)] (zw dA za k9 tx h s) sz) (fun _ _ _ _ => False) (zQ D dA za tx er (va_A (zw dA za k9 tx h s) sz)) 0 0 (va_A (zw dA za k9 tx h s) sz) := by
  refine vy_ofW (cc := cX2_personHere) (maxL := 2) (ret := (some (.object "LastAsked$Person"))) (by decide) rfl ?_
  intro p e s0 m args below meth c s₁ B hml hout hv
  obtain ⟨rfl, hsz, hP, hK, hD0, hE⟩ := hv
  have hx := B.exec
  have hb := B.bytes
  have hr := B.returns
  have hts := atoms_spec (ws := (ws_ yX2_personHere cX2_personHere 2 (some (.object "LastAsked$Person")))) B.pre
  have hts : ∀ w ∈ lw_all, w.before _ s0 = true := fun w h => hts w (List.mem_cons_of_mem _ h)
  have hown : s0.vm.findClass RX2 = some m.cls := findClass_of_methodNamed B.named
  have hlocks := B.notSynchronized
  subst hsz
  have hD := hD0.self (sz := s0.heap.size)
  generalize hAe : va_A (zw dA za k9 tx h s) s0.heap.size = A at hD hE ⊢
  have hA : ∀ q : Nat, s0.heap.size ≤ q → A q := fun q h => by rw [← hAe]; exact Or.inr h
  have hS : va_S A s0.heap s0.heap [] := va_S.rf
  have hl := lv_entry ([.ref (za 0)]) (n := 2) (Nat.le_of_ble_eq_true rfl)
  rw [lg_entry_eq]
  generalize (lg_sl ([.ref (za 0)]) ++ List.replicate (2 - (lg_sl ([.ref (za 0)])).length) Slot.unset).toArray = ls at hl ⊢
  have hl : lv_has ls 2 [(0, .ref (za 0))] := hl
  unfold MZ_personHere at hM
  refine lv_aload_n hx hb dX2_personHere_0 rfl (lv_at hl 0 rfl) ?_
  obtain ⟨r1_, er1, hM⟩ := b_inv hM
  cases r1_ with
  | inl e9 =>
    dsimp only at hM
    have hM := Sum.inl.inj (Option.some.inj hM)
    subst hM
    exact z_err (vy_runV (As := []) (rest := []) ⟨hx, hb, hml, hown, hts⟩ (ceZ_mustName l D dA _ za h tx k9 ka kv s e9 er1 ) (cwV 0 hts (lw_V q724 q726 qs15 q114 q727) rfl rfl rfl (by decide +kernel) ⟨Nat.le_of_ble_eq_true rfl, Nat.le_of_ble_eq_true rfl⟩) (preX_V ZE_ok hP hK hD (ev_at ZE_ok hE hS (w_free hD hS hA)) hP (ci := 1) (q0 := 0) rfl rfl) rfl rfl hl.1 rfl (lv_room (Nat.le_of_ble_eq_true rfl)) dX2_personHere_1 ⟨Nat.le_of_ble_eq_true rfl, Nat.le_of_ble_eq_true rfl⟩) hD hS hA hout hlocks (Nat.le_of_ble_eq_true rfl) (Nat.le_of_ble_eq_true rfl)
  | inr r1 =>
    dsimp only at hM
    refine k_w (va_runV (As := []) (rest := []) ⟨hx, hb, hml, hown, hts⟩ (ctZ_mustName l D dA _ za h tx k9 ka kv s r1 er1 ) (cwV 0 hts (lw_V q724 q726 qs15 q114 q727) rfl rfl rfl (by decide +kernel) ⟨Nat.le_of_ble_eq_true rfl, Nat.le_of_ble_eq_true rfl⟩) (preX_V ZE_ok hP hK hD (ev_at ZE_ok hE hS (w_free hD hS hA)) hP (ci := 1) (q0 := 0) rfl rfl) rfl rfl hl.1 rfl (lv_room (Nat.le_of_ble_eq_true rfl)) dX2_personHere_1 ⟨Nat.le_of_ble_eq_true rfl, Nat.le_of_ble_eq_true rfl⟩) hD hS hA (fun u2 H locs x3 hP hD hS => ?_)
    refine W.eq (g2 := F0 m 4 ls []) (by first | rfl | (rfl; rfl) | (rfl) | (simp only [*]; rfl) | simp only [*]) ?_
    refine lv_aload_n hx hb dX2_personHere_4 rfl (lv_at hl 0 rfl) ?_
    refine va_get (D := D) (ci := 1) (v := .ref (za 4)) (C := RX2) (T := TX2) (N := 11) hx hb hts in_X2 hown hK.1 hP 0 rfl rfl 9 (by decide) (hts _ q235) (fun _ h9 => h9) rfl dX2_personHere_5 ?_
    refine lv_aload_n hx hb dX2_personHere_8 rfl (lv_at hl 0 rfl) ?_
    obtain ⟨i4, ei4, hM⟩ := b_inv hM
    obtain ⟨hi4, hM⟩ := gn_inv hM
    refine va_get (D := D) (ci := 1) (v := (zwv u2 r1.2.2.2.2.1)) (C := RX2) (T := TX2) (N := 11) hx hb hts in_X2 hown hK.1 hP 0 rfl rfl 8 (by decide) (hts _ q234) (fun _ h9 => h9) rfl dX2_personHere_9 ?_
    refine lv_tor (v := .ref (u2.1 i4)) (zwv_some ei4) ?_
    obtain ⟨r5, er5, hM⟩ := b_inv hM
    refine k_w (va_runV (As := [.ref (u2.1 i4)]) (rest := []) ⟨hx, hb, hml, hown, hts⟩ (ctZ_find l D dA _ za u2 tx k9 ka kv r1 i4 r5 er5 ) (cwV 1 hts (lw_V q729 q730 q731 q123 q732) rfl rfl rfl (by decide +kernel) ⟨Nat.le_of_ble_eq_true rfl, Nat.le_of_ble_eq_true rfl⟩) (preX_V ZE_ok hP hK hD (ev_at ZE_ok hE hS (w_free hD hS hA)) hP (ci := 6) (q0 := 4) rfl rfl) rfl rfl hl.1 rfl (lv_room (Nat.le_of_ble_eq_true rfl)) dX2_personHere_12 ⟨Nat.le_of_ble_eq_true rfl, Nat.le_of_ble_eq_true rfl⟩) hD hS hA (fun u6 H locs x7 hP hD hS => ?_)
    generalize eo : r5.1 = o_ at hM
    cases o_ with
    | none =>
      dsimp only at hM
      refine W.eq (g2 := F0 m 15 ls [.null]) (by first | rfl | (rfl; rfl) | (rfl) | (simp only [*]; rfl) | simp only [*]) ?_
      refine lv_astore_nN (lv' := [(1, .null), (0, .ref (za 0))]) hx hb dX2_personHere_15 rfl hl (by decide) rfl (fun ls hl => ?_)
      refine lv_aload_nN hx hb dX2_personHere_16 rfl (lv_at hl 0 rfl) ?_
      refine lv_ifnonnullN hx hb dX2_personHere_17 ?_
      refine lv_aload_n hx hb dX2_personHere_20 rfl (lv_at hl 1 rfl) ?_
      refine lv_iconst (v := (2 : Int32)) hx hb dX2_personHere_21 (by decide) ?_
      have er9 : MX2_fail (2 : Int32) r5.2.2.2.1 = some ((2 : Int32), r5.2.2.2.1) := rfl
      refine k_r0 [0, 1] (va_runV (As := [.int (2 : Int32)]) (rest := []) ⟨hx, hb, hml, hown, hts⟩ (ctX2_fail l D dA _ (za 0) (za 1) (2 : Int32) k9.1 r5.2.1 r5.2.2.1 r5.2.2.2.1 r5.2.2.2.2.1 0 k9.2.1 k9.2.2 (.ref (za 2)) (.ref (za 3)) (zwv u6 r5.2.2.2.2.2.1) (.ref (za 4)) (zav u6 r5.2.2.2.2.2.2.1) .null .null .null .null .null _ er9) (cwV 1 hts (lw_V q619 q621 qs7 q114 q622) rfl rfl rfl (by decide +kernel) ⟨Nat.le_of_ble_eq_true rfl, Nat.le_of_ble_eq_true rfl⟩) (pre_V (hP.sub [0, 1] rfl) hK (hD.sub [0, 1] (by decide) rfl) (ci := 1) (q0 := 0) rfl rfl) rfl rfl hl.1 rfl (lv_room (Nat.le_of_ble_eq_true rfl)) dX2_personHere_22 ⟨Nat.le_of_ble_eq_true rfl, Nat.le_of_ble_eq_true rfl⟩) hP hD hS hA rfl (fun _ => rfl) (fun u10 H locs hP hD hS => ?_)
      have hP : va_P D clG (zw dA za (k9.1, (2 : Int32), r5.2.2.2.1) tx u6 r5.2) H := hP
      have hD : va_D A (zw dA za (k9.1, (2 : Int32), r5.2.2.2.1) tx u6 r5.2) := hD
      have hM := Sum.inl.inj (Option.some.inj hM)
      subst hM
      exact z_throw hx hb dX2_personHere_25 hK hP hD hS hout hlocks rfl (Nat.le_of_ble_eq_true rfl) (Nat.le_of_ble_eq_true rfl)
    | some k8 =>
      dsimp only at hM
      refine W.eq (g2 := F0 m 15 ls [.ref (u6.2.2.2.1 k8)]) (by first | rfl | (rfl; rfl) | (rfl) | (simp only [*]; rfl) | simp only [*]) ?_
      refine lv_astore_n (lv' := [(1, .ref (u6.2.2.2.1 k8)), (0, .ref (za 0))]) hx hb dX2_personHere_15 rfl hl (by decide) rfl (fun ls hl => ?_)
      refine lv_aload_n hx hb dX2_personHere_16 rfl (lv_at hl 0 rfl) ?_
      refine lv_ifnonnull (tgt := 26) hx hb dX2_personHere_17 (by decide) ?_
      refine lv_aload_n hx hb dX2_personHere_26 rfl (lv_at hl 0 rfl) ?_
      cases hM
set_option maxHeartbeats 40000000 in
theorem ctZ_after (l : Launch) (D : va_G) (dA : Nat → ClassId) (sz : Nat) (za : Nat → Nat) (h : ZH) (tx : AI) (k9 : Int32 × Int32 × Int32) (ka kv : Nat → Nat) (s : ZS) (p0 : Nat) (p1 : Int32) (p2 : Int32) (r : (Int32 × ZS)) (hM : MZ_after tx k9.1 s p0 p1 p2 = some (.inr r)) (hw_p0 : p0 < 18) : Met l yX2_after (ws_ yX2_after cX2_after 5 (some .int)) ({ frames := 8, cells := 4, slots := 24, locals := 347 }) (preX D dA (ZE ka kv) [.ref (za 0), .ref (ka p0), .int p1, .int p2] (zw dA za k9 tx h s) sz) (qz_ D (fun (u : ZH) => some (.int r.1)) (fun u => zext h u s r.2) (fun u => zw dA za k9 tx u r.2) (va_A (zw dA za k9 tx h s) sz)) 4 24 (va_A (zw dA za k9 tx h s) sz) := by
  refine Met.ofW (cc := cX2_after) (maxL := 5) (ret := (some .int)) (by decide) rfl ?_
  intro p e s0 m args below meth c s₁ B hml hv
  obtain ⟨rfl, hsz, hP, hK, hD0, hE⟩ := hv
  have hx := B.exec
  have hb := B.bytes
  have hr := B.returns
  have hts := atoms_spec (ws := (ws_ yX2_after cX2_after 5 (some .int))) B.pre
  have hts : ∀ w ∈ lw_all, w.before _ s0 = true := fun w h => hts w (List.mem_cons_of_mem _ h)
  have hown : s0.vm.findClass RX2 = some m.cls := findClass_of_methodNamed B.named
  have hlocks := B.notSynchronized
  subst hsz
  have hD := hD0.self (sz := s0.heap.size)
  generalize hAe : va_A (zw dA za k9 tx h s) s0.heap.size = A at hD hE ⊢
  have hA : ∀ q : Nat, s0.heap.size ≤ q → A q := fun q h => by rw [← hAe]; exact Or.inr h
  have hS : va_S A s0.heap s0.heap [] := va_S.rf
  have hl := lv_entry ([.ref (za 0), .ref (ka p0), .int p1, .int p2]) (n := 5) (Nat.le_of_ble_eq_true rfl)
  rw [lg_entry_eq]
  generalize (lg_sl ([.ref (za 0), .ref (ka p0), .int p1, .int p2]) ++ List.replicate (5 - (lg_sl ([.ref (za 0), .ref (ka p0), .int p1, .int p2])).length) Slot.unset).toArray = ls at hl ⊢
  have hl : lv_has ls 5 [(0, .ref (za 0)), (1, .ref (ka p0)), (2, .int p1), (3, .int p2)] := hl
  unfold MZ_after at hM
  refine lv_aload_n hx hb dX2_after_0 rfl (lv_at hl 0 rfl) ?_
  refine lv_aload_n hx hb dX2_after_1 rfl (lv_at hl 1 rfl) ?_
  obtain ⟨r1_, er1, hM⟩ := b_inv hM
  cases r1_ with
  | inl e9 =>
    dsimp only at hM
    cases hM
  | inr r1 =>
    dsimp only at hM
    refine k_w (va_runV (As := [.ref (ka p0)]) (rest := []) ⟨hx, hb, hml, hown, hts⟩ (ctZ_must l D dA _ za h tx k9 ka kv s p0 r1 er1 hw_p0) (cwV 1 hts (lw_V q703 q705 qs10 q114 q706) rfl rfl rfl (by decide +kernel) ⟨Nat.le_of_ble_eq_true rfl, Nat.le_of_ble_eq_true rfl⟩) (preX_V ZE_ok hP hK hD (ev_at ZE_ok hE hS (w_free hD hS hA)) hP (ci := 1) (q0 := 0) rfl rfl) rfl rfl hl.1 rfl (lv_room (Nat.le_of_ble_eq_true rfl)) dX2_after_2 ⟨Nat.le_of_ble_eq_true rfl, Nat.le_of_ble_eq_true rfl⟩) hD hS hA (fun u2 H locs x3 hP hD hS => ?_)
    refine W.widen (k := 2) (n := 12) (Nat.le_of_ble_eq_true rfl) (Nat.le_of_ble_eq_true rfl) ?_
    refine W.eq (g2 := F0 m 5 ls []) (by first | rfl | (rfl; rfl) | (rfl) | (simp only [*]; rfl) | simp only [*]) ?_
    refine lv_aload_n hx hb dX2_after_5 rfl (lv_at hl 0 rfl) ?_
    refine va_get (D := D) (ci := 1) (v := .int r1.2.1) (C := RX2) (T := TX2) (N := 11) hx hb hts in_X2 hown hK.1 hP 0 rfl rfl 5 (by decide) (hts _ q231) (fun _ h9 => h9) rfl dX2_after_6 ?_
    refine lv_iconst (v := (3 : Int32)) hx hb dX2_after_9 (by decide) ?_
    refine lv_icmp_eq (tgt := 19) hx hb dX2_after_10 (by decide) (fun c4 => ?_) (fun c4 => ?_)
    · rw [if_pos c4] at hM
      refine lv_aload_n hx hb dX2_after_19 rfl (lv_at hl 0 rfl) ?_
      refine va_get (D := D) (ci := 1) (v := .int r1.2.2.2.1) (C := RX2) (T := TX2) (N := 11) hx hb hts in_X2 hown hK.1 hP 0 rfl rfl 7 (by decide) (hts _ q233) (fun _ h9 => h9) rfl dX2_after_20 ?_
      refine lv_iload_n hx hb dX2_after_23 rfl (lv_at hl 2 rfl) ?_
      refine lv_iload_n hx hb dX2_after_24 rfl (lv_at hl 3 rfl) ?_
      obtain ⟨r5, er5, hM⟩ := b_inv hM
      refine k_i0 [] (va_runSN (As := [.int r1.2.2.2.1, .int p1, .int p2]) (rest := []) ⟨hx, hb, hml, hown, hts⟩ (ctX1_in l D dA _ r1.2.2.2.1 p1 p2 _ er5) ⟨va_cnB 3 hts (lw_meth q438) rfl rfl rfl (hK.nw 13 rfl) (hts _ q113) (by decide +kernel) ⟨Nat.le_of_ble_eq_true rfl, Nat.le_of_ble_eq_true rfl⟩, hts _ q437, trivial⟩ (pre_S p_nil hK (A := A) d_nil) rfl rfl hl.1 rfl (lv_room (Nat.le_of_ble_eq_true rfl)) dX2_after_25 ⟨Nat.le_of_ble_eq_true rfl, Nat.le_of_ble_eq_true rfl⟩) hP hD hS hA rfl (fun _ => rfl) (fun u6 H locs hP hD hS => ?_)
      have hP : va_P D clG (zw dA za k9 tx u2 r1) H := hP
      have hD : va_D A (zw dA za k9 tx u2 r1) := hD
      refine lv_if_ne (tgt := 37) hx hb dX2_after_28 (by decide) (fun c7 => ?_) (fun c7 => ?_)
      · rw [if_neg c7] at hM
        refine lv_aload_n hx hb dX2_after_37 rfl (lv_at hl 0 rfl) ?_
        refine va_get (D := D) (ci := 1) (v := .int r1.2.2.2.1) (C := RX2) (T := TX2) (N := 11) hx hb hts in_X2 hown hK.1 hP 0 rfl rfl 7 (by decide) (hts _ q233) (fun _ h9 => h9) rfl dX2_after_38 ?_
        refine lv_istore (lv' := [(4, .int r1.2.2.2.1), (0, .ref (za 0)), (1, .ref (ka p0)), (2, .int p1), (3, .int p2)]) hx hb dX2_after_41 hl (by decide) rfl (fun ls hl => ?_)
        have hl := lv_sub (l' := [(4, .int r1.2.2.2.1), (0, .ref (za 0))]) hl [0, 1] rfl
        refine lv_aload_n hx hb dX2_after_43 rfl (lv_at hl 1 rfl) ?_
        obtain ⟨r8, er8, hM⟩ := b_inv hM
        refine k_w (va_runV (As := []) (rest := []) ⟨hx, hb, hml, hown, hts⟩ (ctZ_step l D dA _ za u2 tx k9 ka kv r1 r8 er8 ) (cwV 0 hts (lw_V q521 q523 qs4 q114 q524) rfl rfl rfl (by decide +kernel) ⟨Nat.le_of_ble_eq_true rfl, Nat.le_of_ble_eq_true rfl⟩) (preX_V ZE_ok hP hK hD (ev_at ZE_ok hE hS (w_free hD hS hA)) hP (ci := 1) (q0 := 0) rfl rfl) rfl rfl hl.1 rfl (lv_room (Nat.le_of_ble_eq_true rfl)) dX2_after_44 ⟨Nat.le_of_ble_eq_true rfl, Nat.le_of_ble_eq_true rfl⟩) hD hS hA (fun u9 H locs x10 hP hD hS => ?_)
        refine W.widen (k := 4) (n := 24) (Nat.le_of_ble_eq_true rfl) (Nat.le_of_ble_eq_true rfl) ?_
        refine W.eq (g2 := F0 m 47 ls []) (by first | rfl | (rfl; rfl) | (rfl) | (simp only [*]; rfl) | simp only [*]) ?_
        refine lv_iload hx hb dX2_after_47 (lv_at hl 0 rfl) ?_
        have hM := Sum.inr.inj (Option.some.inj hM)
        subst hM
        refine W.widen (k := 4) (n := 24) (Nat.le_of_ble_eq_true rfl) (Nat.le_of_ble_eq_true rfl) ?_
        exact W.iret (v := r1.2.2.2.1) hx hb hr (fun t ht hW => ⟨⟨u9, rfl, (zext_trans (zext_trans zext_rf x3) x10), by rw [ht]; exact hP, hD⟩, hS.F ht⟩) hS.2.2 dX2_after_49
      · rw [if_pos c7] at hM
        refine lv_aload_n hx hb dX2_after_31 rfl (lv_at hl 0 rfl) ?_
        refine lv_iconst (v := (4 : Int32)) hx hb dX2_after_32 (by decide) ?_
        have er11 : MX2_fail (4 : Int32) r1.2.2.1 = some ((4 : Int32), r1.2.2.1) := rfl
        refine k_r0 [0, 1] (va_runV (As := [.int (4 : Int32)]) (rest := []) ⟨hx, hb, hml, hown, hts⟩ (ctX2_fail l D dA _ (za 0) (za 1) (4 : Int32) k9.1 r1.1 r1.2.1 r1.2.2.1 r1.2.2.2.1 0 k9.2.1 k9.2.2 (.ref (za 2)) (.ref (za 3)) (zwv u2 r1.2.2.2.2.1) (.ref (za 4)) (zav u2 r1.2.2.2.2.2.1) .null .null .null .null .null _ er11) (cwV 1 hts (lw_V q619 q621 qs7 q114 q622) rfl rfl rfl (by decide +kernel) ⟨Nat.le_of_ble_eq_true rfl, Nat.le_of_ble_eq_true rfl⟩) (pre_V (hP.sub [0, 1] rfl) hK (hD.sub [0, 1] (by decide) rfl) (ci := 1) (q0 := 0) rfl rfl) rfl rfl hl.1 rfl (lv_room (Nat.le_of_ble_eq_true rfl)) dX2_after_33 ⟨Nat.le_of_ble_eq_true rfl, Nat.le_of_ble_eq_true rfl⟩) hP hD hS hA rfl (fun _ => rfl) (fun u12 H locs hP hD hS => ?_)
        have hP : va_P D clG (zw dA za (k9.1, (4 : Int32), r1.2.2.1) tx u2 r1) H := hP
        have hD : va_D A (zw dA za (k9.1, (4 : Int32), r1.2.2.1) tx u2 r1) := hD
        cases hM
    · rw [if_neg c4] at hM
      refine lv_aload_n hx hb dX2_after_13 rfl (lv_at hl 0 rfl) ?_
      refine lv_iconst (v := (1 : Int32)) hx hb dX2_after_14 (by decide) ?_
      have er13 : MX2_fail (1 : Int32) r1.2.2.1 = some ((1 : Int32), r1.2.2.1) := rfl
      refine k_r0 [0, 1] (va_runV (As := [.int (1 : Int32)]) (rest := []) ⟨hx, hb, hml, hown, hts⟩ (ctX2_fail l D dA _ (za 0) (za 1) (1 : Int32) k9.1 r1.1 r1.2.1 r1.2.2.1 r1.2.2.2.1 0 k9.2.1 k9.2.2 (.ref (za 2)) (.ref (za 3)) (zwv u2 r1.2.2.2.2.1) (.ref (za 4)) (zav u2 r1.2.2.2.2.2.1) .null .null .null .null .null _ er13) (cwV 1 hts (lw_V q619 q621 qs7 q114 q622) rfl rfl rfl (by decide +kernel) ⟨Nat.le_of_ble_eq_true rfl, Nat.le_of_ble_eq_true rfl⟩) (pre_V (hP.sub [0, 1] rfl) hK (hD.sub [0, 1] (by decide) rfl) (ci := 1) (q0 := 0) rfl rfl) rfl rfl hl.1 rfl (lv_room (Nat.le_of_ble_eq_true rfl)) dX2_after_15 ⟨Nat.le_of_ble_eq_true rfl, Nat.le_of_ble_eq_true rfl⟩) hP hD hS hA rfl (fun _ => rfl) (fun u14 H locs hP hD hS => ?_)
      have hP : va_P D clG (zw dA za (k9.1, (1 : Int32), r1.2.2.1) tx u2 r1) H := hP
      have hD : va_D A (zw dA za (k9.1, (1 : Int32), r1.2.2.1) tx u2 r1) := hD
      cases hM
set_option maxHeartbeats 40000000 in
theorem ceZ_after (l : Launch) (D : va_G) (dA : Nat → ClassId) (sz : Nat) (za : Nat → Nat) (h : ZH) (tx : AI) (k9 : Int32 × Int32 × Int32) (ka kv : Nat → Nat) (s : ZS) (p0 : Nat) (p1 : Int32) (p2 : Int32) (er : Int32 × Int32) (hM : MZ_after tx k9.1 s p0 p1 p2 = some (.inl er)) (hw_p0 : p0 < 18) : vy_Met l yX2_after (ws_ yX2_after cX2_after 5 (some .int)) ({ frames := 8, cells := 4, slots := 24, locals := 347 }) (preX D dA (ZE ka kv) [.ref (za 0), .ref (ka p0), .int p1, .int p2] (zw dA za k9 tx h s) sz) (fun _ _ _ _ => False) (zQ D dA za tx er (va_A (zw dA za k9 tx h s) sz)) 4 24 (va_A (zw dA za k9 tx h s) sz) := by
  refine vy_ofW (cc := cX2_after) (maxL := 5) (ret := (some .int)) (by decide) rfl ?_
  intro p e s0 m args below meth c s₁ B hml hout hv
  obtain ⟨rfl, hsz, hP, hK, hD0, hE⟩ := hv
  have hx := B.exec
  have hb := B.bytes
  have hr := B.returns
  have hts := atoms_spec (ws := (ws_ yX2_after cX2_after 5 (some .int))) B.pre
  have hts : ∀ w ∈ lw_all, w.before _ s0 = true := fun w h => hts w (List.mem_cons_of_mem _ h)
  have hown : s0.vm.findClass RX2 = some m.cls := findClass_of_methodNamed B.named
  have hlocks := B.notSynchronized
  subst hsz
  have hD := hD0.self (sz := s0.heap.size)
  generalize hAe : va_A (zw dA za k9 tx h s) s0.heap.size = A at hD hE ⊢
  have hA : ∀ q : Nat, s0.heap.size ≤ q → A q := fun q h => by rw [← hAe]; exact Or.inr h
  have hS : va_S A s0.heap s0.heap [] := va_S.rf
  have hl := lv_entry ([.ref (za 0), .ref (ka p0), .int p1, .int p2]) (n := 5) (Nat.le_of_ble_eq_true rfl)
  rw [lg_entry_eq]
  generalize (lg_sl ([.ref (za 0), .ref (ka p0), .int p1, .int p2]) ++ List.replicate (5 - (lg_sl ([.ref (za 0), .ref (ka p0), .int p1, .int p2])).length) Slot.unset).toArray = ls at hl ⊢
  have hl : lv_has ls 5 [(0, .ref (za 0)), (1, .ref (ka p0)), (2, .int p1), (3, .int p2)] := hl
  unfold MZ_after at hM
  refine lv_aload_n hx hb dX2_after_0 rfl (lv_at hl 0 rfl) ?_
  refine lv_aload_n hx hb dX2_after_1 rfl (lv_at hl 1 rfl) ?_
  obtain ⟨r1_, er1, hM⟩ := b_inv hM
  cases r1_ with
  | inl e9 =>
    dsimp only at hM
    have hM := Sum.inl.inj (Option.some.inj hM)
    subst hM
    exact z_err (vy_runV (As := [.ref (ka p0)]) (rest := []) ⟨hx, hb, hml, hown, hts⟩ (ceZ_must l D dA _ za h tx k9 ka kv s p0 e9 er1 hw_p0) (cwV 1 hts (lw_V q703 q705 qs10 q114 q706) rfl rfl rfl (by decide +kernel) ⟨Nat.le_of_ble_eq_true rfl, Nat.le_of_ble_eq_true rfl⟩) (preX_V ZE_ok hP hK hD (ev_at ZE_ok hE hS (w_free hD hS hA)) hP (ci := 1) (q0 := 0) rfl rfl) rfl rfl hl.1 rfl (lv_room (Nat.le_of_ble_eq_true rfl)) dX2_after_2 ⟨Nat.le_of_ble_eq_true rfl, Nat.le_of_ble_eq_true rfl⟩) hD hS hA hout hlocks (Nat.le_of_ble_eq_true rfl) (Nat.le_of_ble_eq_true rfl)
  | inr r1 =>
    dsimp only at hM
    refine k_w (va_runV (As := [.ref (ka p0)]) (rest := []) ⟨hx, hb, hml, hown, hts⟩ (ctZ_must l D dA _ za h tx k9 ka kv s p0 r1 er1 hw_p0) (cwV 1 hts (lw_V q703 q705 qs10 q114 q706) rfl rfl rfl (by decide +kernel) ⟨Nat.le_of_ble_eq_true rfl, Nat.le_of_ble_eq_true rfl⟩) (preX_V ZE_ok hP hK hD (ev_at ZE_ok hE hS (w_free hD hS hA)) hP (ci := 1) (q0 := 0) rfl rfl) rfl rfl hl.1 rfl (lv_room (Nat.le_of_ble_eq_true rfl)) dX2_after_2 ⟨Nat.le_of_ble_eq_true rfl, Nat.le_of_ble_eq_true rfl⟩) hD hS hA (fun u2 H locs x3 hP hD hS => ?_)
    refine W.widen (k := 2) (n := 12) (Nat.le_of_ble_eq_true rfl) (Nat.le_of_ble_eq_true rfl) ?_
    refine W.eq (g2 := F0 m 5 ls []) (by first | rfl | (rfl; rfl) | (rfl) | (simp only [*]; rfl) | simp only [*]) ?_
    refine lv_aload_n hx hb dX2_after_5 rfl (lv_at hl 0 rfl) ?_
    refine va_get (D := D) (ci := 1) (v := .int r1.2.1) (C := RX2) (T := TX2) (N := 11) hx hb hts in_X2 hown hK.1 hP 0 rfl rfl 5 (by decide) (hts _ q231) (fun _ h9 => h9) rfl dX2_after_6 ?_
    refine lv_iconst (v := (3 : Int32)) hx hb dX2_after_9 (by decide) ?_
    refine lv_icmp_eq (tgt := 19) hx hb dX2_after_10 (by decide) (fun c4 => ?_) (fun c4 => ?_)
    · rw [if_pos c4] at hM
      refine lv_aload_n hx hb dX2_after_19 rfl (lv_at hl 0 rfl) ?_
      refine va_get (D := D) (ci := 1) (v := .int r1.2.2.2.1) (C := RX2) (T := TX2) (N := 11) hx hb hts in_X2 hown hK.1 hP 0 rfl rfl 7 (by decide) (hts _ q233) (fun _ h9 => h9) rfl dX2_after_20 ?_
      refine lv_iload_n hx hb dX2_after_23 rfl (lv_at hl 2 rfl) ?_
      refine lv_iload_n hx hb dX2_after_24 rfl (lv_at hl 3 rfl) ?_
      obtain ⟨r5, er5, hM⟩ := b_inv hM
      refine k_i0 [] (va_runSN (As := [.int r1.2.2.2.1, .int p1, .int p2]) (rest := []) ⟨hx, hb, hml, hown, hts⟩ (ctX1_in l D dA _ r1.2.2.2.1 p1 p2 _ er5) ⟨va_cnB 3 hts (lw_meth q438) rfl rfl rfl (hK.nw 13 rfl) (hts _ q113) (by decide +kernel) ⟨Nat.le_of_ble_eq_true rfl, Nat.le_of_ble_eq_true rfl⟩, hts _ q437, trivial⟩ (pre_S p_nil hK (A := A) d_nil) rfl rfl hl.1 rfl (lv_room (Nat.le_of_ble_eq_true rfl)) dX2_after_25 ⟨Nat.le_of_ble_eq_true rfl, Nat.le_of_ble_eq_true rfl⟩) hP hD hS hA rfl (fun _ => rfl) (fun u6 H locs hP hD hS => ?_)
      have hP : va_P D clG (zw dA za k9 tx u2 r1) H := hP
      have hD : va_D A (zw dA za k9 tx u2 r1) := hD
      refine lv_if_ne (tgt := 37) hx hb dX2_after_28 (by decide) (fun c7 => ?_) (fun c7 => ?_)
      · rw [if_neg c7] at hM
        refine lv_aload_n hx hb dX2_after_37 rfl (lv_at hl 0 rfl) ?_
        refine va_get (D := D) (ci := 1) (v := .int r1.2.2.2.1) (C := RX2) (T := TX2) (N := 11) hx hb hts in_X2 hown hK.1 hP 0 rfl rfl 7 (by decide) (hts _ q233) (fun _ h9 => h9) rfl dX2_after_38 ?_
        refine lv_istore (lv' := [(4, .int r1.2.2.2.1), (0, .ref (za 0)), (1, .ref (ka p0)), (2, .int p1), (3, .int p2)]) hx hb dX2_after_41 hl (by decide) rfl (fun ls hl => ?_)
        have hl := lv_sub (l' := [(4, .int r1.2.2.2.1), (0, .ref (za 0))]) hl [0, 1] rfl
        refine lv_aload_n hx hb dX2_after_43 rfl (lv_at hl 1 rfl) ?_
        obtain ⟨r8, er8, hM⟩ := b_inv hM
        refine k_w (va_runV (As := []) (rest := []) ⟨hx, hb, hml, hown, hts⟩ (ctZ_step l D dA _ za u2 tx k9 ka kv r1 r8 er8 ) (cwV 0 hts (lw_V q521 q523 qs4 q114 q524) rfl rfl rfl (by decide +kernel) ⟨Nat.le_of_ble_eq_true rfl, Nat.le_of_ble_eq_true rfl⟩) (preX_V ZE_ok hP hK hD (ev_at ZE_ok hE hS (w_free hD hS hA)) hP (ci := 1) (q0 := 0) rfl rfl) rfl rfl hl.1 rfl (lv_room (Nat.le_of_ble_eq_true rfl)) dX2_after_44 ⟨Nat.le_of_ble_eq_true rfl, Nat.le_of_ble_eq_true rfl⟩) hD hS hA (fun u9 H locs x10 hP hD hS => ?_)
        refine W.widen (k := 4) (n := 24) (Nat.le_of_ble_eq_true rfl) (Nat.le_of_ble_eq_true rfl) ?_
        refine W.eq (g2 := F0 m 47 ls []) (by first | rfl | (rfl; rfl) | (rfl) | (simp only [*]; rfl) | simp only [*]) ?_
        refine lv_iload hx hb dX2_after_47 (lv_at hl 0 rfl) ?_
        cases hM
      · rw [if_pos c7] at hM
        refine lv_aload_n hx hb dX2_after_31 rfl (lv_at hl 0 rfl) ?_
        refine lv_iconst (v := (4 : Int32)) hx hb dX2_after_32 (by decide) ?_
        have er11 : MX2_fail (4 : Int32) r1.2.2.1 = some ((4 : Int32), r1.2.2.1) := rfl
        refine k_r0 [0, 1] (va_runV (As := [.int (4 : Int32)]) (rest := []) ⟨hx, hb, hml, hown, hts⟩ (ctX2_fail l D dA _ (za 0) (za 1) (4 : Int32) k9.1 r1.1 r1.2.1 r1.2.2.1 r1.2.2.2.1 0 k9.2.1 k9.2.2 (.ref (za 2)) (.ref (za 3)) (zwv u2 r1.2.2.2.2.1) (.ref (za 4)) (zav u2 r1.2.2.2.2.2.1) .null .null .null .null .null _ er11) (cwV 1 hts (lw_V q619 q621 qs7 q114 q622) rfl rfl rfl (by decide +kernel) ⟨Nat.le_of_ble_eq_true rfl, Nat.le_of_ble_eq_true rfl⟩) (pre_V (hP.sub [0, 1] rfl) hK (hD.sub [0, 1] (by decide) rfl) (ci := 1) (q0 := 0) rfl rfl) rfl rfl hl.1 rfl (lv_room (Nat.le_of_ble_eq_true rfl)) dX2_after_33 ⟨Nat.le_of_ble_eq_true rfl, Nat.le_of_ble_eq_true rfl⟩) hP hD hS hA rfl (fun _ => rfl) (fun u12 H locs hP hD hS => ?_)
        have hP : va_P D clG (zw dA za (k9.1, (4 : Int32), r1.2.2.1) tx u2 r1) H := hP
        have hD : va_D A (zw dA za (k9.1, (4 : Int32), r1.2.2.1) tx u2 r1) := hD
        have hM := Sum.inl.inj (Option.some.inj hM)
        subst hM
        exact z_throw hx hb dX2_after_36 hK hP hD hS hout hlocks rfl (Nat.le_of_ble_eq_true rfl) (Nat.le_of_ble_eq_true rfl)
    · rw [if_neg c4] at hM
      refine lv_aload_n hx hb dX2_after_13 rfl (lv_at hl 0 rfl) ?_
      refine lv_iconst (v := (1 : Int32)) hx hb dX2_after_14 (by decide) ?_
      have er13 : MX2_fail (1 : Int32) r1.2.2.1 = some ((1 : Int32), r1.2.2.1) := rfl
      refine k_r0 [0, 1] (va_runV (As := [.int (1 : Int32)]) (rest := []) ⟨hx, hb, hml, hown, hts⟩ (ctX2_fail l D dA _ (za 0) (za 1) (1 : Int32) k9.1 r1.1 r1.2.1 r1.2.2.1 r1.2.2.2.1 0 k9.2.1 k9.2.2 (.ref (za 2)) (.ref (za 3)) (zwv u2 r1.2.2.2.2.1) (.ref (za 4)) (zav u2 r1.2.2.2.2.2.1) .null .null .null .null .null _ er13) (cwV 1 hts (lw_V q619 q621 qs7 q114 q622) rfl rfl rfl (by decide +kernel) ⟨Nat.le_of_ble_eq_true rfl, Nat.le_of_ble_eq_true rfl⟩) (pre_V (hP.sub [0, 1] rfl) hK (hD.sub [0, 1] (by decide) rfl) (ci := 1) (q0 := 0) rfl rfl) rfl rfl hl.1 rfl (lv_room (Nat.le_of_ble_eq_true rfl)) dX2_after_15 ⟨Nat.le_of_ble_eq_true rfl, Nat.le_of_ble_eq_true rfl⟩) hP hD hS hA rfl (fun _ => rfl) (fun u14 H locs hP hD hS => ?_)
      have hP : va_P D clG (zw dA za (k9.1, (1 : Int32), r1.2.2.1) tx u2 r1) H := hP
      have hD : va_D A (zw dA za (k9.1, (1 : Int32), r1.2.2.1) tx u2 r1) := hD
      have hM := Sum.inl.inj (Option.some.inj hM)
      subst hM
      exact z_throw hx hb dX2_after_18 hK hP hD hS hout hlocks rfl (Nat.le_of_ble_eq_true rfl) (Nat.le_of_ble_eq_true rfl)
set_option maxHeartbeats 40000000 in
theorem ctZ_begins (l : Launch) (D : va_G) (dA : Nat → ClassId) (sz : Nat) (za : Nat → Nat) (h : ZH) (tx : AI) (k9 : Int32 × Int32 × Int32) (ka kv : Nat → Nat) (s : ZS) (p0 : Bool) (r : ZS) (hM : MZ_begins tx k9.1 s p0 = some (.inr r)) : Met l yX2_begins (ws_ yX2_begins cX2_begins 2 none) ({ frames := 6, cells := 2, slots := 12, locals := 305 }) (preX D dA (ZE ka kv) [.ref (za 0), .int (b2i p0)] (zw dA za k9 tx h s) sz) (qz_ D (fun (u : ZH) => none) (fun u => zext h u s r) (fun u => zw dA za k9 tx u r) (va_A (zw dA za k9 tx h s) sz)) 2 12 (va_A (zw dA za k9 tx h s) sz) := by
  refine Met.ofW (cc := cX2_begins) (maxL := 2) (ret := none) (by decide) rfl ?_
  intro p e s0 m args below meth c s₁ B hml hv
  obtain ⟨rfl, hsz, hP, hK, hD0, hE⟩ := hv
  have hx := B.exec
  have hb := B.bytes
  have hr := B.returns
  have hts := atoms_spec (ws := (ws_ yX2_begins cX2_begins 2 none)) B.pre
  have hts : ∀ w ∈ lw_all, w.before _ s0 = true := fun w h => hts w (List.mem_cons_of_mem _ h)
  have hown : s0.vm.findClass RX2 = some m.cls := findClass_of_methodNamed B.named
  have hlocks := B.notSynchronized
  subst hsz
  have hD := hD0.self (sz := s0.heap.size)
  generalize hAe : va_A (zw dA za k9 tx h s) s0.heap.size = A at hD hE ⊢
  have hA : ∀ q : Nat, s0.heap.size ≤ q → A q := fun q h => by rw [← hAe]; exact Or.inr h
  have hS : va_S A s0.heap s0.heap [] := va_S.rf
  have hl := lv_entry ([.ref (za 0), .int (b2i p0)]) (n := 2) (Nat.le_of_ble_eq_true rfl)
  rw [lg_entry_eq]
  generalize (lg_sl ([.ref (za 0), .int (b2i p0)]) ++ List.replicate (2 - (lg_sl ([.ref (za 0), .int (b2i p0)])).length) Slot.unset).toArray = ls at hl ⊢
  have hl : lv_has ls 2 [(0, .ref (za 0)), (1, .int (b2i p0))] := hl
  unfold MZ_begins at hM
  refine lv_iload_n hx hb dX2_begins_0 rfl (lv_at hl 1 rfl) ?_
  refine lv_if_ne (tgt := 10) hx hb dX2_begins_1 (by decide) (fun c1 => ?_) (fun c1 => ?_)
  · rw [if_neg c1] at hM
    refine lv_aload_n hx hb dX2_begins_10 rfl (lv_at hl 0 rfl) ?_
    refine va_get (D := D) (ci := 1) (v := .ref (za 4)) (C := RX2) (T := TX2) (N := 11) hx hb hts in_X2 hown hK.1 hP 0 rfl rfl 9 (by decide) (hts _ q235) (fun _ h9 => h9) rfl dX2_begins_11 ?_
    refine va_get (D := D) (ci := 6) (v := .int s.2.2.2.2.2.2.2.1) (C := RX8) (T := TX8) (N := 13) hx hb hts in_X8 hown hK.1 hP 4 rfl rfl 6 (by decide) (hts _ q476) (fun _ h9 => h9) rfl dX2_begins_14 ?_
    refine lv_if_ge (tgt := 27) hx hb dX2_begins_17 (by decide) (fun c2 => ?_) (fun c2 => ?_)
    · rw [if_pos c2] at hM
      refine lv_aload_n hx hb dX2_begins_27 rfl (lv_at hl 0 rfl) ?_
      obtain ⟨r3, er3, hM⟩ := b_inv hM
      refine k_w (va_runV (As := []) (rest := []) ⟨hx, hb, hml, hown, hts⟩ (ctZ_step l D dA _ za h tx k9 ka kv s r3 er3 ) (cwV 0 hts (lw_V q521 q523 qs4 q114 q524) rfl rfl rfl (by decide +kernel) ⟨Nat.le_of_ble_eq_true rfl, Nat.le_of_ble_eq_true rfl⟩) (preX_V ZE_ok hP hK hD (ev_at ZE_ok hE hS (w_free hD hS hA)) hP (ci := 1) (q0 := 0) rfl rfl) rfl rfl hl.1 rfl (lv_room (Nat.le_of_ble_eq_true rfl)) dX2_begins_28 ⟨Nat.le_of_ble_eq_true rfl, Nat.le_of_ble_eq_true rfl⟩) hD hS hA (fun u4 H locs x5 hP hD hS => ?_)
      refine W.widen (k := 2) (n := 12) (Nat.le_of_ble_eq_true rfl) (Nat.le_of_ble_eq_true rfl) ?_
      refine W.eq (g2 := F0 m 31 ls []) (by first | rfl | (rfl; rfl) | (rfl) | (simp only [*]; rfl) | simp only [*]) ?_
      have hM := Sum.inr.inj (Option.some.inj hM)
      subst hM
      refine W.widen (k := 2) (n := 12) (Nat.le_of_ble_eq_true rfl) (Nat.le_of_ble_eq_true rfl) ?_
      exact W.vret hx hb hr (fun t ht hW => ⟨⟨u4, rfl, (zext_trans zext_rf x5), by rw [ht]; exact hP, hD⟩, hS.F ht⟩) hS.2.2 dX2_begins_31
    · rw [if_neg c2] at hM
      refine lv_aload_n hx hb dX2_begins_20 rfl (lv_at hl 0 rfl) ?_
      refine lv_bipush (v := (6 : Int32)) hx hb dX2_begins_21 (by decide) ?_
      have er6 : MX2_fail (6 : Int32) s.2.2.1 = some ((6 : Int32), s.2.2.1) := rfl
      refine k_r0 [0, 1] (va_runV (As := [.int (6 : Int32)]) (rest := []) ⟨hx, hb, hml, hown, hts⟩ (ctX2_fail l D dA _ (za 0) (za 1) (6 : Int32) k9.1 s.1 s.2.1 s.2.2.1 s.2.2.2.1 0 k9.2.1 k9.2.2 (.ref (za 2)) (.ref (za 3)) (zwv h s.2.2.2.2.1) (.ref (za 4)) (zav h s.2.2.2.2.2.1) .null .null .null .null .null _ er6) (cwV 1 hts (lw_V q619 q621 qs7 q114 q622) rfl rfl rfl (by decide +kernel) ⟨Nat.le_of_ble_eq_true rfl, Nat.le_of_ble_eq_true rfl⟩) (pre_V (hP.sub [0, 1] rfl) hK (hD.sub [0, 1] (by decide) rfl) (ci := 1) (q0 := 0) rfl rfl) rfl rfl hl.1 rfl (lv_room (Nat.le_of_ble_eq_true rfl)) dX2_begins_23 ⟨Nat.le_of_ble_eq_true rfl, Nat.le_of_ble_eq_true rfl⟩) hP hD hS hA rfl (fun _ => rfl) (fun u7 H locs hP hD hS => ?_)
      have hP : va_P D clG (zw dA za (k9.1, (6 : Int32), s.2.2.1) tx h s) H := hP
      have hD : va_D A (zw dA za (k9.1, (6 : Int32), s.2.2.1) tx h s) := hD
      cases hM
  · rw [if_pos c1] at hM
    refine lv_aload_n hx hb dX2_begins_4 rfl (lv_at hl 0 rfl) ?_
    refine lv_iconst (v := (5 : Int32)) hx hb dX2_begins_5 (by decide) ?_
    have er8 : MX2_fail (5 : Int32) s.2.2.1 = some ((5 : Int32), s.2.2.1) := rfl
    refine k_r0 [0, 1] (va_runV (As := [.int (5 : Int32)]) (rest := []) ⟨hx, hb, hml, hown, hts⟩ (ctX2_fail l D dA _ (za 0) (za 1) (5 : Int32) k9.1 s.1 s.2.1 s.2.2.1 s.2.2.2.1 0 k9.2.1 k9.2.2 (.ref (za 2)) (.ref (za 3)) (zwv h s.2.2.2.2.1) (.ref (za 4)) (zav h s.2.2.2.2.2.1) .null .null .null .null .null _ er8) (cwV 1 hts (lw_V q619 q621 qs7 q114 q622) rfl rfl rfl (by decide +kernel) ⟨Nat.le_of_ble_eq_true rfl, Nat.le_of_ble_eq_true rfl⟩) (pre_V (hP.sub [0, 1] rfl) hK (hD.sub [0, 1] (by decide) rfl) (ci := 1) (q0 := 0) rfl rfl) rfl rfl hl.1 rfl (lv_room (Nat.le_of_ble_eq_true rfl)) dX2_begins_6 ⟨Nat.le_of_ble_eq_true rfl, Nat.le_of_ble_eq_true rfl⟩) hP hD hS hA rfl (fun _ => rfl) (fun u9 H locs hP hD hS => ?_)
    have hP : va_P D clG (zw dA za (k9.1, (5 : Int32), s.2.2.1) tx h s) H := hP
    have hD : va_D A (zw dA za (k9.1, (5 : Int32), s.2.2.1) tx h s) := hD
    cases hM
set_option maxHeartbeats 40000000 in
theorem ceZ_begins (l : Launch) (D : va_G) (dA : Nat → ClassId) (sz : Nat) (za : Nat → Nat) (h : ZH) (tx : AI) (k9 : Int32 × Int32 × Int32) (ka kv : Nat → Nat) (s : ZS) (p0 : Bool) (er : Int32 × Int32) (hM : MZ_begins tx k9.1 s p0 = some (.inl er)) : vy_Met l yX2_begins (ws_ yX2_begins cX2_begins 2 none) ({ frames := 6, cells := 2, slots := 12, locals := 305 }) (preX D dA (ZE ka kv) [.ref (za 0), .int (b2i p0)] (zw dA za k9 tx h s) sz) (fun _ _ _ _ => False) (zQ D dA za tx er (va_A (zw dA za k9 tx h s) sz)) 2 12 (va_A (zw dA za k9 tx h s) sz) := by
  refine vy_ofW (cc := cX2_begins) (maxL := 2) (ret := none) (by decide) rfl ?_
  intro p e s0 m args below meth c s₁ B hml hout hv
  obtain ⟨rfl, hsz, hP, hK, hD0, hE⟩ := hv
  have hx := B.exec
  have hb := B.bytes
  have hr := B.returns
  have hts := atoms_spec (ws := (ws_ yX2_begins cX2_begins 2 none)) B.pre
  have hts : ∀ w ∈ lw_all, w.before _ s0 = true := fun w h => hts w (List.mem_cons_of_mem _ h)
  have hown : s0.vm.findClass RX2 = some m.cls := findClass_of_methodNamed B.named
  have hlocks := B.notSynchronized
  subst hsz
  have hD := hD0.self (sz := s0.heap.size)
  generalize hAe : va_A (zw dA za k9 tx h s) s0.heap.size = A at hD hE ⊢
  have hA : ∀ q : Nat, s0.heap.size ≤ q → A q := fun q h => by rw [← hAe]; exact Or.inr h
  have hS : va_S A s0.heap s0.heap [] := va_S.rf
  have hl := lv_entry ([.ref (za 0), .int (b2i p0)]) (n := 2) (Nat.le_of_ble_eq_true rfl)
  rw [lg_entry_eq]
  generalize (lg_sl ([.ref (za 0), .int (b2i p0)]) ++ List.replicate (2 - (lg_sl ([.ref (za 0), .int (b2i p0)])).length) Slot.unset).toArray = ls at hl ⊢
  have hl : lv_has ls 2 [(0, .ref (za 0)), (1, .int (b2i p0))] := hl
  unfold MZ_begins at hM
  refine lv_iload_n hx hb dX2_begins_0 rfl (lv_at hl 1 rfl) ?_
  refine lv_if_ne (tgt := 10) hx hb dX2_begins_1 (by decide) (fun c1 => ?_) (fun c1 => ?_)
  · rw [if_neg c1] at hM
    refine lv_aload_n hx hb dX2_begins_10 rfl (lv_at hl 0 rfl) ?_
    refine va_get (D := D) (ci := 1) (v := .ref (za 4)) (C := RX2) (T := TX2) (N := 11) hx hb hts in_X2 hown hK.1 hP 0 rfl rfl 9 (by decide) (hts _ q235) (fun _ h9 => h9) rfl dX2_begins_11 ?_
    refine va_get (D := D) (ci := 6) (v := .int s.2.2.2.2.2.2.2.1) (C := RX8) (T := TX8) (N := 13) hx hb hts in_X8 hown hK.1 hP 4 rfl rfl 6 (by decide) (hts _ q476) (fun _ h9 => h9) rfl dX2_begins_14 ?_
    refine lv_if_ge (tgt := 27) hx hb dX2_begins_17 (by decide) (fun c2 => ?_) (fun c2 => ?_)
    · rw [if_pos c2] at hM
      refine lv_aload_n hx hb dX2_begins_27 rfl (lv_at hl 0 rfl) ?_
      obtain ⟨r3, er3, hM⟩ := b_inv hM
      refine k_w (va_runV (As := []) (rest := []) ⟨hx, hb, hml, hown, hts⟩ (ctZ_step l D dA _ za h tx k9 ka kv s r3 er3 ) (cwV 0 hts (lw_V q521 q523 qs4 q114 q524) rfl rfl rfl (by decide +kernel) ⟨Nat.le_of_ble_eq_true rfl, Nat.le_of_ble_eq_true rfl⟩) (preX_V ZE_ok hP hK hD (ev_at ZE_ok hE hS (w_free hD hS hA)) hP (ci := 1) (q0 := 0) rfl rfl) rfl rfl hl.1 rfl (lv_room (Nat.le_of_ble_eq_true rfl)) dX2_begins_28 ⟨Nat.le_of_ble_eq_true rfl, Nat.le_of_ble_eq_true rfl⟩) hD hS hA (fun u4 H locs x5 hP hD hS => ?_)
      refine W.widen (k := 2) (n := 12) (Nat.le_of_ble_eq_true rfl) (Nat.le_of_ble_eq_true rfl) ?_
      refine W.eq (g2 := F0 m 31 ls []) (by first | rfl | (rfl; rfl) | (rfl) | (simp only [*]; rfl) | simp only [*]) ?_
      cases hM
    · rw [if_neg c2] at hM
      refine lv_aload_n hx hb dX2_begins_20 rfl (lv_at hl 0 rfl) ?_
      refine lv_bipush (v := (6 : Int32)) hx hb dX2_begins_21 (by decide) ?_
      have er6 : MX2_fail (6 : Int32) s.2.2.1 = some ((6 : Int32), s.2.2.1) := rfl
      refine k_r0 [0, 1] (va_runV (As := [.int (6 : Int32)]) (rest := []) ⟨hx, hb, hml, hown, hts⟩ (ctX2_fail l D dA _ (za 0) (za 1) (6 : Int32) k9.1 s.1 s.2.1 s.2.2.1 s.2.2.2.1 0 k9.2.1 k9.2.2 (.ref (za 2)) (.ref (za 3)) (zwv h s.2.2.2.2.1) (.ref (za 4)) (zav h s.2.2.2.2.2.1) .null .null .null .null .null _ er6) (cwV 1 hts (lw_V q619 q621 qs7 q114 q622) rfl rfl rfl (by decide +kernel) ⟨Nat.le_of_ble_eq_true rfl, Nat.le_of_ble_eq_true rfl⟩) (pre_V (hP.sub [0, 1] rfl) hK (hD.sub [0, 1] (by decide) rfl) (ci := 1) (q0 := 0) rfl rfl) rfl rfl hl.1 rfl (lv_room (Nat.le_of_ble_eq_true rfl)) dX2_begins_23 ⟨Nat.le_of_ble_eq_true rfl, Nat.le_of_ble_eq_true rfl⟩) hP hD hS hA rfl (fun _ => rfl) (fun u7 H locs hP hD hS => ?_)
      have hP : va_P D clG (zw dA za (k9.1, (6 : Int32), s.2.2.1) tx h s) H := hP
      have hD : va_D A (zw dA za (k9.1, (6 : Int32), s.2.2.1) tx h s) := hD
      have hM := Sum.inl.inj (Option.some.inj hM)
      subst hM
      exact z_throw hx hb dX2_begins_26 hK hP hD hS hout hlocks rfl (Nat.le_of_ble_eq_true rfl) (Nat.le_of_ble_eq_true rfl)
  · rw [if_pos c1] at hM
    refine lv_aload_n hx hb dX2_begins_4 rfl (lv_at hl 0 rfl) ?_
    refine lv_iconst (v := (5 : Int32)) hx hb dX2_begins_5 (by decide) ?_
    have er8 : MX2_fail (5 : Int32) s.2.2.1 = some ((5 : Int32), s.2.2.1) := rfl
    refine k_r0 [0, 1] (va_runV (As := [.int (5 : Int32)]) (rest := []) ⟨hx, hb, hml, hown, hts⟩ (ctX2_fail l D dA _ (za 0) (za 1) (5 : Int32) k9.1 s.1 s.2.1 s.2.2.1 s.2.2.2.1 0 k9.2.1 k9.2.2 (.ref (za 2)) (.ref (za 3)) (zwv h s.2.2.2.2.1) (.ref (za 4)) (zav h s.2.2.2.2.2.1) .null .null .null .null .null _ er8) (cwV 1 hts (lw_V q619 q621 qs7 q114 q622) rfl rfl rfl (by decide +kernel) ⟨Nat.le_of_ble_eq_true rfl, Nat.le_of_ble_eq_true rfl⟩) (pre_V (hP.sub [0, 1] rfl) hK (hD.sub [0, 1] (by decide) rfl) (ci := 1) (q0 := 0) rfl rfl) rfl rfl hl.1 rfl (lv_room (Nat.le_of_ble_eq_true rfl)) dX2_begins_6 ⟨Nat.le_of_ble_eq_true rfl, Nat.le_of_ble_eq_true rfl⟩) hP hD hS hA rfl (fun _ => rfl) (fun u9 H locs hP hD hS => ?_)
    have hP : va_P D clG (zw dA za (k9.1, (5 : Int32), s.2.2.1) tx h s) H := hP
    have hD : va_D A (zw dA za (k9.1, (5 : Int32), s.2.2.1) tx h s) := hD
    have hM := Sum.inl.inj (Option.some.inj hM)
    subst hM
    exact z_throw hx hb dX2_begins_9 hK hP hD hS hout hlocks rfl (Nat.le_of_ble_eq_true rfl) (Nat.le_of_ble_eq_true rfl)
set_option maxHeartbeats 40000000 in
theorem ctZ_cityLine (l : Launch) (D : va_G) (dA : Nat → ClassId) (sz : Nat) (za : Nat → Nat) (h : ZH) (tx : AI) (k9 : Int32 × Int32 × Int32) (ka kv : Nat → Nat) (s : ZS) (r : ZS) (hM : MZ_cityLine tx k9.1 s = some (.inr r)) : Met l yX2_cityLine (ws_ yX2_cityLine cX2_cityLine 2 none) ({ frames := 9, cells := 10, slots := 60, locals := 371 }) (preX D dA (ZE ka kv) [.ref (za 0)] (zw dA za k9 tx h s) sz) (qz_ D (fun (u : ZH) => none) (fun u => zext h u s r) (fun u => zw dA za k9 tx u r) (va_A (zw dA za k9 tx h s) sz)) 10 60 (va_A (zw dA za k9 tx h s) sz) := by
  refine Met.ofW (cc := cX2_cityLine) (maxL := 2) (ret := none) (by decide) rfl ?_
  intro p e s0 m args below meth c s₁ B hml hv
  obtain ⟨rfl, hsz, hP, hK, hD0, hE⟩ := hv
  have hx := B.exec
  have hb := B.bytes
  have hr := B.returns
  have hts := atoms_spec (ws := (ws_ yX2_cityLine cX2_cityLine 2 none)) B.pre
  have hts : ∀ w ∈ lw_all, w.before _ s0 = true := fun w h => hts w (List.mem_cons_of_mem _ h)
  have hown : s0.vm.findClass RX2 = some m.cls := findClass_of_methodNamed B.named
  have hlocks := B.notSynchronized
  subst hsz
  have hD := hD0.self (sz := s0.heap.size)
  generalize hAe : va_A (zw dA za k9 tx h s) s0.heap.size = A at hD hE ⊢
  have hA : ∀ q : Nat, s0.heap.size ≤ q → A q := fun q h => by rw [← hAe]; exact Or.inr h
  have hS : va_S A s0.heap s0.heap [] := va_S.rf
  have hl := lv_entry ([.ref (za 0)]) (n := 2) (Nat.le_of_ble_eq_true rfl)
  rw [lg_entry_eq]
  generalize (lg_sl ([.ref (za 0)]) ++ List.replicate (2 - (lg_sl ([.ref (za 0)])).length) Slot.unset).toArray = ls at hl ⊢
  have hl : lv_has ls 2 [(0, .ref (za 0))] := hl
  unfold MZ_cityLine at hM
  refine lv_aload_n hx hb dX2_cityLine_0 rfl (lv_at hl 0 rfl) ?_
  refine va_get (D := D) (ci := 1) (v := .ref (za 4)) (C := RX2) (T := TX2) (N := 11) hx hb hts in_X2 hown hK.1 hP 0 rfl rfl 9 (by decide) (hts _ q235) (fun _ h9 => h9) rfl dX2_cityLine_1 ?_
  refine va_get (D := D) (ci := 6) (v := .int s.2.2.2.2.2.2.2.1) (C := RX8) (T := TX8) (N := 13) hx hb hts in_X8 hown hK.1 hP 4 rfl rfl 6 (by decide) (hts _ q476) (fun _ h9 => h9) rfl dX2_cityLine_4 ?_
  refine lv_if_lt (tgt := 16) hx hb dX2_cityLine_7 (by decide) (fun c1 => ?_) (fun c1 => ?_)
  · rw [if_pos c1] at hM
    refine lv_aload_n hx hb dX2_cityLine_16 rfl (lv_at hl 0 rfl) ?_
    obtain ⟨r2, er2, hM⟩ := b_inv hM
    refine k_w (va_runV (As := []) (rest := []) ⟨hx, hb, hml, hown, hts⟩ (ctZ_step l D dA _ za h tx k9 ka kv s r2 er2 ) (cwV 0 hts (lw_V q521 q523 qs4 q114 q524) rfl rfl rfl (by decide +kernel) ⟨Nat.le_of_ble_eq_true rfl, Nat.le_of_ble_eq_true rfl⟩) (preX_V ZE_ok hP hK hD (ev_at ZE_ok hE hS (w_free hD hS hA)) hP (ci := 1) (q0 := 0) rfl rfl) rfl rfl hl.1 rfl (lv_room (Nat.le_of_ble_eq_true rfl)) dX2_cityLine_17 ⟨Nat.le_of_ble_eq_true rfl, Nat.le_of_ble_eq_true rfl⟩) hD hS hA (fun u3 H locs x4 hP hD hS => ?_)
    refine W.widen (k := 2) (n := 12) (Nat.le_of_ble_eq_true rfl) (Nat.le_of_ble_eq_true rfl) ?_
    refine W.eq (g2 := F0 m 20 ls []) (by first | rfl | (rfl; rfl) | (rfl) | (simp only [*]; rfl) | simp only [*]) ?_
    refine lv_aload_n hx hb dX2_cityLine_20 rfl (lv_at hl 0 rfl) ?_
    refine va_ldcS hx hb hown (hE.2.2.1 7 (Nat.zero_le _) (by decide)) dX2_cityLine_21 ?_
    refine lv_iconst (v := (0 : Int32)) hx hb dX2_cityLine_23 (by decide) ?_
    refine lv_bipush (v := (99 : Int32)) hx hb dX2_cityLine_24 (by decide) ?_
    obtain ⟨r5_, er5, hM⟩ := b_inv hM
    cases r5_ with
    | inl e9 =>
      dsimp only at hM
      cases hM
    | inr r5 =>
      dsimp only at hM
      refine k_w (va_runV (As := [.ref (ka 7), .int (0 : Int32), .int (99 : Int32)]) (rest := []) ⟨hx, hb, hml, hown, hts⟩ (ctZ_after l D dA _ za u3 tx k9 ka kv r2 7 (0 : Int32) (99 : Int32) r5 er5 (by decide)) (cwV 3 hts (lw_V q699 q701 qs9 q114 q702) rfl rfl rfl (by decide +kernel) ⟨Nat.le_of_ble_eq_true rfl, Nat.le_of_ble_eq_true rfl⟩) (preX_V ZE_ok hP hK hD (ev_at ZE_ok hE hS (w_free hD hS hA)) hP (ci := 1) (q0 := 0) rfl rfl) rfl rfl hl.1 rfl (lv_room (Nat.le_of_ble_eq_true rfl)) dX2_cityLine_26 ⟨Nat.le_of_ble_eq_true rfl, Nat.le_of_ble_eq_true rfl⟩) hD hS hA (fun u6 H locs x7 hP hD hS => ?_)
      refine W.widen (k := 6) (n := 36) (Nat.le_of_ble_eq_true rfl) (Nat.le_of_ble_eq_true rfl) ?_
      refine W.eq (g2 := F0 m 29 ls [.int r5.1]) (by first | rfl | (rfl; rfl) | (rfl) | (simp only [*]; rfl) | simp only [*]) ?_
      refine lv_istore_n (lv' := [(1, .int r5.1), (0, .ref (za 0))]) hx hb dX2_cityLine_29 rfl hl (by decide) rfl (fun ls hl => ?_)
      refine lv_aload_n hx hb dX2_cityLine_30 rfl (lv_at hl 1 rfl) ?_
      refine va_get (D := D) (ci := 1) (v := .ref (za 4)) (C := RX2) (T := TX2) (N := 11) hx hb hts in_X2 hown hK.1 hP 0 rfl rfl 9 (by decide) (hts _ q235) (fun _ h9 => h9) rfl dX2_cityLine_31 ?_
      refine lv_aload_n hx hb dX2_cityLine_34 rfl (lv_at hl 1 rfl) ?_
      refine va_ldcS hx hb hown (hE.2.2.1 8 (Nat.zero_le _) (by decide)) dX2_cityLine_35 ?_
      refine lv_iconst (v := (0 : Int32)) hx hb dX2_cityLine_37 (by decide) ?_
      refine lv_bipush (v := (9 : Int32)) hx hb dX2_cityLine_38 (by decide) ?_
      obtain ⟨r8_, er8, hM⟩ := b_inv hM
      cases r8_ with
      | inl e9 =>
        dsimp only at hM
        cases hM
      | inr r8 =>
        dsimp only at hM
        refine k_w (va_runV (As := [.ref (ka 8), .int (0 : Int32), .int (9 : Int32)]) (rest := [.ref (za 4)]) ⟨hx, hb, hml, hown, hts⟩ (ctZ_after l D dA _ za u6 tx k9 ka kv r5.2 8 (0 : Int32) (9 : Int32) r8 er8 (by decide)) (cwV 3 hts (lw_V q699 q701 qs9 q114 q702) rfl rfl rfl (by decide +kernel) ⟨Nat.le_of_ble_eq_true rfl, Nat.le_of_ble_eq_true rfl⟩) (preX_V ZE_ok hP hK hD (ev_at ZE_ok hE hS (w_free hD hS hA)) hP (ci := 1) (q0 := 0) rfl rfl) rfl rfl hl.1 rfl (lv_room (Nat.le_of_ble_eq_true rfl)) dX2_cityLine_40 ⟨Nat.le_of_ble_eq_true rfl, Nat.le_of_ble_eq_true rfl⟩) hD hS hA (fun u9 H locs x10 hP hD hS => ?_)
        refine W.widen (k := 10) (n := 60) (Nat.le_of_ble_eq_true rfl) (Nat.le_of_ble_eq_true rfl) ?_
        refine W.eq (g2 := F0 m 43 ls [.int r8.1, .ref (za 4)]) (by first | rfl | (rfl; rfl) | (rfl) | (simp only [*]; rfl) | simp only [*]) ?_
        refine va_put (D := D) (ci := 6) (v := .int r8.1) (ty := .int) (C := RX8) (T := TX8) (N := 13) hx hb hts in_X8 tyX8 tyX8_ok nmX8 hown hK.1 hP hD hS 4 rfl rfl 7 (by decide) (hts _ q478) (fun _ h9 => h9) rfl (by decide +kernel) rfl rfl (Nat.le_of_ble_eq_true rfl) dX2_cityLine_43 (fun H locs hP hD hS => ?_)
        have hP : va_P D clG (zw dA za k9 tx u9 (r8.2.1, r8.2.2.1, r8.2.2.2.1, r8.2.2.2.2.1, r8.2.2.2.2.2.1, r8.2.2.2.2.2.2.1, r8.2.2.2.2.2.2.2.1, r8.2.2.2.2.2.2.2.2.1, r8.1, r8.2.2.2.2.2.2.2.2.2.2.1, r8.2.2.2.2.2.2.2.2.2.2.2.1, r8.2.2.2.2.2.2.2.2.2.2.2.2.1, r8.2.2.2.2.2.2.2.2.2.2.2.2.2.1, r8.2.2.2.2.2.2.2.2.2.2.2.2.2.2.1, r8.2.2.2.2.2.2.2.2.2.2.2.2.2.2.2.1, r8.2.2.2.2.2.2.2.2.2.2.2.2.2.2.2.2.1, r8.2.2.2.2.2.2.2.2.2.2.2.2.2.2.2.2.2.1, r8.2.2.2.2.2.2.2.2.2.2.2.2.2.2.2.2.2.2.1, r8.2.2.2.2.2.2.2.2.2.2.2.2.2.2.2.2.2.2.2.1, r8.2.2.2.2.2.2.2.2.2.2.2.2.2.2.2.2.2.2.2.2.1, r8.2.2.2.2.2.2.2.2.2.2.2.2.2.2.2.2.2.2.2.2.2.1, r8.2.2.2.2.2.2.2.2.2.2.2.2.2.2.2.2.2.2.2.2.2.2.1, r8.2.2.2.2.2.2.2.2.2.2.2.2.2.2.2.2.2.2.2.2.2.2.2.1, r8.2.2.2.2.2.2.2.2.2.2.2.2.2.2.2.2.2.2.2.2.2.2.2.2.1, r8.2.2.2.2.2.2.2.2.2.2.2.2.2.2.2.2.2.2.2.2.2.2.2.2.2.1, r8.2.2.2.2.2.2.2.2.2.2.2.2.2.2.2.2.2.2.2.2.2.2.2.2.2.2.1, r8.2.2.2.2.2.2.2.2.2.2.2.2.2.2.2.2.2.2.2.2.2.2.2.2.2.2.2.1, r8.2.2.2.2.2.2.2.2.2.2.2.2.2.2.2.2.2.2.2.2.2.2.2.2.2.2.2.2.1, r8.2.2.2.2.2.2.2.2.2.2.2.2.2.2.2.2.2.2.2.2.2.2.2.2.2.2.2.2.2.1, r8.2.2.2.2.2.2.2.2.2.2.2.2.2.2.2.2.2.2.2.2.2.2.2.2.2.2.2.2.2.2.1, r8.2.2.2.2.2.2.2.2.2.2.2.2.2.2.2.2.2.2.2.2.2.2.2.2.2.2.2.2.2.2.2.1, r8.2.2.2.2.2.2.2.2.2.2.2.2.2.2.2.2.2.2.2.2.2.2.2.2.2.2.2.2.2.2.2.2)) H := zP_set hP (Nat.le_of_ble_eq_true rfl) rfl rfl
        have hD : va_D A (zw dA za k9 tx u9 (r8.2.1, r8.2.2.1, r8.2.2.2.1, r8.2.2.2.2.1, r8.2.2.2.2.2.1, r8.2.2.2.2.2.2.1, r8.2.2.2.2.2.2.2.1, r8.2.2.2.2.2.2.2.2.1, r8.1, r8.2.2.2.2.2.2.2.2.2.2.1, r8.2.2.2.2.2.2.2.2.2.2.2.1, r8.2.2.2.2.2.2.2.2.2.2.2.2.1, r8.2.2.2.2.2.2.2.2.2.2.2.2.2.1, r8.2.2.2.2.2.2.2.2.2.2.2.2.2.2.1, r8.2.2.2.2.2.2.2.2.2.2.2.2.2.2.2.1, r8.2.2.2.2.2.2.2.2.2.2.2.2.2.2.2.2.1, r8.2.2.2.2.2.2.2.2.2.2.2.2.2.2.2.2.2.1, r8.2.2.2.2.2.2.2.2.2.2.2.2.2.2.2.2.2.2.1, r8.2.2.2.2.2.2.2.2.2.2.2.2.2.2.2.2.2.2.2.1, r8.2.2.2.2.2.2.2.2.2.2.2.2.2.2.2.2.2.2.2.2.1, r8.2.2.2.2.2.2.2.2.2.2.2.2.2.2.2.2.2.2.2.2.2.1, r8.2.2.2.2.2.2.2.2.2.2.2.2.2.2.2.2.2.2.2.2.2.2.1, r8.2.2.2.2.2.2.2.2.2.2.2.2.2.2.2.2.2.2.2.2.2.2.2.1, r8.2.2.2.2.2.2.2.2.2.2.2.2.2.2.2.2.2.2.2.2.2.2.2.2.1, r8.2.2.2.2.2.2.2.2.2.2.2.2.2.2.2.2.2.2.2.2.2.2.2.2.2.1, r8.2.2.2.2.2.2.2.2.2.2.2.2.2.2.2.2.2.2.2.2.2.2.2.2.2.2.1, r8.2.2.2.2.2.2.2.2.2.2.2.2.2.2.2.2.2.2.2.2.2.2.2.2.2.2.2.1, r8.2.2.2.2.2.2.2.2.2.2.2.2.2.2.2.2.2.2.2.2.2.2.2.2.2.2.2.2.1, r8.2.2.2.2.2.2.2.2.2.2.2.2.2.2.2.2.2.2.2.2.2.2.2.2.2.2.2.2.2.1, r8.2.2.2.2.2.2.2.2.2.2.2.2.2.2.2.2.2.2.2.2.2.2.2.2.2.2.2.2.2.2.1, r8.2.2.2.2.2.2.2.2.2.2.2.2.2.2.2.2.2.2.2.2.2.2.2.2.2.2.2.2.2.2.2.1, r8.2.2.2.2.2.2.2.2.2.2.2.2.2.2.2.2.2.2.2.2.2.2.2.2.2.2.2.2.2.2.2.2)) := zD_set hD (Nat.le_of_ble_eq_true rfl) rfl rfl
        refine lv_aload_n hx hb dX2_cityLine_46 rfl (lv_at hl 1 rfl) ?_
        refine va_get (D := D) (ci := 1) (v := .ref (za 4)) (C := RX2) (T := TX2) (N := 11) hx hb hts in_X2 hown hK.1 hP 0 rfl rfl 9 (by decide) (hts _ q235) (fun _ h9 => h9) rfl dX2_cityLine_47 ?_
        refine lv_iload_n hx hb dX2_cityLine_50 rfl (lv_at hl 0 rfl) ?_
        refine va_put (D := D) (ci := 6) (v := .int r5.1) (ty := .int) (C := RX8) (T := TX8) (N := 13) hx hb hts in_X8 tyX8 tyX8_ok nmX8 hown hK.1 hP hD hS 4 rfl rfl 6 (by decide) (hts _ q476) (fun _ h9 => h9) rfl (by decide +kernel) rfl rfl (Nat.le_of_ble_eq_true rfl) dX2_cityLine_51 (fun H locs hP hD hS => ?_)
        have hP : va_P D clG (zw dA za k9 tx u9 (r8.2.1, r8.2.2.1, r8.2.2.2.1, r8.2.2.2.2.1, r8.2.2.2.2.2.1, r8.2.2.2.2.2.2.1, r8.2.2.2.2.2.2.2.1, r5.1, r8.1, r8.2.2.2.2.2.2.2.2.2.2.1, r8.2.2.2.2.2.2.2.2.2.2.2.1, r8.2.2.2.2.2.2.2.2.2.2.2.2.1, r8.2.2.2.2.2.2.2.2.2.2.2.2.2.1, r8.2.2.2.2.2.2.2.2.2.2.2.2.2.2.1, r8.2.2.2.2.2.2.2.2.2.2.2.2.2.2.2.1, r8.2.2.2.2.2.2.2.2.2.2.2.2.2.2.2.2.1, r8.2.2.2.2.2.2.2.2.2.2.2.2.2.2.2.2.2.1, r8.2.2.2.2.2.2.2.2.2.2.2.2.2.2.2.2.2.2.1, r8.2.2.2.2.2.2.2.2.2.2.2.2.2.2.2.2.2.2.2.1, r8.2.2.2.2.2.2.2.2.2.2.2.2.2.2.2.2.2.2.2.2.1, r8.2.2.2.2.2.2.2.2.2.2.2.2.2.2.2.2.2.2.2.2.2.1, r8.2.2.2.2.2.2.2.2.2.2.2.2.2.2.2.2.2.2.2.2.2.2.1, r8.2.2.2.2.2.2.2.2.2.2.2.2.2.2.2.2.2.2.2.2.2.2.2.1, r8.2.2.2.2.2.2.2.2.2.2.2.2.2.2.2.2.2.2.2.2.2.2.2.2.1, r8.2.2.2.2.2.2.2.2.2.2.2.2.2.2.2.2.2.2.2.2.2.2.2.2.2.1, r8.2.2.2.2.2.2.2.2.2.2.2.2.2.2.2.2.2.2.2.2.2.2.2.2.2.2.1, r8.2.2.2.2.2.2.2.2.2.2.2.2.2.2.2.2.2.2.2.2.2.2.2.2.2.2.2.1, r8.2.2.2.2.2.2.2.2.2.2.2.2.2.2.2.2.2.2.2.2.2.2.2.2.2.2.2.2.1, r8.2.2.2.2.2.2.2.2.2.2.2.2.2.2.2.2.2.2.2.2.2.2.2.2.2.2.2.2.2.1, r8.2.2.2.2.2.2.2.2.2.2.2.2.2.2.2.2.2.2.2.2.2.2.2.2.2.2.2.2.2.2.1, r8.2.2.2.2.2.2.2.2.2.2.2.2.2.2.2.2.2.2.2.2.2.2.2.2.2.2.2.2.2.2.2.1, r8.2.2.2.2.2.2.2.2.2.2.2.2.2.2.2.2.2.2.2.2.2.2.2.2.2.2.2.2.2.2.2.2)) H := zP_set hP (Nat.le_of_ble_eq_true rfl) rfl rfl
        have hD : va_D A (zw dA za k9 tx u9 (r8.2.1, r8.2.2.1, r8.2.2.2.1, r8.2.2.2.2.1, r8.2.2.2.2.2.1, r8.2.2.2.2.2.2.1, r8.2.2.2.2.2.2.2.1, r5.1, r8.1, r8.2.2.2.2.2.2.2.2.2.2.1, r8.2.2.2.2.2.2.2.2.2.2.2.1, r8.2.2.2.2.2.2.2.2.2.2.2.2.1, r8.2.2.2.2.2.2.2.2.2.2.2.2.2.1, r8.2.2.2.2.2.2.2.2.2.2.2.2.2.2.1, r8.2.2.2.2.2.2.2.2.2.2.2.2.2.2.2.1, r8.2.2.2.2.2.2.2.2.2.2.2.2.2.2.2.2.1, r8.2.2.2.2.2.2.2.2.2.2.2.2.2.2.2.2.2.1, r8.2.2.2.2.2.2.2.2.2.2.2.2.2.2.2.2.2.2.1, r8.2.2.2.2.2.2.2.2.2.2.2.2.2.2.2.2.2.2.2.1, r8.2.2.2.2.2.2.2.2.2.2.2.2.2.2.2.2.2.2.2.2.1, r8.2.2.2.2.2.2.2.2.2.2.2.2.2.2.2.2.2.2.2.2.2.1, r8.2.2.2.2.2.2.2.2.2.2.2.2.2.2.2.2.2.2.2.2.2.2.1, r8.2.2.2.2.2.2.2.2.2.2.2.2.2.2.2.2.2.2.2.2.2.2.2.1, r8.2.2.2.2.2.2.2.2.2.2.2.2.2.2.2.2.2.2.2.2.2.2.2.2.1, r8.2.2.2.2.2.2.2.2.2.2.2.2.2.2.2.2.2.2.2.2.2.2.2.2.2.1, r8.2.2.2.2.2.2.2.2.2.2.2.2.2.2.2.2.2.2.2.2.2.2.2.2.2.2.1, r8.2.2.2.2.2.2.2.2.2.2.2.2.2.2.2.2.2.2.2.2.2.2.2.2.2.2.2.1, r8.2.2.2.2.2.2.2.2.2.2.2.2.2.2.2.2.2.2.2.2.2.2.2.2.2.2.2.2.1, r8.2.2.2.2.2.2.2.2.2.2.2.2.2.2.2.2.2.2.2.2.2.2.2.2.2.2.2.2.2.1, r8.2.2.2.2.2.2.2.2.2.2.2.2.2.2.2.2.2.2.2.2.2.2.2.2.2.2.2.2.2.2.1, r8.2.2.2.2.2.2.2.2.2.2.2.2.2.2.2.2.2.2.2.2.2.2.2.2.2.2.2.2.2.2.2.1, r8.2.2.2.2.2.2.2.2.2.2.2.2.2.2.2.2.2.2.2.2.2.2.2.2.2.2.2.2.2.2.2.2)) := zD_set hD (Nat.le_of_ble_eq_true rfl) rfl rfl
        have hM := Sum.inr.inj (Option.some.inj hM)
        subst hM
        refine W.widen (k := 10) (n := 60) (Nat.le_of_ble_eq_true rfl) (Nat.le_of_ble_eq_true rfl) ?_
        exact W.vret hx hb hr (fun t ht hW => ⟨⟨u9, rfl, (zext_trans (zext_trans (zext_trans zext_rf x4) x7) x10), by rw [ht]; exact hP, hD⟩, hS.F ht⟩) hS.2.2 dX2_cityLine_54
  · rw [if_neg c1] at hM
    refine lv_aload_n hx hb dX2_cityLine_10 rfl (lv_at hl 0 rfl) ?_
    refine lv_iconst (v := (3 : Int32)) hx hb dX2_cityLine_11 (by decide) ?_
    have er11 : MX2_fail (3 : Int32) s.2.2.1 = some ((3 : Int32), s.2.2.1) := rfl
    refine k_r0 [0, 1] (va_runV (As := [.int (3 : Int32)]) (rest := []) ⟨hx, hb, hml, hown, hts⟩ (ctX2_fail l D dA _ (za 0) (za 1) (3 : Int32) k9.1 s.1 s.2.1 s.2.2.1 s.2.2.2.1 0 k9.2.1 k9.2.2 (.ref (za 2)) (.ref (za 3)) (zwv h s.2.2.2.2.1) (.ref (za 4)) (zav h s.2.2.2.2.2.1) .null .null .null .null .null _ er11) (cwV 1 hts (lw_V q619 q621 qs7 q114 q622) rfl rfl rfl (by decide +kernel) ⟨Nat.le_of_ble_eq_true rfl, Nat.le_of_ble_eq_true rfl⟩) (pre_V (hP.sub [0, 1] rfl) hK (hD.sub [0, 1] (by decide) rfl) (ci := 1) (q0 := 0) rfl rfl) rfl rfl hl.1 rfl (lv_room (Nat.le_of_ble_eq_true rfl)) dX2_cityLine_12 ⟨Nat.le_of_ble_eq_true rfl, Nat.le_of_ble_eq_true rfl⟩) hP hD hS hA rfl (fun _ => rfl) (fun u12 H locs hP hD hS => ?_)
    have hP : va_P D clG (zw dA za (k9.1, (3 : Int32), s.2.2.1) tx h s) H := hP
    have hD : va_D A (zw dA za (k9.1, (3 : Int32), s.2.2.1) tx h s) := hD
    cases hM
set_option maxHeartbeats 40000000 in
theorem ceZ_cityLine (l : Launch) (D : va_G) (dA : Nat → ClassId) (sz : Nat) (za : Nat → Nat) (h : ZH) (tx : AI) (k9 : Int32 × Int32 × Int32) (ka kv : Nat → Nat) (s : ZS) (er : Int32 × Int32) (hM : MZ_cityLine tx k9.1 s = some (.inl er)) : vy_Met l yX2_cityLine (ws_ yX2_cityLine cX2_cityLine 2 none) ({ frames := 9, cells := 10, slots := 60, locals := 371 }) (preX D dA (ZE ka kv) [.ref (za 0)] (zw dA za k9 tx h s) sz) (fun _ _ _ _ => False) (zQ D dA za tx er (va_A (zw dA za k9 tx h s) sz)) 10 60 (va_A (zw dA za k9 tx h s) sz) := by
  refine vy_ofW (cc := cX2_cityLine) (maxL := 2) (ret := none) (by decide) rfl ?_
  intro p e s0 m args below meth c s₁ B hml hout hv
  obtain ⟨rfl, hsz, hP, hK, hD0, hE⟩ := hv
  have hx := B.exec
  have hb := B.bytes
  have hr := B.returns
  have hts := atoms_spec (ws := (ws_ yX2_cityLine cX2_cityLine 2 none)) B.pre
  have hts : ∀ w ∈ lw_all, w.before _ s0 = true := fun w h => hts w (List.mem_cons_of_mem _ h)
  have hown : s0.vm.findClass RX2 = some m.cls := findClass_of_methodNamed B.named
  have hlocks := B.notSynchronized
  subst hsz
  have hD := hD0.self (sz := s0.heap.size)
  generalize hAe : va_A (zw dA za k9 tx h s) s0.heap.size = A at hD hE ⊢
  have hA : ∀ q : Nat, s0.heap.size ≤ q → A q := fun q h => by rw [← hAe]; exact Or.inr h
  have hS : va_S A s0.heap s0.heap [] := va_S.rf
  have hl := lv_entry ([.ref (za 0)]) (n := 2) (Nat.le_of_ble_eq_true rfl)
  rw [lg_entry_eq]
  generalize (lg_sl ([.ref (za 0)]) ++ List.replicate (2 - (lg_sl ([.ref (za 0)])).length) Slot.unset).toArray = ls at hl ⊢
  have hl : lv_has ls 2 [(0, .ref (za 0))] := hl
  unfold MZ_cityLine at hM
  refine lv_aload_n hx hb dX2_cityLine_0 rfl (lv_at hl 0 rfl) ?_
  refine va_get (D := D) (ci := 1) (v := .ref (za 4)) (C := RX2) (T := TX2) (N := 11) hx hb hts in_X2 hown hK.1 hP 0 rfl rfl 9 (by decide) (hts _ q235) (fun _ h9 => h9) rfl dX2_cityLine_1 ?_
  refine va_get (D := D) (ci := 6) (v := .int s.2.2.2.2.2.2.2.1) (C := RX8) (T := TX8) (N := 13) hx hb hts in_X8 hown hK.1 hP 4 rfl rfl 6 (by decide) (hts _ q476) (fun _ h9 => h9) rfl dX2_cityLine_4 ?_
  refine lv_if_lt (tgt := 16) hx hb dX2_cityLine_7 (by decide) (fun c1 => ?_) (fun c1 => ?_)
  · rw [if_pos c1] at hM
    refine lv_aload_n hx hb dX2_cityLine_16 rfl (lv_at hl 0 rfl) ?_
    obtain ⟨r2, er2, hM⟩ := b_inv hM
    refine k_w (va_runV (As := []) (rest := []) ⟨hx, hb, hml, hown, hts⟩ (ctZ_step l D dA _ za h tx k9 ka kv s r2 er2 ) (cwV 0 hts (lw_V q521 q523 qs4 q114 q524) rfl rfl rfl (by decide +kernel) ⟨Nat.le_of_ble_eq_true rfl, Nat.le_of_ble_eq_true rfl⟩) (preX_V ZE_ok hP hK hD (ev_at ZE_ok hE hS (w_free hD hS hA)) hP (ci := 1) (q0 := 0) rfl rfl) rfl rfl hl.1 rfl (lv_room (Nat.le_of_ble_eq_true rfl)) dX2_cityLine_17 ⟨Nat.le_of_ble_eq_true rfl, Nat.le_of_ble_eq_true rfl⟩) hD hS hA (fun u3 H locs x4 hP hD hS => ?_)
    refine W.widen (k := 2) (n := 12) (Nat.le_of_ble_eq_true rfl) (Nat.le_of_ble_eq_true rfl) ?_
    refine W.eq (g2 := F0 m 20 ls []) (by first | rfl | (rfl; rfl) | (rfl) | (simp only [*]; rfl) | simp only [*]) ?_
    refine lv_aload_n hx hb dX2_cityLine_20 rfl (lv_at hl 0 rfl) ?_
    refine va_ldcS hx hb hown (hE.2.2.1 7 (Nat.zero_le _) (by decide)) dX2_cityLine_21 ?_
    refine lv_iconst (v := (0 : Int32)) hx hb dX2_cityLine_23 (by decide) ?_
    refine lv_bipush (v := (99 : Int32)) hx hb dX2_cityLine_24 (by decide) ?_
    obtain ⟨r5_, er5, hM⟩ := b_inv hM
    cases r5_ with
    | inl e9 =>
      dsimp only at hM
      have hM := Sum.inl.inj (Option.some.inj hM)
      subst hM
      exact z_err (vy_runV (As := [.ref (ka 7), .int (0 : Int32), .int (99 : Int32)]) (rest := []) ⟨hx, hb, hml, hown, hts⟩ (ceZ_after l D dA _ za u3 tx k9 ka kv r2 7 (0 : Int32) (99 : Int32) e9 er5 (by decide)) (cwV 3 hts (lw_V q699 q701 qs9 q114 q702) rfl rfl rfl (by decide +kernel) ⟨Nat.le_of_ble_eq_true rfl, Nat.le_of_ble_eq_true rfl⟩) (preX_V ZE_ok hP hK hD (ev_at ZE_ok hE hS (w_free hD hS hA)) hP (ci := 1) (q0 := 0) rfl rfl) rfl rfl hl.1 rfl (lv_room (Nat.le_of_ble_eq_true rfl)) dX2_cityLine_26 ⟨Nat.le_of_ble_eq_true rfl, Nat.le_of_ble_eq_true rfl⟩) hD hS hA hout hlocks (Nat.le_of_ble_eq_true rfl) (Nat.le_of_ble_eq_true rfl)
    | inr r5 =>
      dsimp only at hM
      refine k_w (va_runV (As := [.ref (ka 7), .int (0 : Int32), .int (99 : Int32)]) (rest := []) ⟨hx, hb, hml, hown, hts⟩ (ctZ_after l D dA _ za u3 tx k9 ka kv r2 7 (0 : Int32) (99 : Int32) r5 er5 (by decide)) (cwV 3 hts (lw_V q699 q701 qs9 q114 q702) rfl rfl rfl (by decide +kernel) ⟨Nat.le_of_ble_eq_true rfl, Nat.le_of_ble_eq_true rfl⟩) (preX_V ZE_ok hP hK hD (ev_at ZE_ok hE hS (w_free hD hS hA)) hP (ci := 1) (q0 := 0) rfl rfl) rfl rfl hl.1 rfl (lv_room (Nat.le_of_ble_eq_true rfl)) dX2_cityLine_26 ⟨Nat.le_of_ble_eq_true rfl, Nat.le_of_ble_eq_true rfl⟩) hD hS hA (fun u6 H locs x7 hP hD hS => ?_)
      refine W.widen (k := 6) (n := 36) (Nat.le_of_ble_eq_true rfl) (Nat.le_of_ble_eq_true rfl) ?_
      refine W.eq (g2 := F0 m 29 ls [.int r5.1]) (by first | rfl | (rfl; rfl) | (rfl) | (simp only [*]; rfl) | simp only [*]) ?_
      refine lv_istore_n (lv' := [(1, .int r5.1), (0, .ref (za 0))]) hx hb dX2_cityLine_29 rfl hl (by decide) rfl (fun ls hl => ?_)
      refine lv_aload_n hx hb dX2_cityLine_30 rfl (lv_at hl 1 rfl) ?_
      refine va_get (D := D) (ci := 1) (v := .ref (za 4)) (C := RX2) (T := TX2) (N := 11) hx hb hts in_X2 hown hK.1 hP 0 rfl rfl 9 (by decide) (hts _ q235) (fun _ h9 => h9) rfl dX2_cityLine_31 ?_
      refine lv_aload_n hx hb dX2_cityLine_34 rfl (lv_at hl 1 rfl) ?_
      refine va_ldcS hx hb hown (hE.2.2.1 8 (Nat.zero_le _) (by decide)) dX2_cityLine_35 ?_
      refine lv_iconst (v := (0 : Int32)) hx hb dX2_cityLine_37 (by decide) ?_
      refine lv_bipush (v := (9 : Int32)) hx hb dX2_cityLine_38 (by decide) ?_
      obtain ⟨r8_, er8, hM⟩ := b_inv hM
      cases r8_ with
      | inl e9 =>
        dsimp only at hM
        have hM := Sum.inl.inj (Option.some.inj hM)
        subst hM
        exact z_err (vy_runV (As := [.ref (ka 8), .int (0 : Int32), .int (9 : Int32)]) (rest := [.ref (za 4)]) ⟨hx, hb, hml, hown, hts⟩ (ceZ_after l D dA _ za u6 tx k9 ka kv r5.2 8 (0 : Int32) (9 : Int32) e9 er8 (by decide)) (cwV 3 hts (lw_V q699 q701 qs9 q114 q702) rfl rfl rfl (by decide +kernel) ⟨Nat.le_of_ble_eq_true rfl, Nat.le_of_ble_eq_true rfl⟩) (preX_V ZE_ok hP hK hD (ev_at ZE_ok hE hS (w_free hD hS hA)) hP (ci := 1) (q0 := 0) rfl rfl) rfl rfl hl.1 rfl (lv_room (Nat.le_of_ble_eq_true rfl)) dX2_cityLine_40 ⟨Nat.le_of_ble_eq_true rfl, Nat.le_of_ble_eq_true rfl⟩) hD hS hA hout hlocks (Nat.le_of_ble_eq_true rfl) (Nat.le_of_ble_eq_true rfl)
      | inr r8 =>
        dsimp only at hM
        refine k_w (va_runV (As := [.ref (ka 8), .int (0 : Int32), .int (9 : Int32)]) (rest := [.ref (za 4)]) ⟨hx, hb, hml, hown, hts⟩ (ctZ_after l D dA _ za u6 tx k9 ka kv r5.2 8 (0 : Int32) (9 : Int32) r8 er8 (by decide)) (cwV 3 hts (lw_V q699 q701 qs9 q114 q702) rfl rfl rfl (by decide +kernel) ⟨Nat.le_of_ble_eq_true rfl, Nat.le_of_ble_eq_true rfl⟩) (preX_V ZE_ok hP hK hD (ev_at ZE_ok hE hS (w_free hD hS hA)) hP (ci := 1) (q0 := 0) rfl rfl) rfl rfl hl.1 rfl (lv_room (Nat.le_of_ble_eq_true rfl)) dX2_cityLine_40 ⟨Nat.le_of_ble_eq_true rfl, Nat.le_of_ble_eq_true rfl⟩) hD hS hA (fun u9 H locs x10 hP hD hS => ?_)
        refine W.widen (k := 10) (n := 60) (Nat.le_of_ble_eq_true rfl) (Nat.le_of_ble_eq_true rfl) ?_
        refine W.eq (g2 := F0 m 43 ls [.int r8.1, .ref (za 4)]) (by first | rfl | (rfl; rfl) | (rfl) | (simp only [*]; rfl) | simp only [*]) ?_
        refine va_put (D := D) (ci := 6) (v := .int r8.1) (ty := .int) (C := RX8) (T := TX8) (N := 13) hx hb hts in_X8 tyX8 tyX8_ok nmX8 hown hK.1 hP hD hS 4 rfl rfl 7 (by decide) (hts _ q478) (fun _ h9 => h9) rfl (by decide +kernel) rfl rfl (Nat.le_of_ble_eq_true rfl) dX2_cityLine_43 (fun H locs hP hD hS => ?_)
        have hP : va_P D clG (zw dA za k9 tx u9 (r8.2.1, r8.2.2.1, r8.2.2.2.1, r8.2.2.2.2.1, r8.2.2.2.2.2.1, r8.2.2.2.2.2.2.1, r8.2.2.2.2.2.2.2.1, r8.2.2.2.2.2.2.2.2.1, r8.1, r8.2.2.2.2.2.2.2.2.2.2.1, r8.2.2.2.2.2.2.2.2.2.2.2.1, r8.2.2.2.2.2.2.2.2.2.2.2.2.1, r8.2.2.2.2.2.2.2.2.2.2.2.2.2.1, r8.2.2.2.2.2.2.2.2.2.2.2.2.2.2.1, r8.2.2.2.2.2.2.2.2.2.2.2.2.2.2.2.1, r8.2.2.2.2.2.2.2.2.2.2.2.2.2.2.2.2.1, r8.2.2.2.2.2.2.2.2.2.2.2.2.2.2.2.2.2.1, r8.2.2.2.2.2.2.2.2.2.2.2.2.2.2.2.2.2.2.1, r8.2.2.2.2.2.2.2.2.2.2.2.2.2.2.2.2.2.2.2.1, r8.2.2.2.2.2.2.2.2.2.2.2.2.2.2.2.2.2.2.2.2.1, r8.2.2.2.2.2.2.2.2.2.2.2.2.2.2.2.2.2.2.2.2.2.1, r8.2.2.2.2.2.2.2.2.2.2.2.2.2.2.2.2.2.2.2.2.2.2.1, r8.2.2.2.2.2.2.2.2.2.2.2.2.2.2.2.2.2.2.2.2.2.2.2.1, r8.2.2.2.2.2.2.2.2.2.2.2.2.2.2.2.2.2.2.2.2.2.2.2.2.1, r8.2.2.2.2.2.2.2.2.2.2.2.2.2.2.2.2.2.2.2.2.2.2.2.2.2.1, r8.2.2.2.2.2.2.2.2.2.2.2.2.2.2.2.2.2.2.2.2.2.2.2.2.2.2.1, r8.2.2.2.2.2.2.2.2.2.2.2.2.2.2.2.2.2.2.2.2.2.2.2.2.2.2.2.1, r8.2.2.2.2.2.2.2.2.2.2.2.2.2.2.2.2.2.2.2.2.2.2.2.2.2.2.2.2.1, r8.2.2.2.2.2.2.2.2.2.2.2.2.2.2.2.2.2.2.2.2.2.2.2.2.2.2.2.2.2.1, r8.2.2.2.2.2.2.2.2.2.2.2.2.2.2.2.2.2.2.2.2.2.2.2.2.2.2.2.2.2.2.1, r8.2.2.2.2.2.2.2.2.2.2.2.2.2.2.2.2.2.2.2.2.2.2.2.2.2.2.2.2.2.2.2.1, r8.2.2.2.2.2.2.2.2.2.2.2.2.2.2.2.2.2.2.2.2.2.2.2.2.2.2.2.2.2.2.2.2)) H := zP_set hP (Nat.le_of_ble_eq_true rfl) rfl rfl
        have hD : va_D A (zw dA za k9 tx u9 (r8.2.1, r8.2.2.1, r8.2.2.2.1, r8.2.2.2.2.1, r8.2.2.2.2.2.1, r8.2.2.2.2.2.2.1, r8.2.2.2.2.2.2.2.1, r8.2.2.2.2.2.2.2.2.1, r8.1, r8.2.2.2.2.2.2.2.2.2.2.1, r8.2.2.2.2.2.2.2.2.2.2.2.1, r8.2.2.2.2.2.2.2.2.2.2.2.2.1, r8.2.2.2.2.2.2.2.2.2.2.2.2.2.1, r8.2.2.2.2.2.2.2.2.2.2.2.2.2.2.1, r8.2.2.2.2.2.2.2.2.2.2.2.2.2.2.2.1, r8.2.2.2.2.2.2.2.2.2.2.2.2.2.2.2.2.1, r8.2.2.2.2.2.2.2.2.2.2.2.2.2.2.2.2.2.1, r8.2.2.2.2.2.2.2.2.2.2.2.2.2.2.2.2.2.2.1, r8.2.2.2.2.2.2.2.2.2.2.2.2.2.2.2.2.2.2.2.1, r8.2.2.2.2.2.2.2.2.2.2.2.2.2.2.2.2.2.2.2.2.1, r8.2.2.2.2.2.2.2.2.2.2.2.2.2.2.2.2.2.2.2.2.2.1, r8.2.2.2.2.2.2.2.2.2.2.2.2.2.2.2.2.2.2.2.2.2.2.1, r8.2.2.2.2.2.2.2.2.2.2.2.2.2.2.2.2.2.2.2.2.2.2.2.1, r8.2.2.2.2.2.2.2.2.2.2.2.2.2.2.2.2.2.2.2.2.2.2.2.2.1, r8.2.2.2.2.2.2.2.2.2.2.2.2.2.2.2.2.2.2.2.2.2.2.2.2.2.1, r8.2.2.2.2.2.2.2.2.2.2.2.2.2.2.2.2.2.2.2.2.2.2.2.2.2.2.1, r8.2.2.2.2.2.2.2.2.2.2.2.2.2.2.2.2.2.2.2.2.2.2.2.2.2.2.2.1, r8.2.2.2.2.2.2.2.2.2.2.2.2.2.2.2.2.2.2.2.2.2.2.2.2.2.2.2.2.1, r8.2.2.2.2.2.2.2.2.2.2.2.2.2.2.2.2.2.2.2.2.2.2.2.2.2.2.2.2.2.1, r8.2.2.2.2.2.2.2.2.2.2.2.2.2.2.2.2.2.2.2.2.2.2.2.2.2.2.2.2.2.2.1, r8.2.2.2.2.2.2.2.2.2.2.2.2.2.2.2.2.2.2.2.2.2.2.2.2.2.2.2.2.2.2.2.1, r8.2.2.2.2.2.2.2.2.2.2.2.2.2.2.2.2.2.2.2.2.2.2.2.2.2.2.2.2.2.2.2.2)) := zD_set hD (Nat.le_of_ble_eq_true rfl) rfl rfl
        refine lv_aload_n hx hb dX2_cityLine_46 rfl (lv_at hl 1 rfl) ?_
        refine va_get (D := D) (ci := 1) (v := .ref (za 4)) (C := RX2) (T := TX2) (N := 11) hx hb hts in_X2 hown hK.1 hP 0 rfl rfl 9 (by decide) (hts _ q235) (fun _ h9 => h9) rfl dX2_cityLine_47 ?_
        refine lv_iload_n hx hb dX2_cityLine_50 rfl (lv_at hl 0 rfl) ?_
        refine va_put (D := D) (ci := 6) (v := .int r5.1) (ty := .int) (C := RX8) (T := TX8) (N := 13) hx hb hts in_X8 tyX8 tyX8_ok nmX8 hown hK.1 hP hD hS 4 rfl rfl 6 (by decide) (hts _ q476) (fun _ h9 => h9) rfl (by decide +kernel) rfl rfl (Nat.le_of_ble_eq_true rfl) dX2_cityLine_51 (fun H locs hP hD hS => ?_)
        have hP : va_P D clG (zw dA za k9 tx u9 (r8.2.1, r8.2.2.1, r8.2.2.2.1, r8.2.2.2.2.1, r8.2.2.2.2.2.1, r8.2.2.2.2.2.2.1, r8.2.2.2.2.2.2.2.1, r5.1, r8.1, r8.2.2.2.2.2.2.2.2.2.2.1, r8.2.2.2.2.2.2.2.2.2.2.2.1, r8.2.2.2.2.2.2.2.2.2.2.2.2.1, r8.2.2.2.2.2.2.2.2.2.2.2.2.2.1, r8.2.2.2.2.2.2.2.2.2.2.2.2.2.2.1, r8.2.2.2.2.2.2.2.2.2.2.2.2.2.2.2.1, r8.2.2.2.2.2.2.2.2.2.2.2.2.2.2.2.2.1, r8.2.2.2.2.2.2.2.2.2.2.2.2.2.2.2.2.2.1, r8.2.2.2.2.2.2.2.2.2.2.2.2.2.2.2.2.2.2.1, r8.2.2.2.2.2.2.2.2.2.2.2.2.2.2.2.2.2.2.2.1, r8.2.2.2.2.2.2.2.2.2.2.2.2.2.2.2.2.2.2.2.2.1, r8.2.2.2.2.2.2.2.2.2.2.2.2.2.2.2.2.2.2.2.2.2.1, r8.2.2.2.2.2.2.2.2.2.2.2.2.2.2.2.2.2.2.2.2.2.2.1, r8.2.2.2.2.2.2.2.2.2.2.2.2.2.2.2.2.2.2.2.2.2.2.2.1, r8.2.2.2.2.2.2.2.2.2.2.2.2.2.2.2.2.2.2.2.2.2.2.2.2.1, r8.2.2.2.2.2.2.2.2.2.2.2.2.2.2.2.2.2.2.2.2.2.2.2.2.2.1, r8.2.2.2.2.2.2.2.2.2.2.2.2.2.2.2.2.2.2.2.2.2.2.2.2.2.2.1, r8.2.2.2.2.2.2.2.2.2.2.2.2.2.2.2.2.2.2.2.2.2.2.2.2.2.2.2.1, r8.2.2.2.2.2.2.2.2.2.2.2.2.2.2.2.2.2.2.2.2.2.2.2.2.2.2.2.2.1, r8.2.2.2.2.2.2.2.2.2.2.2.2.2.2.2.2.2.2.2.2.2.2.2.2.2.2.2.2.2.1, r8.2.2.2.2.2.2.2.2.2.2.2.2.2.2.2.2.2.2.2.2.2.2.2.2.2.2.2.2.2.2.1, r8.2.2.2.2.2.2.2.2.2.2.2.2.2.2.2.2.2.2.2.2.2.2.2.2.2.2.2.2.2.2.2.1, r8.2.2.2.2.2.2.2.2.2.2.2.2.2.2.2.2.2.2.2.2.2.2.2.2.2.2.2.2.2.2.2.2)) H := zP_set hP (Nat.le_of_ble_eq_true rfl) rfl rfl
        have hD : va_D A (zw dA za k9 tx u9 (r8.2.1, r8.2.2.1, r8.2.2.2.1, r8.2.2.2.2.1, r8.2.2.2.2.2.1, r8.2.2.2.2.2.2.1, r8.2.2.2.2.2.2.2.1, r5.1, r8.1, r8.2.2.2.2.2.2.2.2.2.2.1, r8.2.2.2.2.2.2.2.2.2.2.2.1, r8.2.2.2.2.2.2.2.2.2.2.2.2.1, r8.2.2.2.2.2.2.2.2.2.2.2.2.2.1, r8.2.2.2.2.2.2.2.2.2.2.2.2.2.2.1, r8.2.2.2.2.2.2.2.2.2.2.2.2.2.2.2.1, r8.2.2.2.2.2.2.2.2.2.2.2.2.2.2.2.2.1, r8.2.2.2.2.2.2.2.2.2.2.2.2.2.2.2.2.2.1, r8.2.2.2.2.2.2.2.2.2.2.2.2.2.2.2.2.2.2.1, r8.2.2.2.2.2.2.2.2.2.2.2.2.2.2.2.2.2.2.2.1, r8.2.2.2.2.2.2.2.2.2.2.2.2.2.2.2.2.2.2.2.2.1, r8.2.2.2.2.2.2.2.2.2.2.2.2.2.2.2.2.2.2.2.2.2.1, r8.2.2.2.2.2.2.2.2.2.2.2.2.2.2.2.2.2.2.2.2.2.2.1, r8.2.2.2.2.2.2.2.2.2.2.2.2.2.2.2.2.2.2.2.2.2.2.2.1, r8.2.2.2.2.2.2.2.2.2.2.2.2.2.2.2.2.2.2.2.2.2.2.2.2.1, r8.2.2.2.2.2.2.2.2.2.2.2.2.2.2.2.2.2.2.2.2.2.2.2.2.2.1, r8.2.2.2.2.2.2.2.2.2.2.2.2.2.2.2.2.2.2.2.2.2.2.2.2.2.2.1, r8.2.2.2.2.2.2.2.2.2.2.2.2.2.2.2.2.2.2.2.2.2.2.2.2.2.2.2.1, r8.2.2.2.2.2.2.2.2.2.2.2.2.2.2.2.2.2.2.2.2.2.2.2.2.2.2.2.2.1, r8.2.2.2.2.2.2.2.2.2.2.2.2.2.2.2.2.2.2.2.2.2.2.2.2.2.2.2.2.2.1, r8.2.2.2.2.2.2.2.2.2.2.2.2.2.2.2.2.2.2.2.2.2.2.2.2.2.2.2.2.2.2.1, r8.2.2.2.2.2.2.2.2.2.2.2.2.2.2.2.2.2.2.2.2.2.2.2.2.2.2.2.2.2.2.2.1, r8.2.2.2.2.2.2.2.2.2.2.2.2.2.2.2.2.2.2.2.2.2.2.2.2.2.2.2.2.2.2.2.2)) := zD_set hD (Nat.le_of_ble_eq_true rfl) rfl rfl
        cases hM
  · rw [if_neg c1] at hM
    refine lv_aload_n hx hb dX2_cityLine_10 rfl (lv_at hl 0 rfl) ?_
    refine lv_iconst (v := (3 : Int32)) hx hb dX2_cityLine_11 (by decide) ?_
    have er11 : MX2_fail (3 : Int32) s.2.2.1 = some ((3 : Int32), s.2.2.1) := rfl
    refine k_r0 [0, 1] (va_runV (As := [.int (3 : Int32)]) (rest := []) ⟨hx, hb, hml, hown, hts⟩ (ctX2_fail l D dA _ (za 0) (za 1) (3 : Int32) k9.1 s.1 s.2.1 s.2.2.1 s.2.2.2.1 0 k9.2.1 k9.2.2 (.ref (za 2)) (.ref (za 3)) (zwv h s.2.2.2.2.1) (.ref (za 4)) (zav h s.2.2.2.2.2.1) .null .null .null .null .null _ er11) (cwV 1 hts (lw_V q619 q621 qs7 q114 q622) rfl rfl rfl (by decide +kernel) ⟨Nat.le_of_ble_eq_true rfl, Nat.le_of_ble_eq_true rfl⟩) (pre_V (hP.sub [0, 1] rfl) hK (hD.sub [0, 1] (by decide) rfl) (ci := 1) (q0 := 0) rfl rfl) rfl rfl hl.1 rfl (lv_room (Nat.le_of_ble_eq_true rfl)) dX2_cityLine_12 ⟨Nat.le_of_ble_eq_true rfl, Nat.le_of_ble_eq_true rfl⟩) hP hD hS hA rfl (fun _ => rfl) (fun u12 H locs hP hD hS => ?_)
    have hP : va_P D clG (zw dA za (k9.1, (3 : Int32), s.2.2.1) tx h s) H := hP
    have hD : va_D A (zw dA za (k9.1, (3 : Int32), s.2.2.1) tx h s) := hD
    have hM := Sum.inl.inj (Option.some.inj hM)
    subst hM
    exact z_throw hx hb dX2_cityLine_15 hK hP hD hS hout hlocks rfl (Nat.le_of_ble_eq_true rfl) (Nat.le_of_ble_eq_true rfl)
set_option maxHeartbeats 40000000 in
theorem ctZ_lay (l : Launch) (D : va_G) (dA : Nat → ClassId) (sz : Nat) (za : Nat → Nat) (h : ZH) (tx : AI) (k9 : Int32 × Int32 × Int32) (ka kv : Nat → Nat) (s : ZS) (p0 : Nat) (p1 : Int32) (r : ZS) (hM : MZ_lay tx k9.1 s p0 p1 = some r) : Met l yX2_lay (ws_ yX2_lay cX2_lay 3 none) ({ frames := 0, cells := 0, slots := 0, locals := 0 }) (preX D dA (ZE ka kv) [.ref (za 0), .ref (h.2.2.2.1 p0), .int p1] (zw dA za k9 tx h s) sz) (qz_ D (fun (u : ZH) => none) (fun u => zext h u s r) (fun u => zw dA za k9 tx u r) (va_A (zw dA za k9 tx h s) sz)) 0 0 (va_A (zw dA za k9 tx h s) sz) := by
  refine Met.ofW (cc := cX2_lay) (maxL := 3) (ret := none) (by decide) rfl ?_
  intro p e s0 m args below meth c s₁ B hml hv
  obtain ⟨rfl, hsz, hP, hK, hD0, hE⟩ := hv
  have hx := B.exec
  have hb := B.bytes
  have hr := B.returns
  have hts := atoms_spec (ws := (ws_ yX2_lay cX2_lay 3 none)) B.pre
  have hts : ∀ w ∈ lw_all, w.before _ s0 = true := fun w h => hts w (List.mem_cons_of_mem _ h)
  have hown : s0.vm.findClass RX2 = some m.cls := findClass_of_methodNamed B.named
  have hlocks := B.notSynchronized
  subst hsz
  have hD := hD0.self (sz := s0.heap.size)
  generalize hAe : va_A (zw dA za k9 tx h s) s0.heap.size = A at hD hE ⊢
  have hA : ∀ q : Nat, s0.heap.size ≤ q → A q := fun q h => by rw [← hAe]; exact Or.inr h
  have hS : va_S A s0.heap s0.heap [] := va_S.rf
  have hl := lv_entry ([.ref (za 0), .ref (h.2.2.2.1 p0), .int p1]) (n := 3) (Nat.le_of_ble_eq_true rfl)
  rw [lg_entry_eq]
  generalize (lg_sl ([.ref (za 0), .ref (h.2.2.2.1 p0), .int p1]) ++ List.replicate (3 - (lg_sl ([.ref (za 0), .ref (h.2.2.2.1 p0), .int p1])).length) Slot.unset).toArray = ls at hl ⊢
  have hl : lv_has ls 3 [(0, .ref (za 0)), (1, .ref (h.2.2.2.1 p0)), (2, .int p1)] := hl
  unfold MZ_lay at hM
  refine lv_aload_n hx hb dX2_lay_0 rfl (lv_at hl 0 rfl) ?_
  obtain ⟨i1, ei1, hM⟩ := b_inv hM
  obtain ⟨hi1, hM⟩ := gn_inv hM
  refine va_get (D := D) (ci := 1) (v := (zav h s.2.2.2.2.2.1)) (C := RX2) (T := TX2) (N := 11) hx hb hts in_X2 hown hK.1 hP 0 rfl rfl 10 (by decide) (hts _ q236) (fun _ h9 => h9) rfl dX2_lay_1 ?_
  refine lv_tor (v := .ref (h.2.2.2.1 i1)) (zav_some ei1) ?_
  refine lv_dup hx hb dX2_lay_4 rfl ?_
  obtain ⟨h2, hM⟩ := gn_inv hM
  obtain ⟨h3, hM⟩ := gn_inv hM
  refine pp_getf hx hb hts hown hK hP zX_len h2 h3 5 (by decide) (hts _ q763) (fun _ h9 => h9) (v := .int (s.2.2.2.2.2.2.2.2.2.2.2.2.2.2.2.2.2.2.2.2.2.2.2.2.2.2.1 i1)) rfl dX2_lay_5 ?_
  refine lv_iconst (v := (1 : Int32)) hx hb dX2_lay_8 (by decide) ?_
  refine lv_aload_n hx hb dX2_lay_9 rfl (lv_at hl 1 rfl) ?_
  obtain ⟨h4, hM⟩ := gn_inv hM
  obtain ⟨h5, hM⟩ := gn_inv hM
  refine pp_getf hx hb hts hown hK hP zX_len h4 h5 1 (by decide) (hts _ q751) (fun _ h9 => h9) (v := .int (s.2.2.2.2.2.2.2.2.2.2.2.2.2.2.2.2.2.2.2.2.2.2.1 p0)) rfl dX2_lay_10 ?_
  refine lv_ishl hx hb dX2_lay_13 ?_
  refine lv_ior hx hb dX2_lay_14 ?_
  obtain ⟨v0_, hv0_⟩ : ∃ v_ : Int32, v_ = ((s.2.2.2.2.2.2.2.2.2.2.2.2.2.2.2.2.2.2.2.2.2.2.2.2.2.2.1 i1) ||| ((1 : Int32) <<< ((s.2.2.2.2.2.2.2.2.2.2.2.2.2.2.2.2.2.2.2.2.2.2.1 p0) &&& 31))) := ⟨_, rfl⟩
  rw [← hv0_]
  try rw [← hv0_] at hM
  obtain ⟨h6, hM⟩ := gn_inv hM
  obtain ⟨h7, hM⟩ := gn_inv hM
  refine zz_put5 hx hb hts hown hK hP hD hS h6 h7 v0_ (hts _ q763) dX2_lay_15 (fun H locs hP hD hS => ?_)
  have hP : va_P D clG (zw dA za k9 tx h (s.1, s.2.1, s.2.2.1, s.2.2.2.1, s.2.2.2.2.1, s.2.2.2.2.2.1, s.2.2.2.2.2.2.1, s.2.2.2.2.2.2.2.1, s.2.2.2.2.2.2.2.2.1, s.2.2.2.2.2.2.2.2.2.1, s.2.2.2.2.2.2.2.2.2.2.1, s.2.2.2.2.2.2.2.2.2.2.2.1, s.2.2.2.2.2.2.2.2.2.2.2.2.1, s.2.2.2.2.2.2.2.2.2.2.2.2.2.1, s.2.2.2.2.2.2.2.2.2.2.2.2.2.2.1, s.2.2.2.2.2.2.2.2.2.2.2.2.2.2.2.1, s.2.2.2.2.2.2.2.2.2.2.2.2.2.2.2.2.1, s.2.2.2.2.2.2.2.2.2.2.2.2.2.2.2.2.2.1, s.2.2.2.2.2.2.2.2.2.2.2.2.2.2.2.2.2.2.1, s.2.2.2.2.2.2.2.2.2.2.2.2.2.2.2.2.2.2.2.1, s.2.2.2.2.2.2.2.2.2.2.2.2.2.2.2.2.2.2.2.2.1, s.2.2.2.2.2.2.2.2.2.2.2.2.2.2.2.2.2.2.2.2.2.1, s.2.2.2.2.2.2.2.2.2.2.2.2.2.2.2.2.2.2.2.2.2.2.1, s.2.2.2.2.2.2.2.2.2.2.2.2.2.2.2.2.2.2.2.2.2.2.2.1, s.2.2.2.2.2.2.2.2.2.2.2.2.2.2.2.2.2.2.2.2.2.2.2.2.1, s.2.2.2.2.2.2.2.2.2.2.2.2.2.2.2.2.2.2.2.2.2.2.2.2.2.1, (upd s.2.2.2.2.2.2.2.2.2.2.2.2.2.2.2.2.2.2.2.2.2.2.2.2.2.2.1 i1 v0_), s.2.2.2.2.2.2.2.2.2.2.2.2.2.2.2.2.2.2.2.2.2.2.2.2.2.2.2.1, s.2.2.2.2.2.2.2.2.2.2.2.2.2.2.2.2.2.2.2.2.2.2.2.2.2.2.2.2.1, s.2.2.2.2.2.2.2.2.2.2.2.2.2.2.2.2.2.2.2.2.2.2.2.2.2.2.2.2.2.1, s.2.2.2.2.2.2.2.2.2.2.2.2.2.2.2.2.2.2.2.2.2.2.2.2.2.2.2.2.2.2.1, s.2.2.2.2.2.2.2.2.2.2.2.2.2.2.2.2.2.2.2.2.2.2.2.2.2.2.2.2.2.2.2)) H := hP
  have hD : va_D A (zw dA za k9 tx h (s.1, s.2.1, s.2.2.1, s.2.2.2.1, s.2.2.2.2.1, s.2.2.2.2.2.1, s.2.2.2.2.2.2.1, s.2.2.2.2.2.2.2.1, s.2.2.2.2.2.2.2.2.1, s.2.2.2.2.2.2.2.2.2.1, s.2.2.2.2.2.2.2.2.2.2.1, s.2.2.2.2.2.2.2.2.2.2.2.1, s.2.2.2.2.2.2.2.2.2.2.2.2.1, s.2.2.2.2.2.2.2.2.2.2.2.2.2.1, s.2.2.2.2.2.2.2.2.2.2.2.2.2.2.1, s.2.2.2.2.2.2.2.2.2.2.2.2.2.2.2.1, s.2.2.2.2.2.2.2.2.2.2.2.2.2.2.2.2.1, s.2.2.2.2.2.2.2.2.2.2.2.2.2.2.2.2.2.1, s.2.2.2.2.2.2.2.2.2.2.2.2.2.2.2.2.2.2.1, s.2.2.2.2.2.2.2.2.2.2.2.2.2.2.2.2.2.2.2.1, s.2.2.2.2.2.2.2.2.2.2.2.2.2.2.2.2.2.2.2.2.1, s.2.2.2.2.2.2.2.2.2.2.2.2.2.2.2.2.2.2.2.2.2.1, s.2.2.2.2.2.2.2.2.2.2.2.2.2.2.2.2.2.2.2.2.2.2.1, s.2.2.2.2.2.2.2.2.2.2.2.2.2.2.2.2.2.2.2.2.2.2.2.1, s.2.2.2.2.2.2.2.2.2.2.2.2.2.2.2.2.2.2.2.2.2.2.2.2.1, s.2.2.2.2.2.2.2.2.2.2.2.2.2.2.2.2.2.2.2.2.2.2.2.2.2.1, (upd s.2.2.2.2.2.2.2.2.2.2.2.2.2.2.2.2.2.2.2.2.2.2.2.2.2.2.1 i1 v0_), s.2.2.2.2.2.2.2.2.2.2.2.2.2.2.2.2.2.2.2.2.2.2.2.2.2.2.2.1, s.2.2.2.2.2.2.2.2.2.2.2.2.2.2.2.2.2.2.2.2.2.2.2.2.2.2.2.2.1, s.2.2.2.2.2.2.2.2.2.2.2.2.2.2.2.2.2.2.2.2.2.2.2.2.2.2.2.2.2.1, s.2.2.2.2.2.2.2.2.2.2.2.2.2.2.2.2.2.2.2.2.2.2.2.2.2.2.2.2.2.2.1, s.2.2.2.2.2.2.2.2.2.2.2.2.2.2.2.2.2.2.2.2.2.2.2.2.2.2.2.2.2.2.2)) := hD
  refine lv_aload_n hx hb dX2_lay_18 rfl (lv_at hl 0 rfl) ?_
  refine va_get (D := D) (ci := 1) (v := .ref (za 4)) (C := RX2) (T := TX2) (N := 11) hx hb hts in_X2 hown hK.1 hP 0 rfl rfl 9 (by decide) (hts _ q235) (fun _ h9 => h9) rfl dX2_lay_19 ?_
  refine va_get (D := D) (ci := 6) (v := .ref (za 6)) (C := RX8) (T := TX8) (N := 13) hx hb hts in_X8 hown hK.1 hP 4 rfl rfl 1 (by decide) (hts _ q463) (fun _ h9 => h9) rfl dX2_lay_22 ?_
  refine lv_bipush (v := (6 : Int32)) hx hb dX2_lay_25 (by decide) ?_
  refine lv_aload_n hx hb dX2_lay_27 rfl (lv_at hl 0 rfl) ?_
  refine va_get (D := D) (ci := 1) (v := (zav h s.2.2.2.2.2.1)) (C := RX2) (T := TX2) (N := 11) hx hb hts in_X2 hown hK.1 hP 0 rfl rfl 10 (by decide) (hts _ q236) (fun _ h9 => h9) rfl dX2_lay_28 ?_
  refine lv_tor (v := .ref (h.2.2.2.1 i1)) (zav_some ei1) ?_
  obtain ⟨h8, hM⟩ := gn_inv hM
  obtain ⟨h9, hM⟩ := gn_inv hM
  refine pp_getf hx hb hts hown hK hP zX_len h8 h9 1 (by decide) (hts _ q751) (fun _ h9 => h9) (v := .int (s.2.2.2.2.2.2.2.2.2.2.2.2.2.2.2.2.2.2.2.2.2.2.1 i1)) rfl dX2_lay_31 ?_
  refine lv_imul hx hb dX2_lay_34 ?_
  obtain ⟨v1_, hv1_⟩ : ∃ v_ : Int32, v_ = ((6 : Int32) * (s.2.2.2.2.2.2.2.2.2.2.2.2.2.2.2.2.2.2.2.2.2.2.1 i1)) := ⟨_, rfl⟩
  rw [← hv1_]
  try rw [← hv1_] at hM
  refine lv_aload_n hx hb dX2_lay_35 rfl (lv_at hl 1 rfl) ?_
  obtain ⟨h10, hM⟩ := gn_inv hM
  obtain ⟨h11, hM⟩ := gn_inv hM
  refine pp_getf hx hb hts hown hK hP zX_len h10 h11 1 (by decide) (hts _ q751) (fun _ h9 => h9) (v := .int (s.2.2.2.2.2.2.2.2.2.2.2.2.2.2.2.2.2.2.2.2.2.2.1 p0)) rfl dX2_lay_36 ?_
  refine lv_iadd hx hb dX2_lay_39 ?_
  obtain ⟨v2_, hv2_⟩ : ∃ v_ : Int32, v_ = (v1_ + (s.2.2.2.2.2.2.2.2.2.2.2.2.2.2.2.2.2.2.2.2.2.2.1 p0)) := ⟨_, rfl⟩
  rw [← hv2_]
  try rw [← hv2_] at hM
  refine lv_iload_n hx hb dX2_lay_40 rfl (lv_at hl 2 rfl) ?_
  obtain ⟨h12, hM⟩ := gi_inv hM
  obtain ⟨v3_, hv3_⟩ : ∃ q_ : Nat, q_ = (Int32.toNatClampNeg v2_) := ⟨_, rfl⟩
  refine va_iast hx hb hK.1 hP hD hS 6 0 rfl rfl h12 dX2_lay_41 (fun H locs hP hD hS => ?_)
  rw [← hv3_] at hP hD
  try rw [← hv3_] at hM
  have hP : va_P D clG (zw dA za k9 tx h (s.1, s.2.1, s.2.2.1, s.2.2.2.1, s.2.2.2.2.1, s.2.2.2.2.2.1, s.2.2.2.2.2.2.1, s.2.2.2.2.2.2.2.1, s.2.2.2.2.2.2.2.2.1, s.2.2.2.2.2.2.2.2.2.1, s.2.2.2.2.2.2.2.2.2.2.1, s.2.2.2.2.2.2.2.2.2.2.2.1, s.2.2.2.2.2.2.2.2.2.2.2.2.1, s.2.2.2.2.2.2.2.2.2.2.2.2.2.1, (upd s.2.2.2.2.2.2.2.2.2.2.2.2.2.2.1 v3_ p1), s.2.2.2.2.2.2.2.2.2.2.2.2.2.2.2.1, s.2.2.2.2.2.2.2.2.2.2.2.2.2.2.2.2.1, s.2.2.2.2.2.2.2.2.2.2.2.2.2.2.2.2.2.1, s.2.2.2.2.2.2.2.2.2.2.2.2.2.2.2.2.2.2.1, s.2.2.2.2.2.2.2.2.2.2.2.2.2.2.2.2.2.2.2.1, s.2.2.2.2.2.2.2.2.2.2.2.2.2.2.2.2.2.2.2.2.1, s.2.2.2.2.2.2.2.2.2.2.2.2.2.2.2.2.2.2.2.2.2.1, s.2.2.2.2.2.2.2.2.2.2.2.2.2.2.2.2.2.2.2.2.2.2.1, s.2.2.2.2.2.2.2.2.2.2.2.2.2.2.2.2.2.2.2.2.2.2.2.1, s.2.2.2.2.2.2.2.2.2.2.2.2.2.2.2.2.2.2.2.2.2.2.2.2.1, s.2.2.2.2.2.2.2.2.2.2.2.2.2.2.2.2.2.2.2.2.2.2.2.2.2.1, (upd s.2.2.2.2.2.2.2.2.2.2.2.2.2.2.2.2.2.2.2.2.2.2.2.2.2.2.1 i1 v0_), s.2.2.2.2.2.2.2.2.2.2.2.2.2.2.2.2.2.2.2.2.2.2.2.2.2.2.2.1, s.2.2.2.2.2.2.2.2.2.2.2.2.2.2.2.2.2.2.2.2.2.2.2.2.2.2.2.2.1, s.2.2.2.2.2.2.2.2.2.2.2.2.2.2.2.2.2.2.2.2.2.2.2.2.2.2.2.2.2.1, s.2.2.2.2.2.2.2.2.2.2.2.2.2.2.2.2.2.2.2.2.2.2.2.2.2.2.2.2.2.2.1, s.2.2.2.2.2.2.2.2.2.2.2.2.2.2.2.2.2.2.2.2.2.2.2.2.2.2.2.2.2.2.2)) H := zP_set hP (Nat.le_of_ble_eq_true rfl) rfl rfl
  have hD : va_D A (zw dA za k9 tx h (s.1, s.2.1, s.2.2.1, s.2.2.2.1, s.2.2.2.2.1, s.2.2.2.2.2.1, s.2.2.2.2.2.2.1, s.2.2.2.2.2.2.2.1, s.2.2.2.2.2.2.2.2.1, s.2.2.2.2.2.2.2.2.2.1, s.2.2.2.2.2.2.2.2.2.2.1, s.2.2.2.2.2.2.2.2.2.2.2.1, s.2.2.2.2.2.2.2.2.2.2.2.2.1, s.2.2.2.2.2.2.2.2.2.2.2.2.2.1, (upd s.2.2.2.2.2.2.2.2.2.2.2.2.2.2.1 v3_ p1), s.2.2.2.2.2.2.2.2.2.2.2.2.2.2.2.1, s.2.2.2.2.2.2.2.2.2.2.2.2.2.2.2.2.1, s.2.2.2.2.2.2.2.2.2.2.2.2.2.2.2.2.2.1, s.2.2.2.2.2.2.2.2.2.2.2.2.2.2.2.2.2.2.1, s.2.2.2.2.2.2.2.2.2.2.2.2.2.2.2.2.2.2.2.1, s.2.2.2.2.2.2.2.2.2.2.2.2.2.2.2.2.2.2.2.2.1, s.2.2.2.2.2.2.2.2.2.2.2.2.2.2.2.2.2.2.2.2.2.1, s.2.2.2.2.2.2.2.2.2.2.2.2.2.2.2.2.2.2.2.2.2.2.1, s.2.2.2.2.2.2.2.2.2.2.2.2.2.2.2.2.2.2.2.2.2.2.2.1, s.2.2.2.2.2.2.2.2.2.2.2.2.2.2.2.2.2.2.2.2.2.2.2.2.1, s.2.2.2.2.2.2.2.2.2.2.2.2.2.2.2.2.2.2.2.2.2.2.2.2.2.1, (upd s.2.2.2.2.2.2.2.2.2.2.2.2.2.2.2.2.2.2.2.2.2.2.2.2.2.2.1 i1 v0_), s.2.2.2.2.2.2.2.2.2.2.2.2.2.2.2.2.2.2.2.2.2.2.2.2.2.2.2.1, s.2.2.2.2.2.2.2.2.2.2.2.2.2.2.2.2.2.2.2.2.2.2.2.2.2.2.2.2.1, s.2.2.2.2.2.2.2.2.2.2.2.2.2.2.2.2.2.2.2.2.2.2.2.2.2.2.2.2.2.1, s.2.2.2.2.2.2.2.2.2.2.2.2.2.2.2.2.2.2.2.2.2.2.2.2.2.2.2.2.2.2.1, s.2.2.2.2.2.2.2.2.2.2.2.2.2.2.2.2.2.2.2.2.2.2.2.2.2.2.2.2.2.2.2)) := zD_set hD (Nat.le_of_ble_eq_true rfl) rfl rfl
  have hM := Option.some.inj hM
  subst hM
  refine W.widen (k := 0) (n := 0) (Nat.le_of_ble_eq_true rfl) (Nat.le_of_ble_eq_true rfl) ?_
  exact W.vret hx hb hr (fun t ht hW => ⟨⟨h, rfl, zext_rf, by rw [ht]; exact hP, hD⟩, hS.F ht⟩) hS.2.2 dX2_lay_42
