set_option maxRecDepth 100000
set_option maxHeartbeats 40000000 in
theorem ctZ_asking (l : Launch) (D : va_G) (dA : Nat → ClassId) (sz : Nat) (za : Nat → Nat) (h : ZH) (tx : AI) (k9 : Int32 × Int32 × Int32) (ka kv : Nat → Nat) (s : ZS) (r : (Nat × ZS)) (hM : MZ_asking tx k9.1 s = some (.inr r)) : Met l yX2_asking (ws_ yX2_asking cX2_asking 2 (some (.object "LastAsked$Person"))) ({ frames := 7, cells := 4, slots := 24, locals := 343 }) (preX D dA (ZE ka kv) [.ref (za 0)] (zw dA za k9 tx h s) sz) (qz_ D (fun (u : ZH) => some (.ref (u.2.2.2.1 r.1))) (fun u => zext h u s r.2) (fun u => zw dA za k9 tx u r.2) (va_A (zw dA za k9 tx h s) sz)) 4 24 (va_A (zw dA za k9 tx h s) sz) := by
  refine Met.ofW (cc := cX2_asking) (maxL := 2) (ret := (some (.object "LastAsked$Person"))) (by decide) rfl ?_
  intro p e s0 m args below meth c s₁ B hml hv
  obtain ⟨rfl, hsz, hP, hK, hD0, hE⟩ := hv
  have hx := B.exec
  have hb := B.bytes
  have hr := B.returns
  have hts := atoms_spec (ws := (ws_ yX2_asking cX2_asking 2 (some (.object "LastAsked$Person")))) B.pre
  have hts : ∀ w ∈ lw_all, w.before _ s0 = true := fun w h => hts w (List.mem_cons_of_mem _ h)
  have hown : s0.vm.findClass RX2 = some m.cls := findClass_of_methodNamed B.named
  have hlocks := B.notSynchronized
  subst hsz
  have hD := hD0.self (sz := s0.heap.size)
  generalize hAe : va_A (zw dA za k9 tx h s) s0.heap.size = A at hD hE ⊢
  have hA : ∀ q : Nat, s0.heap.size ≤ q → A q := fun q h => by rw [← hAe]; exact Or.inr h
  have hS : va_S A s0.heap s0.heap [] := va_S.rf
  have hl := lv_entry ([.ref (za 0)]) (n := 2) (Nat.le_of_ble_eq_true rfl)
  rw [lg_entry_eq]
  generalize (lg_sl ([.ref (za 0)]) ++ List.replicate (2 - (lg_sl ([.ref (za 0)])).length) Slot.unset).toArray = ls at hl ⊢
  have hl : lv_has ls 2 [(0, .ref (za 0))] := hl
  unfold MZ_asking at hM
  refine lv_aload_n hx hb dX2_asking_0 rfl (lv_at hl 0 rfl) ?_
  refine lv_aload_n hx hb dX2_asking_1 rfl (lv_at hl 0 rfl) ?_
  obtain ⟨r1_, er1, hM⟩ := b_inv hM
  cases r1_ with
  | inl e9 =>
    dsimp only at hM
    cases hM
  | inr r1 =>
    dsimp only at hM
    refine k_w (va_runV (As := []) (rest := [.ref (za 0)]) ⟨hx, hb, hml, hown, hts⟩ (ctZ_personHere l D dA _ za h tx k9 ka kv s r1 er1 ) (cwV 0 hts (lw_V q833 q835 qs18 q114 q836) rfl rfl rfl (by decide +kernel) ⟨Nat.le_of_ble_eq_true rfl, Nat.le_of_ble_eq_true rfl⟩) (preX_V ZE_ok hP hK hD (ev_at ZE_ok hE hS (w_free hD hS hA)) hP (ci := 1) (q0 := 0) rfl rfl) rfl rfl hl.1 rfl (lv_room (Nat.le_of_ble_eq_true rfl)) dX2_asking_2 ⟨Nat.le_of_ble_eq_true rfl, Nat.le_of_ble_eq_true rfl⟩) hD hS hA (fun u2 H locs x3 hP hD hS => ?_)
    refine W.eq (g2 := F0 m 5 ls [.ref (u2.2.2.2.1 r1.1), .ref (za 0)]) (by first | rfl | (rfl; rfl) | (rfl) | (simp only [*]; rfl) | simp only [*]) ?_
    refine va_put (D := D) (ci := 1) (v := .ref (u2.2.2.2.1 r1.1)) (ty := (.object "LastAsked$Person")) (C := RX2) (T := TX2) (N := 11) hx hb hts in_X2 tyX2 tyX2_ok nmX2 hown hK.1 hP hD hS 0 rfl rfl 10 (by decide) (hts _ q236) (fun _ h9 => h9) rfl (by decide +kernel) rfl rfl (Nat.le_of_ble_eq_true rfl) dX2_asking_5 (fun H locs hP hD hS => ?_)
    have hP : va_P D clG (zw dA za k9 tx u2 (r1.2.1, r1.2.2.1, r1.2.2.2.1, r1.2.2.2.2.1, r1.2.2.2.2.2.1, (some r1.1), r1.2.2.2.2.2.2.2.1, r1.2.2.2.2.2.2.2.2.1, r1.2.2.2.2.2.2.2.2.2.1, r1.2.2.2.2.2.2.2.2.2.2.1, r1.2.2.2.2.2.2.2.2.2.2.2.1, r1.2.2.2.2.2.2.2.2.2.2.2.2.1, r1.2.2.2.2.2.2.2.2.2.2.2.2.2.1, r1.2.2.2.2.2.2.2.2.2.2.2.2.2.2.1, r1.2.2.2.2.2.2.2.2.2.2.2.2.2.2.2.1, r1.2.2.2.2.2.2.2.2.2.2.2.2.2.2.2.2.1, r1.2.2.2.2.2.2.2.2.2.2.2.2.2.2.2.2.2.1, r1.2.2.2.2.2.2.2.2.2.2.2.2.2.2.2.2.2.2.1, r1.2.2.2.2.2.2.2.2.2.2.2.2.2.2.2.2.2.2.2.1, r1.2.2.2.2.2.2.2.2.2.2.2.2.2.2.2.2.2.2.2.2.1, r1.2.2.2.2.2.2.2.2.2.2.2.2.2.2.2.2.2.2.2.2.2.1, r1.2.2.2.2.2.2.2.2.2.2.2.2.2.2.2.2.2.2.2.2.2.2.1, r1.2.2.2.2.2.2.2.2.2.2.2.2.2.2.2.2.2.2.2.2.2.2.2.1, r1.2.2.2.2.2.2.2.2.2.2.2.2.2.2.2.2.2.2.2.2.2.2.2.2.1, r1.2.2.2.2.2.2.2.2.2.2.2.2.2.2.2.2.2.2.2.2.2.2.2.2.2.1, r1.2.2.2.2.2.2.2.2.2.2.2.2.2.2.2.2.2.2.2.2.2.2.2.2.2.2.1, r1.2.2.2.2.2.2.2.2.2.2.2.2.2.2.2.2.2.2.2.2.2.2.2.2.2.2.2.1, r1.2.2.2.2.2.2.2.2.2.2.2.2.2.2.2.2.2.2.2.2.2.2.2.2.2.2.2.2.1, r1.2.2.2.2.2.2.2.2.2.2.2.2.2.2.2.2.2.2.2.2.2.2.2.2.2.2.2.2.2.1, r1.2.2.2.2.2.2.2.2.2.2.2.2.2.2.2.2.2.2.2.2.2.2.2.2.2.2.2.2.2.2.1, r1.2.2.2.2.2.2.2.2.2.2.2.2.2.2.2.2.2.2.2.2.2.2.2.2.2.2.2.2.2.2.2.1, r1.2.2.2.2.2.2.2.2.2.2.2.2.2.2.2.2.2.2.2.2.2.2.2.2.2.2.2.2.2.2.2.2)) H := zP_set hP (Nat.le_of_ble_eq_true rfl) rfl rfl
    have hD : va_D A (zw dA za k9 tx u2 (r1.2.1, r1.2.2.1, r1.2.2.2.1, r1.2.2.2.2.1, r1.2.2.2.2.2.1, (some r1.1), r1.2.2.2.2.2.2.2.1, r1.2.2.2.2.2.2.2.2.1, r1.2.2.2.2.2.2.2.2.2.1, r1.2.2.2.2.2.2.2.2.2.2.1, r1.2.2.2.2.2.2.2.2.2.2.2.1, r1.2.2.2.2.2.2.2.2.2.2.2.2.1, r1.2.2.2.2.2.2.2.2.2.2.2.2.2.1, r1.2.2.2.2.2.2.2.2.2.2.2.2.2.2.1, r1.2.2.2.2.2.2.2.2.2.2.2.2.2.2.2.1, r1.2.2.2.2.2.2.2.2.2.2.2.2.2.2.2.2.1, r1.2.2.2.2.2.2.2.2.2.2.2.2.2.2.2.2.2.1, r1.2.2.2.2.2.2.2.2.2.2.2.2.2.2.2.2.2.2.1, r1.2.2.2.2.2.2.2.2.2.2.2.2.2.2.2.2.2.2.2.1, r1.2.2.2.2.2.2.2.2.2.2.2.2.2.2.2.2.2.2.2.2.1, r1.2.2.2.2.2.2.2.2.2.2.2.2.2.2.2.2.2.2.2.2.2.1, r1.2.2.2.2.2.2.2.2.2.2.2.2.2.2.2.2.2.2.2.2.2.2.1, r1.2.2.2.2.2.2.2.2.2.2.2.2.2.2.2.2.2.2.2.2.2.2.2.1, r1.2.2.2.2.2.2.2.2.2.2.2.2.2.2.2.2.2.2.2.2.2.2.2.2.1, r1.2.2.2.2.2.2.2.2.2.2.2.2.2.2.2.2.2.2.2.2.2.2.2.2.2.1, r1.2.2.2.2.2.2.2.2.2.2.2.2.2.2.2.2.2.2.2.2.2.2.2.2.2.2.1, r1.2.2.2.2.2.2.2.2.2.2.2.2.2.2.2.2.2.2.2.2.2.2.2.2.2.2.2.1, r1.2.2.2.2.2.2.2.2.2.2.2.2.2.2.2.2.2.2.2.2.2.2.2.2.2.2.2.2.1, r1.2.2.2.2.2.2.2.2.2.2.2.2.2.2.2.2.2.2.2.2.2.2.2.2.2.2.2.2.2.1, r1.2.2.2.2.2.2.2.2.2.2.2.2.2.2.2.2.2.2.2.2.2.2.2.2.2.2.2.2.2.2.1, r1.2.2.2.2.2.2.2.2.2.2.2.2.2.2.2.2.2.2.2.2.2.2.2.2.2.2.2.2.2.2.2.1, r1.2.2.2.2.2.2.2.2.2.2.2.2.2.2.2.2.2.2.2.2.2.2.2.2.2.2.2.2.2.2.2.2)) := zD_set hD (Nat.le_of_ble_eq_true rfl) rfl rfl
    refine lv_aload_n hx hb dX2_asking_8 rfl (lv_at hl 0 rfl) ?_
    obtain ⟨i4, ei4, hM⟩ := b_inv hM
    obtain ⟨hi4, hM⟩ := gn_inv hM
    refine va_get (D := D) (ci := 1) (v := (zav u2 (some r1.1))) (C := RX2) (T := TX2) (N := 11) hx hb hts in_X2 hown hK.1 hP 0 rfl rfl 10 (by decide) (hts _ q236) (fun _ h9 => h9) rfl dX2_asking_9 ?_
    refine lv_tor (v := .ref (u2.2.2.2.1 i4)) (zav_some ei4) ?_
    obtain ⟨h5, hM⟩ := gn_inv hM
    obtain ⟨h6, hM⟩ := gn_inv hM
    refine pp_mayAsk (rest := []) ⟨hx, hb, hml, hown, hts⟩ hK hP hD hS hA zX_len h5 h6 q848 hl.1 (lv_room (Nat.le_of_ble_eq_true rfl)) (Nat.le_of_ble_eq_true rfl) (Nat.le_of_ble_eq_true rfl) (Nat.le_of_ble_eq_true rfl) (Nat.le_of_ble_eq_true rfl) dX2_asking_12 (fun H locs hP hD hS => ?_)
    have hP : va_P D clG (zw dA za k9 tx u2 (r1.2.1, r1.2.2.1, r1.2.2.2.1, r1.2.2.2.2.1, r1.2.2.2.2.2.1, (some r1.1), r1.2.2.2.2.2.2.2.1, r1.2.2.2.2.2.2.2.2.1, r1.2.2.2.2.2.2.2.2.2.1, r1.2.2.2.2.2.2.2.2.2.2.1, r1.2.2.2.2.2.2.2.2.2.2.2.1, r1.2.2.2.2.2.2.2.2.2.2.2.2.1, r1.2.2.2.2.2.2.2.2.2.2.2.2.2.1, r1.2.2.2.2.2.2.2.2.2.2.2.2.2.2.1, r1.2.2.2.2.2.2.2.2.2.2.2.2.2.2.2.1, r1.2.2.2.2.2.2.2.2.2.2.2.2.2.2.2.2.1, r1.2.2.2.2.2.2.2.2.2.2.2.2.2.2.2.2.2.1, r1.2.2.2.2.2.2.2.2.2.2.2.2.2.2.2.2.2.2.1, r1.2.2.2.2.2.2.2.2.2.2.2.2.2.2.2.2.2.2.2.1, r1.2.2.2.2.2.2.2.2.2.2.2.2.2.2.2.2.2.2.2.2.1, r1.2.2.2.2.2.2.2.2.2.2.2.2.2.2.2.2.2.2.2.2.2.1, r1.2.2.2.2.2.2.2.2.2.2.2.2.2.2.2.2.2.2.2.2.2.2.1, r1.2.2.2.2.2.2.2.2.2.2.2.2.2.2.2.2.2.2.2.2.2.2.2.1, r1.2.2.2.2.2.2.2.2.2.2.2.2.2.2.2.2.2.2.2.2.2.2.2.2.1, r1.2.2.2.2.2.2.2.2.2.2.2.2.2.2.2.2.2.2.2.2.2.2.2.2.2.1, r1.2.2.2.2.2.2.2.2.2.2.2.2.2.2.2.2.2.2.2.2.2.2.2.2.2.2.1, r1.2.2.2.2.2.2.2.2.2.2.2.2.2.2.2.2.2.2.2.2.2.2.2.2.2.2.2.1, r1.2.2.2.2.2.2.2.2.2.2.2.2.2.2.2.2.2.2.2.2.2.2.2.2.2.2.2.2.1, r1.2.2.2.2.2.2.2.2.2.2.2.2.2.2.2.2.2.2.2.2.2.2.2.2.2.2.2.2.2.1, r1.2.2.2.2.2.2.2.2.2.2.2.2.2.2.2.2.2.2.2.2.2.2.2.2.2.2.2.2.2.2.1, r1.2.2.2.2.2.2.2.2.2.2.2.2.2.2.2.2.2.2.2.2.2.2.2.2.2.2.2.2.2.2.2.1, r1.2.2.2.2.2.2.2.2.2.2.2.2.2.2.2.2.2.2.2.2.2.2.2.2.2.2.2.2.2.2.2.2)) H := hP
    have hD : va_D A (zw dA za k9 tx u2 (r1.2.1, r1.2.2.1, r1.2.2.2.1, r1.2.2.2.2.1, r1.2.2.2.2.2.1, (some r1.1), r1.2.2.2.2.2.2.2.1, r1.2.2.2.2.2.2.2.2.1, r1.2.2.2.2.2.2.2.2.2.1, r1.2.2.2.2.2.2.2.2.2.2.1, r1.2.2.2.2.2.2.2.2.2.2.2.1, r1.2.2.2.2.2.2.2.2.2.2.2.2.1, r1.2.2.2.2.2.2.2.2.2.2.2.2.2.1, r1.2.2.2.2.2.2.2.2.2.2.2.2.2.2.1, r1.2.2.2.2.2.2.2.2.2.2.2.2.2.2.2.1, r1.2.2.2.2.2.2.2.2.2.2.2.2.2.2.2.2.1, r1.2.2.2.2.2.2.2.2.2.2.2.2.2.2.2.2.2.1, r1.2.2.2.2.2.2.2.2.2.2.2.2.2.2.2.2.2.2.1, r1.2.2.2.2.2.2.2.2.2.2.2.2.2.2.2.2.2.2.2.1, r1.2.2.2.2.2.2.2.2.2.2.2.2.2.2.2.2.2.2.2.2.1, r1.2.2.2.2.2.2.2.2.2.2.2.2.2.2.2.2.2.2.2.2.2.1, r1.2.2.2.2.2.2.2.2.2.2.2.2.2.2.2.2.2.2.2.2.2.2.1, r1.2.2.2.2.2.2.2.2.2.2.2.2.2.2.2.2.2.2.2.2.2.2.2.1, r1.2.2.2.2.2.2.2.2.2.2.2.2.2.2.2.2.2.2.2.2.2.2.2.2.1, r1.2.2.2.2.2.2.2.2.2.2.2.2.2.2.2.2.2.2.2.2.2.2.2.2.2.1, r1.2.2.2.2.2.2.2.2.2.2.2.2.2.2.2.2.2.2.2.2.2.2.2.2.2.2.1, r1.2.2.2.2.2.2.2.2.2.2.2.2.2.2.2.2.2.2.2.2.2.2.2.2.2.2.2.1, r1.2.2.2.2.2.2.2.2.2.2.2.2.2.2.2.2.2.2.2.2.2.2.2.2.2.2.2.2.1, r1.2.2.2.2.2.2.2.2.2.2.2.2.2.2.2.2.2.2.2.2.2.2.2.2.2.2.2.2.2.1, r1.2.2.2.2.2.2.2.2.2.2.2.2.2.2.2.2.2.2.2.2.2.2.2.2.2.2.2.2.2.2.1, r1.2.2.2.2.2.2.2.2.2.2.2.2.2.2.2.2.2.2.2.2.2.2.2.2.2.2.2.2.2.2.2.1, r1.2.2.2.2.2.2.2.2.2.2.2.2.2.2.2.2.2.2.2.2.2.2.2.2.2.2.2.2.2.2.2.2)) := hD
    refine lv_if_ne (tgt := 25) hx hb dX2_asking_15 (by decide) (fun c7 => ?_) (fun c7 => ?_)
    · rw [if_neg c7] at hM
      refine lv_aload_n hx hb dX2_asking_25 rfl (lv_at hl 0 rfl) ?_
      obtain ⟨r8, er8, hM⟩ := b_inv hM
      refine k_w (va_runV (As := []) (rest := []) ⟨hx, hb, hml, hown, hts⟩ (ctZ_step l D dA _ za u2 tx k9 ka kv (r1.2.1, r1.2.2.1, r1.2.2.2.1, r1.2.2.2.2.1, r1.2.2.2.2.2.1, (some r1.1), r1.2.2.2.2.2.2.2.1, r1.2.2.2.2.2.2.2.2.1, r1.2.2.2.2.2.2.2.2.2.1, r1.2.2.2.2.2.2.2.2.2.2.1, r1.2.2.2.2.2.2.2.2.2.2.2.1, r1.2.2.2.2.2.2.2.2.2.2.2.2.1, r1.2.2.2.2.2.2.2.2.2.2.2.2.2.1, r1.2.2.2.2.2.2.2.2.2.2.2.2.2.2.1, r1.2.2.2.2.2.2.2.2.2.2.2.2.2.2.2.1, r1.2.2.2.2.2.2.2.2.2.2.2.2.2.2.2.2.1, r1.2.2.2.2.2.2.2.2.2.2.2.2.2.2.2.2.2.1, r1.2.2.2.2.2.2.2.2.2.2.2.2.2.2.2.2.2.2.1, r1.2.2.2.2.2.2.2.2.2.2.2.2.2.2.2.2.2.2.2.1, r1.2.2.2.2.2.2.2.2.2.2.2.2.2.2.2.2.2.2.2.2.1, r1.2.2.2.2.2.2.2.2.2.2.2.2.2.2.2.2.2.2.2.2.2.1, r1.2.2.2.2.2.2.2.2.2.2.2.2.2.2.2.2.2.2.2.2.2.2.1, r1.2.2.2.2.2.2.2.2.2.2.2.2.2.2.2.2.2.2.2.2.2.2.2.1, r1.2.2.2.2.2.2.2.2.2.2.2.2.2.2.2.2.2.2.2.2.2.2.2.2.1, r1.2.2.2.2.2.2.2.2.2.2.2.2.2.2.2.2.2.2.2.2.2.2.2.2.2.1, r1.2.2.2.2.2.2.2.2.2.2.2.2.2.2.2.2.2.2.2.2.2.2.2.2.2.2.1, r1.2.2.2.2.2.2.2.2.2.2.2.2.2.2.2.2.2.2.2.2.2.2.2.2.2.2.2.1, r1.2.2.2.2.2.2.2.2.2.2.2.2.2.2.2.2.2.2.2.2.2.2.2.2.2.2.2.2.1, r1.2.2.2.2.2.2.2.2.2.2.2.2.2.2.2.2.2.2.2.2.2.2.2.2.2.2.2.2.2.1, r1.2.2.2.2.2.2.2.2.2.2.2.2.2.2.2.2.2.2.2.2.2.2.2.2.2.2.2.2.2.2.1, r1.2.2.2.2.2.2.2.2.2.2.2.2.2.2.2.2.2.2.2.2.2.2.2.2.2.2.2.2.2.2.2.1, r1.2.2.2.2.2.2.2.2.2.2.2.2.2.2.2.2.2.2.2.2.2.2.2.2.2.2.2.2.2.2.2.2) r8 er8 ) (cwV 0 hts (lw_V q521 q523 qs4 q114 q524) rfl rfl rfl (by decide +kernel) ⟨Nat.le_of_ble_eq_true rfl, Nat.le_of_ble_eq_true rfl⟩) (preX_V ZE_ok hP hK hD (ev_at ZE_ok hE hS (w_free hD hS hA)) hP (ci := 1) (q0 := 0) rfl rfl) rfl rfl hl.1 rfl (lv_room (Nat.le_of_ble_eq_true rfl)) dX2_asking_26 ⟨Nat.le_of_ble_eq_true rfl, Nat.le_of_ble_eq_true rfl⟩) hD hS hA (fun u9 H locs x10 hP hD hS => ?_)
      refine W.widen (k := 2) (n := 12) (Nat.le_of_ble_eq_true rfl) (Nat.le_of_ble_eq_true rfl) ?_
      refine W.eq (g2 := F0 m 29 ls []) (by first | rfl | (rfl; rfl) | (rfl) | (simp only [*]; rfl) | simp only [*]) ?_
      refine lv_aload_n hx hb dX2_asking_29 rfl (lv_at hl 0 rfl) ?_
      obtain ⟨r11_, er11, hM⟩ := b_inv hM
      cases r11_ with
      | inl e9 =>
        dsimp only at hM
        cases hM
      | inr r11 =>
        dsimp only at hM
        refine k_w (va_runV (As := []) (rest := []) ⟨hx, hb, hml, hown, hts⟩ (ctZ_personHere l D dA _ za u9 tx k9 ka kv r8 r11 er11 ) (cwV 0 hts (lw_V q833 q835 qs18 q114 q836) rfl rfl rfl (by decide +kernel) ⟨Nat.le_of_ble_eq_true rfl, Nat.le_of_ble_eq_true rfl⟩) (preX_V ZE_ok hP hK hD (ev_at ZE_ok hE hS (w_free hD hS hA)) hP (ci := 1) (q0 := 0) rfl rfl) rfl rfl hl.1 rfl (lv_room (Nat.le_of_ble_eq_true rfl)) dX2_asking_30 ⟨Nat.le_of_ble_eq_true rfl, Nat.le_of_ble_eq_true rfl⟩) hD hS hA (fun u12 H locs x13 hP hD hS => ?_)
        refine W.eq (g2 := F0 m 33 ls [.ref (u12.2.2.2.1 r11.1)]) (by first | rfl | (rfl; rfl) | (rfl) | (simp only [*]; rfl) | simp only [*]) ?_
        refine lv_astore_n (lv' := [(1, .ref (u12.2.2.2.1 r11.1)), (0, .ref (za 0))]) hx hb dX2_asking_33 rfl hl (by decide) rfl (fun ls hl => ?_)
        refine lv_aload_n hx hb dX2_asking_34 rfl (lv_at hl 1 rfl) ?_
        obtain ⟨i14, ei14, hM⟩ := b_inv hM
        obtain ⟨hi14, hM⟩ := gn_inv hM
        refine va_get (D := D) (ci := 1) (v := (zav u12 r11.2.2.2.2.2.2.1)) (C := RX2) (T := TX2) (N := 11) hx hb hts in_X2 hown hK.1 hP 0 rfl rfl 10 (by decide) (hts _ q236) (fun _ h9 => h9) rfl dX2_asking_35 ?_
        refine lv_tor (v := .ref (u12.2.2.2.1 i14)) (zav_some ei14) ?_
        refine lv_aload_n hx hb dX2_asking_38 rfl (lv_at hl 0 rfl) ?_
        obtain ⟨h15, hM⟩ := gn_inv hM
        obtain ⟨h16, hM⟩ := gn_inv hM
        refine lv_acmp_eq (rx := some (u12.2.2.2.1 i14)) (ry := some (u12.2.2.2.1 r11.1)) (tgt := 59) hx hb dX2_asking_39 (by decide) (fun c17 => ?_) (fun c17 => ?_)
        · have c_c17 := zpa_inj hD h15 h16 (Option.some.inj c17)
          rw [if_pos c_c17] at hM
          refine lv_aload_n hx hb dX2_asking_59 rfl (lv_at hl 1 rfl) ?_
          refine lv_iconst (v := (3 : Int32)) hx hb dX2_asking_60 (by decide) ?_
          have er18 : MX2_fail (3 : Int32) r11.2.2.2.1 = some ((3 : Int32), r11.2.2.2.1) := rfl
          refine k_r0 [0, 1] (va_runV (As := [.int (3 : Int32)]) (rest := []) ⟨hx, hb, hml, hown, hts⟩ (ctX2_fail l D dA _ (za 0) (za 1) (3 : Int32) k9.1 r11.2.1 r11.2.2.1 r11.2.2.2.1 r11.2.2.2.2.1 0 k9.2.1 k9.2.2 (.ref (za 2)) (.ref (za 3)) (zwv u12 r11.2.2.2.2.2.1) (.ref (za 4)) (zav u12 r11.2.2.2.2.2.2.1) .null .null .null .null .null _ er18) (cwV 1 hts (lw_V q619 q621 qs7 q114 q622) rfl rfl rfl (by decide +kernel) ⟨Nat.le_of_ble_eq_true rfl, Nat.le_of_ble_eq_true rfl⟩) (pre_V (hP.sub [0, 1] rfl) hK (hD.sub [0, 1] (by decide) rfl) (ci := 1) (q0 := 0) rfl rfl) rfl rfl hl.1 rfl (lv_room (Nat.le_of_ble_eq_true rfl)) dX2_asking_61 ⟨Nat.le_of_ble_eq_true rfl, Nat.le_of_ble_eq_true rfl⟩) hP hD hS hA rfl (fun _ => rfl) (fun u19 H locs hP hD hS => ?_)
          have hP : va_P D clG (zw dA za (k9.1, (3 : Int32), r11.2.2.2.1) tx u12 r11.2) H := hP
          have hD : va_D A (zw dA za (k9.1, (3 : Int32), r11.2.2.2.1) tx u12 r11.2) := hD
          cases hM
        · have c_c17 : ¬ i14 = r11.1 := fun h9 => c17 (by rw [h9])
          rw [if_neg c_c17] at hM
          refine lv_aload_n hx hb dX2_asking_42 rfl (lv_at hl 1 rfl) ?_
          refine va_get (D := D) (ci := 1) (v := (zav u12 r11.2.2.2.2.2.2.1)) (C := RX2) (T := TX2) (N := 11) hx hb hts in_X2 hown hK.1 hP 0 rfl rfl 10 (by decide) (hts _ q236) (fun _ h9 => h9) rfl dX2_asking_43 ?_
          refine lv_tor (v := .ref (u12.2.2.2.1 i14)) (zav_some ei14) ?_
          obtain ⟨h20, hM⟩ := gn_inv hM
          obtain ⟨h21, hM⟩ := gn_inv hM
          refine pp_getf hx hb hts hown hK hP zX_len h20 h21 5 (by decide) (hts _ q763) (fun _ h9 => h9) (v := .int (r11.2.2.2.2.2.2.2.2.2.2.2.2.2.2.2.2.2.2.2.2.2.2.2.2.2.2.2.1 i14)) rfl dX2_asking_46 ?_
          refine lv_aload_n hx hb dX2_asking_49 rfl (lv_at hl 0 rfl) ?_
          obtain ⟨h22, hM⟩ := gn_inv hM
          obtain ⟨h23, hM⟩ := gn_inv hM
          refine pp_getf hx hb hts hown hK hP zX_len h22 h23 1 (by decide) (hts _ q751) (fun _ h9 => h9) (v := .int (r11.2.2.2.2.2.2.2.2.2.2.2.2.2.2.2.2.2.2.2.2.2.2.2.1 r11.1)) rfl dX2_asking_50 ?_
          obtain ⟨r24, er24, hM⟩ := b_inv hM
          refine k_i0 [] (va_runSN (As := [.int (r11.2.2.2.2.2.2.2.2.2.2.2.2.2.2.2.2.2.2.2.2.2.2.2.2.2.2.2.1 i14), .int (r11.2.2.2.2.2.2.2.2.2.2.2.2.2.2.2.2.2.2.2.2.2.2.2.1 r11.1)]) (rest := []) ⟨hx, hb, hml, hown, hts⟩ (ctX1_has l D dA _ (r11.2.2.2.2.2.2.2.2.2.2.2.2.2.2.2.2.2.2.2.2.2.2.2.2.2.2.2.1 i14) (r11.2.2.2.2.2.2.2.2.2.2.2.2.2.2.2.2.2.2.2.2.2.2.2.1 r11.1) _ er24) ⟨va_cnB 2 hts (lw_meth q839) rfl rfl rfl (hK.nw 15 rfl) (hts _ q113) (by decide +kernel) ⟨Nat.le_of_ble_eq_true rfl, Nat.le_of_ble_eq_true rfl⟩, hts _ q838, trivial⟩ (pre_S p_nil hK (A := A) d_nil) rfl rfl hl.1 rfl (lv_room (Nat.le_of_ble_eq_true rfl)) dX2_asking_53 ⟨Nat.le_of_ble_eq_true rfl, Nat.le_of_ble_eq_true rfl⟩) hP hD hS hA rfl (fun _ => rfl) (fun u25 H locs hP hD hS => ?_)
          have hP : va_P D clG (zw dA za k9 tx u12 r11.2) H := hP
          have hD : va_D A (zw dA za k9 tx u12 r11.2) := hD
          refine lv_if_eq (tgt := 65) hx hb dX2_asking_56 (by decide) (fun c26 => ?_) (fun c26 => ?_)
          · rw [if_pos c26] at hM
            refine lv_aload_n hx hb dX2_asking_65 rfl (lv_at hl 0 rfl) ?_
            refine lv_aload_n hx hb dX2_asking_66 rfl (lv_at hl 1 rfl) ?_
            refine va_get (D := D) (ci := 1) (v := (zav u12 r11.2.2.2.2.2.2.1)) (C := RX2) (T := TX2) (N := 11) hx hb hts in_X2 hown hK.1 hP 0 rfl rfl 10 (by decide) (hts _ q236) (fun _ h9 => h9) rfl dX2_asking_67 ?_
            refine lv_tor (v := .ref (u12.2.2.2.1 i14)) (zav_some ei14) ?_
            obtain ⟨h27, hM⟩ := gn_inv hM
            obtain ⟨h28, hM⟩ := gn_inv hM
            refine pp_getf hx hb hts hown hK hP zX_len h27 h28 1 (by decide) (hts _ q751) (fun _ h9 => h9) (v := .int (r11.2.2.2.2.2.2.2.2.2.2.2.2.2.2.2.2.2.2.2.2.2.2.2.1 i14)) rfl dX2_asking_70 ?_
            obtain ⟨h29, hM⟩ := gn_inv hM
            obtain ⟨h30, hM⟩ := gn_inv hM
            refine pp_mayBeAskedBy (rest := []) (i := (r11.2.2.2.2.2.2.2.2.2.2.2.2.2.2.2.2.2.2.2.2.2.2.2.1 i14)) ⟨hx, hb, hml, hown, hts⟩ hK hP hD hS hA zX_len h29 h30 q859 hl.1 (lv_room (Nat.le_of_ble_eq_true rfl)) (Nat.le_of_ble_eq_true rfl) (Nat.le_of_ble_eq_true rfl) (Nat.le_of_ble_eq_true rfl) (Nat.le_of_ble_eq_true rfl) dX2_asking_73 (fun H locs hP hD hS => ?_)
            have hP : va_P D clG (zw dA za k9 tx u12 r11.2) H := hP
            have hD : va_D A (zw dA za k9 tx u12 r11.2) := hD
            refine lv_if_ne (tgt := 86) hx hb dX2_asking_76 (by decide) (fun c31 => ?_) (fun c31 => ?_)
            · rw [if_neg c31] at hM
              refine lv_aload_n hx hb dX2_asking_86 rfl (lv_at hl 1 rfl) ?_
              obtain ⟨h35, hM⟩ := gn_inv hM
              obtain ⟨r32, er32, hM⟩ := b_inv hM
              refine k_w (va_runV (As := []) (rest := []) ⟨hx, hb, hml, hown, hts⟩ (ctZ_step l D dA _ za u12 tx k9 ka kv r11.2 r32 er32 ) (cwV 0 hts (lw_V q521 q523 qs4 q114 q524) rfl rfl rfl (by decide +kernel) ⟨Nat.le_of_ble_eq_true rfl, Nat.le_of_ble_eq_true rfl⟩) (preX_V ZE_ok hP hK hD (ev_at ZE_ok hE hS (w_free hD hS hA)) hP (ci := 1) (q0 := 0) rfl rfl) rfl rfl hl.1 rfl (lv_room (Nat.le_of_ble_eq_true rfl)) dX2_asking_87 ⟨Nat.le_of_ble_eq_true rfl, Nat.le_of_ble_eq_true rfl⟩) hD hS hA (fun u33 H locs x34 hP hD hS => ?_)
              have hl : lv_has ls 2 [(1, .ref (u33.2.2.2.1 r11.1)), (0, .ref (za 0))] := by simp only [x34.2.1 r11.1 h35]; exact hl
              refine W.widen (k := 4) (n := 24) (Nat.le_of_ble_eq_true rfl) (Nat.le_of_ble_eq_true rfl) ?_
              refine W.eq (g2 := F0 m 90 ls []) (by first | rfl | (rfl; rfl) | (rfl) | (simp only [*]; rfl) | simp only [*]) ?_
              refine lv_aload_n hx hb dX2_asking_90 rfl (lv_at hl 0 rfl) ?_
              have hM := Sum.inr.inj (Option.some.inj hM)
              subst hM
              refine W.widen (k := 4) (n := 24) (Nat.le_of_ble_eq_true rfl) (Nat.le_of_ble_eq_true rfl) ?_
              exact W.aret (v := .ref (u33.2.2.2.1 r11.1)) hx hb hr (Or.inl ⟨_, rfl⟩) (Or.inr ⟨_, rfl⟩) (fun t ht hW => ⟨⟨u33, rfl, (zext_trans (zext_trans (zext_trans (zext_trans zext_rf x3) x10) x13) x34), by rw [ht]; exact hP, hD⟩, hS.F ht⟩) hS.2.2 dX2_asking_91
            · rw [if_pos c31] at hM
              refine lv_aload_n hx hb dX2_asking_79 rfl (lv_at hl 1 rfl) ?_
              refine lv_bipush (v := (7 : Int32)) hx hb dX2_asking_80 (by decide) ?_
              have er36 : MX2_fail (7 : Int32) r11.2.2.2.1 = some ((7 : Int32), r11.2.2.2.1) := rfl
              refine k_r0 [0, 1] (va_runV (As := [.int (7 : Int32)]) (rest := []) ⟨hx, hb, hml, hown, hts⟩ (ctX2_fail l D dA _ (za 0) (za 1) (7 : Int32) k9.1 r11.2.1 r11.2.2.1 r11.2.2.2.1 r11.2.2.2.2.1 0 k9.2.1 k9.2.2 (.ref (za 2)) (.ref (za 3)) (zwv u12 r11.2.2.2.2.2.1) (.ref (za 4)) (zav u12 r11.2.2.2.2.2.2.1) .null .null .null .null .null _ er36) (cwV 1 hts (lw_V q619 q621 qs7 q114 q622) rfl rfl rfl (by decide +kernel) ⟨Nat.le_of_ble_eq_true rfl, Nat.le_of_ble_eq_true rfl⟩) (pre_V (hP.sub [0, 1] rfl) hK (hD.sub [0, 1] (by decide) rfl) (ci := 1) (q0 := 0) rfl rfl) rfl rfl hl.1 rfl (lv_room (Nat.le_of_ble_eq_true rfl)) dX2_asking_82 ⟨Nat.le_of_ble_eq_true rfl, Nat.le_of_ble_eq_true rfl⟩) hP hD hS hA rfl (fun _ => rfl) (fun u37 H locs hP hD hS => ?_)
              have hP : va_P D clG (zw dA za (k9.1, (7 : Int32), r11.2.2.2.1) tx u12 r11.2) H := hP
              have hD : va_D A (zw dA za (k9.1, (7 : Int32), r11.2.2.2.1) tx u12 r11.2) := hD
              cases hM
          · rw [if_neg c26] at hM
            refine lv_aload_n hx hb dX2_asking_59 rfl (lv_at hl 1 rfl) ?_
            refine lv_iconst (v := (3 : Int32)) hx hb dX2_asking_60 (by decide) ?_
            have er38 : MX2_fail (3 : Int32) r11.2.2.2.1 = some ((3 : Int32), r11.2.2.2.1) := rfl
            refine k_r0 [0, 1] (va_runV (As := [.int (3 : Int32)]) (rest := []) ⟨hx, hb, hml, hown, hts⟩ (ctX2_fail l D dA _ (za 0) (za 1) (3 : Int32) k9.1 r11.2.1 r11.2.2.1 r11.2.2.2.1 r11.2.2.2.2.1 0 k9.2.1 k9.2.2 (.ref (za 2)) (.ref (za 3)) (zwv u12 r11.2.2.2.2.2.1) (.ref (za 4)) (zav u12 r11.2.2.2.2.2.2.1) .null .null .null .null .null _ er38) (cwV 1 hts (lw_V q619 q621 qs7 q114 q622) rfl rfl rfl (by decide +kernel) ⟨Nat.le_of_ble_eq_true rfl, Nat.le_of_ble_eq_true rfl⟩) (pre_V (hP.sub [0, 1] rfl) hK (hD.sub [0, 1] (by decide) rfl) (ci := 1) (q0 := 0) rfl rfl) rfl rfl hl.1 rfl (lv_room (Nat.le_of_ble_eq_true rfl)) dX2_asking_61 ⟨Nat.le_of_ble_eq_true rfl, Nat.le_of_ble_eq_true rfl⟩) hP hD hS hA rfl (fun _ => rfl) (fun u39 H locs hP hD hS => ?_)
            have hP : va_P D clG (zw dA za (k9.1, (3 : Int32), r11.2.2.2.1) tx u12 r11.2) H := hP
            have hD : va_D A (zw dA za (k9.1, (3 : Int32), r11.2.2.2.1) tx u12 r11.2) := hD
            cases hM
    · rw [if_pos c7] at hM
      refine lv_aload_n hx hb dX2_asking_18 rfl (lv_at hl 0 rfl) ?_
      refine lv_bipush (v := (7 : Int32)) hx hb dX2_asking_19 (by decide) ?_
      have er40 : MX2_fail (7 : Int32) r1.2.2.2.1 = some ((7 : Int32), r1.2.2.2.1) := rfl
      refine k_r0 [0, 1] (va_runV (As := [.int (7 : Int32)]) (rest := []) ⟨hx, hb, hml, hown, hts⟩ (ctX2_fail l D dA _ (za 0) (za 1) (7 : Int32) k9.1 r1.2.1 r1.2.2.1 r1.2.2.2.1 r1.2.2.2.2.1 0 k9.2.1 k9.2.2 (.ref (za 2)) (.ref (za 3)) (zwv u2 r1.2.2.2.2.2.1) (.ref (za 4)) (zav u2 (some r1.1)) .null .null .null .null .null _ er40) (cwV 1 hts (lw_V q619 q621 qs7 q114 q622) rfl rfl rfl (by decide +kernel) ⟨Nat.le_of_ble_eq_true rfl, Nat.le_of_ble_eq_true rfl⟩) (pre_V (hP.sub [0, 1] rfl) hK (hD.sub [0, 1] (by decide) rfl) (ci := 1) (q0 := 0) rfl rfl) rfl rfl hl.1 rfl (lv_room (Nat.le_of_ble_eq_true rfl)) dX2_asking_21 ⟨Nat.le_of_ble_eq_true rfl, Nat.le_of_ble_eq_true rfl⟩) hP hD hS hA rfl (fun _ => rfl) (fun u41 H locs hP hD hS => ?_)
      have hP : va_P D clG (zw dA za (k9.1, (7 : Int32), r1.2.2.2.1) tx u2 (r1.2.1, r1.2.2.1, r1.2.2.2.1, r1.2.2.2.2.1, r1.2.2.2.2.2.1, (some r1.1), r1.2.2.2.2.2.2.2.1, r1.2.2.2.2.2.2.2.2.1, r1.2.2.2.2.2.2.2.2.2.1, r1.2.2.2.2.2.2.2.2.2.2.1, r1.2.2.2.2.2.2.2.2.2.2.2.1, r1.2.2.2.2.2.2.2.2.2.2.2.2.1, r1.2.2.2.2.2.2.2.2.2.2.2.2.2.1, r1.2.2.2.2.2.2.2.2.2.2.2.2.2.2.1, r1.2.2.2.2.2.2.2.2.2.2.2.2.2.2.2.1, r1.2.2.2.2.2.2.2.2.2.2.2.2.2.2.2.2.1, r1.2.2.2.2.2.2.2.2.2.2.2.2.2.2.2.2.2.1, r1.2.2.2.2.2.2.2.2.2.2.2.2.2.2.2.2.2.2.1, r1.2.2.2.2.2.2.2.2.2.2.2.2.2.2.2.2.2.2.2.1, r1.2.2.2.2.2.2.2.2.2.2.2.2.2.2.2.2.2.2.2.2.1, r1.2.2.2.2.2.2.2.2.2.2.2.2.2.2.2.2.2.2.2.2.2.1, r1.2.2.2.2.2.2.2.2.2.2.2.2.2.2.2.2.2.2.2.2.2.2.1, r1.2.2.2.2.2.2.2.2.2.2.2.2.2.2.2.2.2.2.2.2.2.2.2.1, r1.2.2.2.2.2.2.2.2.2.2.2.2.2.2.2.2.2.2.2.2.2.2.2.2.1, r1.2.2.2.2.2.2.2.2.2.2.2.2.2.2.2.2.2.2.2.2.2.2.2.2.2.1, r1.2.2.2.2.2.2.2.2.2.2.2.2.2.2.2.2.2.2.2.2.2.2.2.2.2.2.1, r1.2.2.2.2.2.2.2.2.2.2.2.2.2.2.2.2.2.2.2.2.2.2.2.2.2.2.2.1, r1.2.2.2.2.2.2.2.2.2.2.2.2.2.2.2.2.2.2.2.2.2.2.2.2.2.2.2.2.1, r1.2.2.2.2.2.2.2.2.2.2.2.2.2.2.2.2.2.2.2.2.2.2.2.2.2.2.2.2.2.1, r1.2.2.2.2.2.2.2.2.2.2.2.2.2.2.2.2.2.2.2.2.2.2.2.2.2.2.2.2.2.2.1, r1.2.2.2.2.2.2.2.2.2.2.2.2.2.2.2.2.2.2.2.2.2.2.2.2.2.2.2.2.2.2.2.1, r1.2.2.2.2.2.2.2.2.2.2.2.2.2.2.2.2.2.2.2.2.2.2.2.2.2.2.2.2.2.2.2.2)) H := hP
      have hD : va_D A (zw dA za (k9.1, (7 : Int32), r1.2.2.2.1) tx u2 (r1.2.1, r1.2.2.1, r1.2.2.2.1, r1.2.2.2.2.1, r1.2.2.2.2.2.1, (some r1.1), r1.2.2.2.2.2.2.2.1, r1.2.2.2.2.2.2.2.2.1, r1.2.2.2.2.2.2.2.2.2.1, r1.2.2.2.2.2.2.2.2.2.2.1, r1.2.2.2.2.2.2.2.2.2.2.2.1, r1.2.2.2.2.2.2.2.2.2.2.2.2.1, r1.2.2.2.2.2.2.2.2.2.2.2.2.2.1, r1.2.2.2.2.2.2.2.2.2.2.2.2.2.2.1, r1.2.2.2.2.2.2.2.2.2.2.2.2.2.2.2.1, r1.2.2.2.2.2.2.2.2.2.2.2.2.2.2.2.2.1, r1.2.2.2.2.2.2.2.2.2.2.2.2.2.2.2.2.2.1, r1.2.2.2.2.2.2.2.2.2.2.2.2.2.2.2.2.2.2.1, r1.2.2.2.2.2.2.2.2.2.2.2.2.2.2.2.2.2.2.2.1, r1.2.2.2.2.2.2.2.2.2.2.2.2.2.2.2.2.2.2.2.2.1, r1.2.2.2.2.2.2.2.2.2.2.2.2.2.2.2.2.2.2.2.2.2.1, r1.2.2.2.2.2.2.2.2.2.2.2.2.2.2.2.2.2.2.2.2.2.2.1, r1.2.2.2.2.2.2.2.2.2.2.2.2.2.2.2.2.2.2.2.2.2.2.2.1, r1.2.2.2.2.2.2.2.2.2.2.2.2.2.2.2.2.2.2.2.2.2.2.2.2.1, r1.2.2.2.2.2.2.2.2.2.2.2.2.2.2.2.2.2.2.2.2.2.2.2.2.2.1, r1.2.2.2.2.2.2.2.2.2.2.2.2.2.2.2.2.2.2.2.2.2.2.2.2.2.2.1, r1.2.2.2.2.2.2.2.2.2.2.2.2.2.2.2.2.2.2.2.2.2.2.2.2.2.2.2.1, r1.2.2.2.2.2.2.2.2.2.2.2.2.2.2.2.2.2.2.2.2.2.2.2.2.2.2.2.2.1, r1.2.2.2.2.2.2.2.2.2.2.2.2.2.2.2.2.2.2.2.2.2.2.2.2.2.2.2.2.2.1, r1.2.2.2.2.2.2.2.2.2.2.2.2.2.2.2.2.2.2.2.2.2.2.2.2.2.2.2.2.2.2.1, r1.2.2.2.2.2.2.2.2.2.2.2.2.2.2.2.2.2.2.2.2.2.2.2.2.2.2.2.2.2.2.2.1, r1.2.2.2.2.2.2.2.2.2.2.2.2.2.2.2.2.2.2.2.2.2.2.2.2.2.2.2.2.2.2.2.2)) := hD
      cases hM
set_option maxHeartbeats 40000000 in
theorem ceZ_asking (l : Launch) (D : va_G) (dA : Nat → ClassId) (sz : Nat) (za : Nat → Nat) (h : ZH) (tx : AI) (k9 : Int32 × Int32 × Int32) (ka kv : Nat → Nat) (s : ZS) (er : Int32 × Int32) (hM : MZ_asking tx k9.1 s = some (.inl er)) : vy_Met l yX2_asking (ws_ yX2_asking cX2_asking 2 (some (.object "LastAsked$Person"))) ({ frames := 7, cells := 4, slots := 24, locals := 343 }) (preX D dA (ZE ka kv) [.ref (za 0)] (zw dA za k9 tx h s) sz) (fun _ _ _ _ => False) (zQ D dA za tx er (va_A (zw dA za k9 tx h s) sz)) 4 24 (va_A (zw dA za k9 tx h s) sz) := by
  refine vy_ofW (cc := cX2_asking) (maxL := 2) (ret := (some (.object "LastAsked$Person"))) (by decide) rfl ?_
  intro p e s0 m args below meth c s₁ B hml hout hv
  obtain ⟨rfl, hsz, hP, hK, hD0, hE⟩ := hv
  have hx := B.exec
  have hb := B.bytes
  have hr := B.returns
  have hts := atoms_spec (ws := (ws_ yX2_asking cX2_asking 2 (some (.object "LastAsked$Person")))) B.pre
  have hts : ∀ w ∈ lw_all, w.before _ s0 = true := fun w h => hts w (List.mem_cons_of_mem _ h)
  have hown : s0.vm.findClass RX2 = some m.cls := findClass_of_methodNamed B.named
  have hlocks := B.notSynchronized
  subst hsz
  have hD := hD0.self (sz := s0.heap.size)
  generalize hAe : va_A (zw dA za k9 tx h s) s0.heap.size = A at hD hE ⊢
  have hA : ∀ q : Nat, s0.heap.size ≤ q → A q := fun q h => by rw [← hAe]; exact Or.inr h
  have hS : va_S A s0.heap s0.heap [] := va_S.rf
  have hl := lv_entry ([.ref (za 0)]) (n := 2) (Nat.le_of_ble_eq_true rfl)
  rw [lg_entry_eq]
  generalize (lg_sl ([.ref (za 0)]) ++ List.replicate (2 - (lg_sl ([.ref (za 0)])).length) Slot.unset).toArray = ls at hl ⊢
  have hl : lv_has ls 2 [(0, .ref (za 0))] := hl
  unfold MZ_asking at hM
  refine lv_aload_n hx hb dX2_asking_0 rfl (lv_at hl 0 rfl) ?_
  refine lv_aload_n hx hb dX2_asking_1 rfl (lv_at hl 0 rfl) ?_
  obtain ⟨r1_, er1, hM⟩ := b_inv hM
  cases r1_ with
  | inl e9 =>
    dsimp only at hM
    have hM := Sum.inl.inj (Option.some.inj hM)
    subst hM
    exact z_err (vy_runV (As := []) (rest := [.ref (za 0)]) ⟨hx, hb, hml, hown, hts⟩ (ceZ_personHere l D dA _ za h tx k9 ka kv s e9 er1 ) (cwV 0 hts (lw_V q833 q835 qs18 q114 q836) rfl rfl rfl (by decide +kernel) ⟨Nat.le_of_ble_eq_true rfl, Nat.le_of_ble_eq_true rfl⟩) (preX_V ZE_ok hP hK hD (ev_at ZE_ok hE hS (w_free hD hS hA)) hP (ci := 1) (q0 := 0) rfl rfl) rfl rfl hl.1 rfl (lv_room (Nat.le_of_ble_eq_true rfl)) dX2_asking_2 ⟨Nat.le_of_ble_eq_true rfl, Nat.le_of_ble_eq_true rfl⟩) hD hS hA hout hlocks (Nat.le_of_ble_eq_true rfl) (Nat.le_of_ble_eq_true rfl)
  | inr r1 =>
    dsimp only at hM
    refine k_w (va_runV (As := []) (rest := [.ref (za 0)]) ⟨hx, hb, hml, hown, hts⟩ (ctZ_personHere l D dA _ za h tx k9 ka kv s r1 er1 ) (cwV 0 hts (lw_V q833 q835 qs18 q114 q836) rfl rfl rfl (by decide +kernel) ⟨Nat.le_of_ble_eq_true rfl, Nat.le_of_ble_eq_true rfl⟩) (preX_V ZE_ok hP hK hD (ev_at ZE_ok hE hS (w_free hD hS hA)) hP (ci := 1) (q0 := 0) rfl rfl) rfl rfl hl.1 rfl (lv_room (Nat.le_of_ble_eq_true rfl)) dX2_asking_2 ⟨Nat.le_of_ble_eq_true rfl, Nat.le_of_ble_eq_true rfl⟩) hD hS hA (fun u2 H locs x3 hP hD hS => ?_)
    refine W.eq (g2 := F0 m 5 ls [.ref (u2.2.2.2.1 r1.1), .ref (za 0)]) (by first | rfl | (rfl; rfl) | (rfl) | (simp only [*]; rfl) | simp only [*]) ?_
    refine va_put (D := D) (ci := 1) (v := .ref (u2.2.2.2.1 r1.1)) (ty := (.object "LastAsked$Person")) (C := RX2) (T := TX2) (N := 11) hx hb hts in_X2 tyX2 tyX2_ok nmX2 hown hK.1 hP hD hS 0 rfl rfl 10 (by decide) (hts _ q236) (fun _ h9 => h9) rfl (by decide +kernel) rfl rfl (Nat.le_of_ble_eq_true rfl) dX2_asking_5 (fun H locs hP hD hS => ?_)
    have hP : va_P D clG (zw dA za k9 tx u2 (r1.2.1, r1.2.2.1, r1.2.2.2.1, r1.2.2.2.2.1, r1.2.2.2.2.2.1, (some r1.1), r1.2.2.2.2.2.2.2.1, r1.2.2.2.2.2.2.2.2.1, r1.2.2.2.2.2.2.2.2.2.1, r1.2.2.2.2.2.2.2.2.2.2.1, r1.2.2.2.2.2.2.2.2.2.2.2.1, r1.2.2.2.2.2.2.2.2.2.2.2.2.1, r1.2.2.2.2.2.2.2.2.2.2.2.2.2.1, r1.2.2.2.2.2.2.2.2.2.2.2.2.2.2.1, r1.2.2.2.2.2.2.2.2.2.2.2.2.2.2.2.1, r1.2.2.2.2.2.2.2.2.2.2.2.2.2.2.2.2.1, r1.2.2.2.2.2.2.2.2.2.2.2.2.2.2.2.2.2.1, r1.2.2.2.2.2.2.2.2.2.2.2.2.2.2.2.2.2.2.1, r1.2.2.2.2.2.2.2.2.2.2.2.2.2.2.2.2.2.2.2.1, r1.2.2.2.2.2.2.2.2.2.2.2.2.2.2.2.2.2.2.2.2.1, r1.2.2.2.2.2.2.2.2.2.2.2.2.2.2.2.2.2.2.2.2.2.1, r1.2.2.2.2.2.2.2.2.2.2.2.2.2.2.2.2.2.2.2.2.2.2.1, r1.2.2.2.2.2.2.2.2.2.2.2.2.2.2.2.2.2.2.2.2.2.2.2.1, r1.2.2.2.2.2.2.2.2.2.2.2.2.2.2.2.2.2.2.2.2.2.2.2.2.1, r1.2.2.2.2.2.2.2.2.2.2.2.2.2.2.2.2.2.2.2.2.2.2.2.2.2.1, r1.2.2.2.2.2.2.2.2.2.2.2.2.2.2.2.2.2.2.2.2.2.2.2.2.2.2.1, r1.2.2.2.2.2.2.2.2.2.2.2.2.2.2.2.2.2.2.2.2.2.2.2.2.2.2.2.1, r1.2.2.2.2.2.2.2.2.2.2.2.2.2.2.2.2.2.2.2.2.2.2.2.2.2.2.2.2.1, r1.2.2.2.2.2.2.2.2.2.2.2.2.2.2.2.2.2.2.2.2.2.2.2.2.2.2.2.2.2.1, r1.2.2.2.2.2.2.2.2.2.2.2.2.2.2.2.2.2.2.2.2.2.2.2.2.2.2.2.2.2.2.1, r1.2.2.2.2.2.2.2.2.2.2.2.2.2.2.2.2.2.2.2.2.2.2.2.2.2.2.2.2.2.2.2.1, r1.2.2.2.2.2.2.2.2.2.2.2.2.2.2.2.2.2.2.2.2.2.2.2.2.2.2.2.2.2.2.2.2)) H := zP_set hP (Nat.le_of_ble_eq_true rfl) rfl rfl
    have hD : va_D A (zw dA za k9 tx u2 (r1.2.1, r1.2.2.1, r1.2.2.2.1, r1.2.2.2.2.1, r1.2.2.2.2.2.1, (some r1.1), r1.2.2.2.2.2.2.2.1, r1.2.2.2.2.2.2.2.2.1, r1.2.2.2.2.2.2.2.2.2.1, r1.2.2.2.2.2.2.2.2.2.2.1, r1.2.2.2.2.2.2.2.2.2.2.2.1, r1.2.2.2.2.2.2.2.2.2.2.2.2.1, r1.2.2.2.2.2.2.2.2.2.2.2.2.2.1, r1.2.2.2.2.2.2.2.2.2.2.2.2.2.2.1, r1.2.2.2.2.2.2.2.2.2.2.2.2.2.2.2.1, r1.2.2.2.2.2.2.2.2.2.2.2.2.2.2.2.2.1, r1.2.2.2.2.2.2.2.2.2.2.2.2.2.2.2.2.2.1, r1.2.2.2.2.2.2.2.2.2.2.2.2.2.2.2.2.2.2.1, r1.2.2.2.2.2.2.2.2.2.2.2.2.2.2.2.2.2.2.2.1, r1.2.2.2.2.2.2.2.2.2.2.2.2.2.2.2.2.2.2.2.2.1, r1.2.2.2.2.2.2.2.2.2.2.2.2.2.2.2.2.2.2.2.2.2.1, r1.2.2.2.2.2.2.2.2.2.2.2.2.2.2.2.2.2.2.2.2.2.2.1, r1.2.2.2.2.2.2.2.2.2.2.2.2.2.2.2.2.2.2.2.2.2.2.2.1, r1.2.2.2.2.2.2.2.2.2.2.2.2.2.2.2.2.2.2.2.2.2.2.2.2.1, r1.2.2.2.2.2.2.2.2.2.2.2.2.2.2.2.2.2.2.2.2.2.2.2.2.2.1, r1.2.2.2.2.2.2.2.2.2.2.2.2.2.2.2.2.2.2.2.2.2.2.2.2.2.2.1, r1.2.2.2.2.2.2.2.2.2.2.2.2.2.2.2.2.2.2.2.2.2.2.2.2.2.2.2.1, r1.2.2.2.2.2.2.2.2.2.2.2.2.2.2.2.2.2.2.2.2.2.2.2.2.2.2.2.2.1, r1.2.2.2.2.2.2.2.2.2.2.2.2.2.2.2.2.2.2.2.2.2.2.2.2.2.2.2.2.2.1, r1.2.2.2.2.2.2.2.2.2.2.2.2.2.2.2.2.2.2.2.2.2.2.2.2.2.2.2.2.2.2.1, r1.2.2.2.2.2.2.2.2.2.2.2.2.2.2.2.2.2.2.2.2.2.2.2.2.2.2.2.2.2.2.2.1, r1.2.2.2.2.2.2.2.2.2.2.2.2.2.2.2.2.2.2.2.2.2.2.2.2.2.2.2.2.2.2.2.2)) := zD_set hD (Nat.le_of_ble_eq_true rfl) rfl rfl
    refine lv_aload_n hx hb dX2_asking_8 rfl (lv_at hl 0 rfl) ?_
    obtain ⟨i4, ei4, hM⟩ := b_inv hM
    obtain ⟨hi4, hM⟩ := gn_inv hM
    refine va_get (D := D) (ci := 1) (v := (zav u2 (some r1.1))) (C := RX2) (T := TX2) (N := 11) hx hb hts in_X2 hown hK.1 hP 0 rfl rfl 10 (by decide) (hts _ q236) (fun _ h9 => h9) rfl dX2_asking_9 ?_
    refine lv_tor (v := .ref (u2.2.2.2.1 i4)) (zav_some ei4) ?_
    obtain ⟨h5, hM⟩ := gn_inv hM
    obtain ⟨h6, hM⟩ := gn_inv hM
    refine pp_mayAsk (rest := []) ⟨hx, hb, hml, hown, hts⟩ hK hP hD hS hA zX_len h5 h6 q848 hl.1 (lv_room (Nat.le_of_ble_eq_true rfl)) (Nat.le_of_ble_eq_true rfl) (Nat.le_of_ble_eq_true rfl) (Nat.le_of_ble_eq_true rfl) (Nat.le_of_ble_eq_true rfl) dX2_asking_12 (fun H locs hP hD hS => ?_)
    have hP : va_P D clG (zw dA za k9 tx u2 (r1.2.1, r1.2.2.1, r1.2.2.2.1, r1.2.2.2.2.1, r1.2.2.2.2.2.1, (some r1.1), r1.2.2.2.2.2.2.2.1, r1.2.2.2.2.2.2.2.2.1, r1.2.2.2.2.2.2.2.2.2.1, r1.2.2.2.2.2.2.2.2.2.2.1, r1.2.2.2.2.2.2.2.2.2.2.2.1, r1.2.2.2.2.2.2.2.2.2.2.2.2.1, r1.2.2.2.2.2.2.2.2.2.2.2.2.2.1, r1.2.2.2.2.2.2.2.2.2.2.2.2.2.2.1, r1.2.2.2.2.2.2.2.2.2.2.2.2.2.2.2.1, r1.2.2.2.2.2.2.2.2.2.2.2.2.2.2.2.2.1, r1.2.2.2.2.2.2.2.2.2.2.2.2.2.2.2.2.2.1, r1.2.2.2.2.2.2.2.2.2.2.2.2.2.2.2.2.2.2.1, r1.2.2.2.2.2.2.2.2.2.2.2.2.2.2.2.2.2.2.2.1, r1.2.2.2.2.2.2.2.2.2.2.2.2.2.2.2.2.2.2.2.2.1, r1.2.2.2.2.2.2.2.2.2.2.2.2.2.2.2.2.2.2.2.2.2.1, r1.2.2.2.2.2.2.2.2.2.2.2.2.2.2.2.2.2.2.2.2.2.2.1, r1.2.2.2.2.2.2.2.2.2.2.2.2.2.2.2.2.2.2.2.2.2.2.2.1, r1.2.2.2.2.2.2.2.2.2.2.2.2.2.2.2.2.2.2.2.2.2.2.2.2.1, r1.2.2.2.2.2.2.2.2.2.2.2.2.2.2.2.2.2.2.2.2.2.2.2.2.2.1, r1.2.2.2.2.2.2.2.2.2.2.2.2.2.2.2.2.2.2.2.2.2.2.2.2.2.2.1, r1.2.2.2.2.2.2.2.2.2.2.2.2.2.2.2.2.2.2.2.2.2.2.2.2.2.2.2.1, r1.2.2.2.2.2.2.2.2.2.2.2.2.2.2.2.2.2.2.2.2.2.2.2.2.2.2.2.2.1, r1.2.2.2.2.2.2.2.2.2.2.2.2.2.2.2.2.2.2.2.2.2.2.2.2.2.2.2.2.2.1, r1.2.2.2.2.2.2.2.2.2.2.2.2.2.2.2.2.2.2.2.2.2.2.2.2.2.2.2.2.2.2.1, r1.2.2.2.2.2.2.2.2.2.2.2.2.2.2.2.2.2.2.2.2.2.2.2.2.2.2.2.2.2.2.2.1, r1.2.2.2.2.2.2.2.2.2.2.2.2.2.2.2.2.2.2.2.2.2.2.2.2.2.2.2.2.2.2.2.2)) H := hP
    have hD : va_D A (zw dA za k9 tx u2 (r1.2.1, r1.2.2.1, r1.2.2.2.1, r1.2.2.2.2.1, r1.2.2.2.2.2.1, (some r1.1), r1.2.2.2.2.2.2.2.1, r1.2.2.2.2.2.2.2.2.1, r1.2.2.2.2.2.2.2.2.2.1, r1.2.2.2.2.2.2.2.2.2.2.1, r1.2.2.2.2.2.2.2.2.2.2.2.1, r1.2.2.2.2.2.2.2.2.2.2.2.2.1, r1.2.2.2.2.2.2.2.2.2.2.2.2.2.1, r1.2.2.2.2.2.2.2.2.2.2.2.2.2.2.1, r1.2.2.2.2.2.2.2.2.2.2.2.2.2.2.2.1, r1.2.2.2.2.2.2.2.2.2.2.2.2.2.2.2.2.1, r1.2.2.2.2.2.2.2.2.2.2.2.2.2.2.2.2.2.1, r1.2.2.2.2.2.2.2.2.2.2.2.2.2.2.2.2.2.2.1, r1.2.2.2.2.2.2.2.2.2.2.2.2.2.2.2.2.2.2.2.1, r1.2.2.2.2.2.2.2.2.2.2.2.2.2.2.2.2.2.2.2.2.1, r1.2.2.2.2.2.2.2.2.2.2.2.2.2.2.2.2.2.2.2.2.2.1, r1.2.2.2.2.2.2.2.2.2.2.2.2.2.2.2.2.2.2.2.2.2.2.1, r1.2.2.2.2.2.2.2.2.2.2.2.2.2.2.2.2.2.2.2.2.2.2.2.1, r1.2.2.2.2.2.2.2.2.2.2.2.2.2.2.2.2.2.2.2.2.2.2.2.2.1, r1.2.2.2.2.2.2.2.2.2.2.2.2.2.2.2.2.2.2.2.2.2.2.2.2.2.1, r1.2.2.2.2.2.2.2.2.2.2.2.2.2.2.2.2.2.2.2.2.2.2.2.2.2.2.1, r1.2.2.2.2.2.2.2.2.2.2.2.2.2.2.2.2.2.2.2.2.2.2.2.2.2.2.2.1, r1.2.2.2.2.2.2.2.2.2.2.2.2.2.2.2.2.2.2.2.2.2.2.2.2.2.2.2.2.1, r1.2.2.2.2.2.2.2.2.2.2.2.2.2.2.2.2.2.2.2.2.2.2.2.2.2.2.2.2.2.1, r1.2.2.2.2.2.2.2.2.2.2.2.2.2.2.2.2.2.2.2.2.2.2.2.2.2.2.2.2.2.2.1, r1.2.2.2.2.2.2.2.2.2.2.2.2.2.2.2.2.2.2.2.2.2.2.2.2.2.2.2.2.2.2.2.1, r1.2.2.2.2.2.2.2.2.2.2.2.2.2.2.2.2.2.2.2.2.2.2.2.2.2.2.2.2.2.2.2.2)) := hD
    refine lv_if_ne (tgt := 25) hx hb dX2_asking_15 (by decide) (fun c7 => ?_) (fun c7 => ?_)
    · rw [if_neg c7] at hM
      refine lv_aload_n hx hb dX2_asking_25 rfl (lv_at hl 0 rfl) ?_
      obtain ⟨r8, er8, hM⟩ := b_inv hM
      refine k_w (va_runV (As := []) (rest := []) ⟨hx, hb, hml, hown, hts⟩ (ctZ_step l D dA _ za u2 tx k9 ka kv (r1.2.1, r1.2.2.1, r1.2.2.2.1, r1.2.2.2.2.1, r1.2.2.2.2.2.1, (some r1.1), r1.2.2.2.2.2.2.2.1, r1.2.2.2.2.2.2.2.2.1, r1.2.2.2.2.2.2.2.2.2.1, r1.2.2.2.2.2.2.2.2.2.2.1, r1.2.2.2.2.2.2.2.2.2.2.2.1, r1.2.2.2.2.2.2.2.2.2.2.2.2.1, r1.2.2.2.2.2.2.2.2.2.2.2.2.2.1, r1.2.2.2.2.2.2.2.2.2.2.2.2.2.2.1, r1.2.2.2.2.2.2.2.2.2.2.2.2.2.2.2.1, r1.2.2.2.2.2.2.2.2.2.2.2.2.2.2.2.2.1, r1.2.2.2.2.2.2.2.2.2.2.2.2.2.2.2.2.2.1, r1.2.2.2.2.2.2.2.2.2.2.2.2.2.2.2.2.2.2.1, r1.2.2.2.2.2.2.2.2.2.2.2.2.2.2.2.2.2.2.2.1, r1.2.2.2.2.2.2.2.2.2.2.2.2.2.2.2.2.2.2.2.2.1, r1.2.2.2.2.2.2.2.2.2.2.2.2.2.2.2.2.2.2.2.2.2.1, r1.2.2.2.2.2.2.2.2.2.2.2.2.2.2.2.2.2.2.2.2.2.2.1, r1.2.2.2.2.2.2.2.2.2.2.2.2.2.2.2.2.2.2.2.2.2.2.2.1, r1.2.2.2.2.2.2.2.2.2.2.2.2.2.2.2.2.2.2.2.2.2.2.2.2.1, r1.2.2.2.2.2.2.2.2.2.2.2.2.2.2.2.2.2.2.2.2.2.2.2.2.2.1, r1.2.2.2.2.2.2.2.2.2.2.2.2.2.2.2.2.2.2.2.2.2.2.2.2.2.2.1, r1.2.2.2.2.2.2.2.2.2.2.2.2.2.2.2.2.2.2.2.2.2.2.2.2.2.2.2.1, r1.2.2.2.2.2.2.2.2.2.2.2.2.2.2.2.2.2.2.2.2.2.2.2.2.2.2.2.2.1, r1.2.2.2.2.2.2.2.2.2.2.2.2.2.2.2.2.2.2.2.2.2.2.2.2.2.2.2.2.2.1, r1.2.2.2.2.2.2.2.2.2.2.2.2.2.2.2.2.2.2.2.2.2.2.2.2.2.2.2.2.2.2.1, r1.2.2.2.2.2.2.2.2.2.2.2.2.2.2.2.2.2.2.2.2.2.2.2.2.2.2.2.2.2.2.2.1, r1.2.2.2.2.2.2.2.2.2.2.2.2.2.2.2.2.2.2.2.2.2.2.2.2.2.2.2.2.2.2.2.2) r8 er8 ) (cwV 0 hts (lw_V q521 q523 qs4 q114 q524) rfl rfl rfl (by decide +kernel) ⟨Nat.le_of_ble_eq_true rfl, Nat.le_of_ble_eq_true rfl⟩) (preX_V ZE_ok hP hK hD (ev_at ZE_ok hE hS (w_free hD hS hA)) hP (ci := 1) (q0 := 0) rfl rfl) rfl rfl hl.1 rfl (lv_room (Nat.le_of_ble_eq_true rfl)) dX2_asking_26 ⟨Nat.le_of_ble_eq_true rfl, Nat.le_of_ble_eq_true rfl⟩) hD hS hA (fun u9 H locs x10 hP hD hS => ?_)
      refine W.widen (k := 2) (n := 12) (Nat.le_of_ble_eq_true rfl) (Nat.le_of_ble_eq_true rfl) ?_
      refine W.eq (g2 := F0 m 29 ls []) (by first | rfl | (rfl; rfl) | (rfl) | (simp only [*]; rfl) | simp only [*]) ?_
      refine lv_aload_n hx hb dX2_asking_29 rfl (lv_at hl 0 rfl) ?_
      obtain ⟨r11_, er11, hM⟩ := b_inv hM
      cases r11_ with
      | inl e9 =>
        dsimp only at hM
        have hM := Sum.inl.inj (Option.some.inj hM)
        subst hM
        exact z_err (vy_runV (As := []) (rest := []) ⟨hx, hb, hml, hown, hts⟩ (ceZ_personHere l D dA _ za u9 tx k9 ka kv r8 e9 er11 ) (cwV 0 hts (lw_V q833 q835 qs18 q114 q836) rfl rfl rfl (by decide +kernel) ⟨Nat.le_of_ble_eq_true rfl, Nat.le_of_ble_eq_true rfl⟩) (preX_V ZE_ok hP hK hD (ev_at ZE_ok hE hS (w_free hD hS hA)) hP (ci := 1) (q0 := 0) rfl rfl) rfl rfl hl.1 rfl (lv_room (Nat.le_of_ble_eq_true rfl)) dX2_asking_30 ⟨Nat.le_of_ble_eq_true rfl, Nat.le_of_ble_eq_true rfl⟩) hD hS hA hout hlocks (Nat.le_of_ble_eq_true rfl) (Nat.le_of_ble_eq_true rfl)
      | inr r11 =>
        dsimp only at hM
        refine k_w (va_runV (As := []) (rest := []) ⟨hx, hb, hml, hown, hts⟩ (ctZ_personHere l D dA _ za u9 tx k9 ka kv r8 r11 er11 ) (cwV 0 hts (lw_V q833 q835 qs18 q114 q836) rfl rfl rfl (by decide +kernel) ⟨Nat.le_of_ble_eq_true rfl, Nat.le_of_ble_eq_true rfl⟩) (preX_V ZE_ok hP hK hD (ev_at ZE_ok hE hS (w_free hD hS hA)) hP (ci := 1) (q0 := 0) rfl rfl) rfl rfl hl.1 rfl (lv_room (Nat.le_of_ble_eq_true rfl)) dX2_asking_30 ⟨Nat.le_of_ble_eq_true rfl, Nat.le_of_ble_eq_true rfl⟩) hD hS hA (fun u12 H locs x13 hP hD hS => ?_)
        refine W.eq (g2 := F0 m 33 ls [.ref (u12.2.2.2.1 r11.1)]) (by first | rfl | (rfl; rfl) | (rfl) | (simp only [*]; rfl) | simp only [*]) ?_
        refine lv_astore_n (lv' := [(1, .ref (u12.2.2.2.1 r11.1)), (0, .ref (za 0))]) hx hb dX2_asking_33 rfl hl (by decide) rfl (fun ls hl => ?_)
        refine lv_aload_n hx hb dX2_asking_34 rfl (lv_at hl 1 rfl) ?_
        obtain ⟨i14, ei14, hM⟩ := b_inv hM
        obtain ⟨hi14, hM⟩ := gn_inv hM
        refine va_get (D := D) (ci := 1) (v := (zav u12 r11.2.2.2.2.2.2.1)) (C := RX2) (T := TX2) (N := 11) hx hb hts in_X2 hown hK.1 hP 0 rfl rfl 10 (by decide) (hts _ q236) (fun _ h9 => h9) rfl dX2_asking_35 ?_
        refine lv_tor (v := .ref (u12.2.2.2.1 i14)) (zav_some ei14) ?_
        refine lv_aload_n hx hb dX2_asking_38 rfl (lv_at hl 0 rfl) ?_
        obtain ⟨h15, hM⟩ := gn_inv hM
        obtain ⟨h16, hM⟩ := gn_inv hM
        refine lv_acmp_eq (rx := some (u12.2.2.2.1 i14)) (ry := some (u12.2.2.2.1 r11.1)) (tgt := 59) hx hb dX2_asking_39 (by decide) (fun c17 => ?_) (fun c17 => ?_)
        · have c_c17 := zpa_inj hD h15 h16 (Option.some.inj c17)
          rw [if_pos c_c17] at hM
          refine lv_aload_n hx hb dX2_asking_59 rfl (lv_at hl 1 rfl) ?_
          refine lv_iconst (v := (3 : Int32)) hx hb dX2_asking_60 (by decide) ?_
          have er18 : MX2_fail (3 : Int32) r11.2.2.2.1 = some ((3 : Int32), r11.2.2.2.1) := rfl
          refine k_r0 [0, 1] (va_runV (As := [.int (3 : Int32)]) (rest := []) ⟨hx, hb, hml, hown, hts⟩ (ctX2_fail l D dA _ (za 0) (za 1) (3 : Int32) k9.1 r11.2.1 r11.2.2.1 r11.2.2.2.1 r11.2.2.2.2.1 0 k9.2.1 k9.2.2 (.ref (za 2)) (.ref (za 3)) (zwv u12 r11.2.2.2.2.2.1) (.ref (za 4)) (zav u12 r11.2.2.2.2.2.2.1) .null .null .null .null .null _ er18) (cwV 1 hts (lw_V q619 q621 qs7 q114 q622) rfl rfl rfl (by decide +kernel) ⟨Nat.le_of_ble_eq_true rfl, Nat.le_of_ble_eq_true rfl⟩) (pre_V (hP.sub [0, 1] rfl) hK (hD.sub [0, 1] (by decide) rfl) (ci := 1) (q0 := 0) rfl rfl) rfl rfl hl.1 rfl (lv_room (Nat.le_of_ble_eq_true rfl)) dX2_asking_61 ⟨Nat.le_of_ble_eq_true rfl, Nat.le_of_ble_eq_true rfl⟩) hP hD hS hA rfl (fun _ => rfl) (fun u19 H locs hP hD hS => ?_)
          have hP : va_P D clG (zw dA za (k9.1, (3 : Int32), r11.2.2.2.1) tx u12 r11.2) H := hP
          have hD : va_D A (zw dA za (k9.1, (3 : Int32), r11.2.2.2.1) tx u12 r11.2) := hD
          have hM := Sum.inl.inj (Option.some.inj hM)
          subst hM
          exact z_throw hx hb dX2_asking_64 hK hP hD hS hout hlocks rfl (Nat.le_of_ble_eq_true rfl) (Nat.le_of_ble_eq_true rfl)
        · have c_c17 : ¬ i14 = r11.1 := fun h9 => c17 (by rw [h9])
          rw [if_neg c_c17] at hM
          refine lv_aload_n hx hb dX2_asking_42 rfl (lv_at hl 1 rfl) ?_
          refine va_get (D := D) (ci := 1) (v := (zav u12 r11.2.2.2.2.2.2.1)) (C := RX2) (T := TX2) (N := 11) hx hb hts in_X2 hown hK.1 hP 0 rfl rfl 10 (by decide) (hts _ q236) (fun _ h9 => h9) rfl dX2_asking_43 ?_
          refine lv_tor (v := .ref (u12.2.2.2.1 i14)) (zav_some ei14) ?_
          obtain ⟨h20, hM⟩ := gn_inv hM
          obtain ⟨h21, hM⟩ := gn_inv hM
          refine pp_getf hx hb hts hown hK hP zX_len h20 h21 5 (by decide) (hts _ q763) (fun _ h9 => h9) (v := .int (r11.2.2.2.2.2.2.2.2.2.2.2.2.2.2.2.2.2.2.2.2.2.2.2.2.2.2.2.1 i14)) rfl dX2_asking_46 ?_
          refine lv_aload_n hx hb dX2_asking_49 rfl (lv_at hl 0 rfl) ?_
          obtain ⟨h22, hM⟩ := gn_inv hM
          obtain ⟨h23, hM⟩ := gn_inv hM
          refine pp_getf hx hb hts hown hK hP zX_len h22 h23 1 (by decide) (hts _ q751) (fun _ h9 => h9) (v := .int (r11.2.2.2.2.2.2.2.2.2.2.2.2.2.2.2.2.2.2.2.2.2.2.2.1 r11.1)) rfl dX2_asking_50 ?_
          obtain ⟨r24, er24, hM⟩ := b_inv hM
          refine k_i0 [] (va_runSN (As := [.int (r11.2.2.2.2.2.2.2.2.2.2.2.2.2.2.2.2.2.2.2.2.2.2.2.2.2.2.2.1 i14), .int (r11.2.2.2.2.2.2.2.2.2.2.2.2.2.2.2.2.2.2.2.2.2.2.2.1 r11.1)]) (rest := []) ⟨hx, hb, hml, hown, hts⟩ (ctX1_has l D dA _ (r11.2.2.2.2.2.2.2.2.2.2.2.2.2.2.2.2.2.2.2.2.2.2.2.2.2.2.2.1 i14) (r11.2.2.2.2.2.2.2.2.2.2.2.2.2.2.2.2.2.2.2.2.2.2.2.1 r11.1) _ er24) ⟨va_cnB 2 hts (lw_meth q839) rfl rfl rfl (hK.nw 15 rfl) (hts _ q113) (by decide +kernel) ⟨Nat.le_of_ble_eq_true rfl, Nat.le_of_ble_eq_true rfl⟩, hts _ q838, trivial⟩ (pre_S p_nil hK (A := A) d_nil) rfl rfl hl.1 rfl (lv_room (Nat.le_of_ble_eq_true rfl)) dX2_asking_53 ⟨Nat.le_of_ble_eq_true rfl, Nat.le_of_ble_eq_true rfl⟩) hP hD hS hA rfl (fun _ => rfl) (fun u25 H locs hP hD hS => ?_)
          have hP : va_P D clG (zw dA za k9 tx u12 r11.2) H := hP
          have hD : va_D A (zw dA za k9 tx u12 r11.2) := hD
          refine lv_if_eq (tgt := 65) hx hb dX2_asking_56 (by decide) (fun c26 => ?_) (fun c26 => ?_)
          · rw [if_pos c26] at hM
            refine lv_aload_n hx hb dX2_asking_65 rfl (lv_at hl 0 rfl) ?_
            refine lv_aload_n hx hb dX2_asking_66 rfl (lv_at hl 1 rfl) ?_
            refine va_get (D := D) (ci := 1) (v := (zav u12 r11.2.2.2.2.2.2.1)) (C := RX2) (T := TX2) (N := 11) hx hb hts in_X2 hown hK.1 hP 0 rfl rfl 10 (by decide) (hts _ q236) (fun _ h9 => h9) rfl dX2_asking_67 ?_
            refine lv_tor (v := .ref (u12.2.2.2.1 i14)) (zav_some ei14) ?_
            obtain ⟨h27, hM⟩ := gn_inv hM
            obtain ⟨h28, hM⟩ := gn_inv hM
            refine pp_getf hx hb hts hown hK hP zX_len h27 h28 1 (by decide) (hts _ q751) (fun _ h9 => h9) (v := .int (r11.2.2.2.2.2.2.2.2.2.2.2.2.2.2.2.2.2.2.2.2.2.2.2.1 i14)) rfl dX2_asking_70 ?_
            obtain ⟨h29, hM⟩ := gn_inv hM
            obtain ⟨h30, hM⟩ := gn_inv hM
            refine pp_mayBeAskedBy (rest := []) (i := (r11.2.2.2.2.2.2.2.2.2.2.2.2.2.2.2.2.2.2.2.2.2.2.2.1 i14)) ⟨hx, hb, hml, hown, hts⟩ hK hP hD hS hA zX_len h29 h30 q859 hl.1 (lv_room (Nat.le_of_ble_eq_true rfl)) (Nat.le_of_ble_eq_true rfl) (Nat.le_of_ble_eq_true rfl) (Nat.le_of_ble_eq_true rfl) (Nat.le_of_ble_eq_true rfl) dX2_asking_73 (fun H locs hP hD hS => ?_)
            have hP : va_P D clG (zw dA za k9 tx u12 r11.2) H := hP
            have hD : va_D A (zw dA za k9 tx u12 r11.2) := hD
            refine lv_if_ne (tgt := 86) hx hb dX2_asking_76 (by decide) (fun c31 => ?_) (fun c31 => ?_)
            · rw [if_neg c31] at hM
              refine lv_aload_n hx hb dX2_asking_86 rfl (lv_at hl 1 rfl) ?_
              obtain ⟨h35, hM⟩ := gn_inv hM
              obtain ⟨r32, er32, hM⟩ := b_inv hM
              refine k_w (va_runV (As := []) (rest := []) ⟨hx, hb, hml, hown, hts⟩ (ctZ_step l D dA _ za u12 tx k9 ka kv r11.2 r32 er32 ) (cwV 0 hts (lw_V q521 q523 qs4 q114 q524) rfl rfl rfl (by decide +kernel) ⟨Nat.le_of_ble_eq_true rfl, Nat.le_of_ble_eq_true rfl⟩) (preX_V ZE_ok hP hK hD (ev_at ZE_ok hE hS (w_free hD hS hA)) hP (ci := 1) (q0 := 0) rfl rfl) rfl rfl hl.1 rfl (lv_room (Nat.le_of_ble_eq_true rfl)) dX2_asking_87 ⟨Nat.le_of_ble_eq_true rfl, Nat.le_of_ble_eq_true rfl⟩) hD hS hA (fun u33 H locs x34 hP hD hS => ?_)
              have hl : lv_has ls 2 [(1, .ref (u33.2.2.2.1 r11.1)), (0, .ref (za 0))] := by simp only [x34.2.1 r11.1 h35]; exact hl
              refine W.widen (k := 4) (n := 24) (Nat.le_of_ble_eq_true rfl) (Nat.le_of_ble_eq_true rfl) ?_
              refine W.eq (g2 := F0 m 90 ls []) (by first | rfl | (rfl; rfl) | (rfl) | (simp only [*]; rfl) | simp only [*]) ?_
              refine lv_aload_n hx hb dX2_asking_90 rfl (lv_at hl 0 rfl) ?_
              cases hM
            · rw [if_pos c31] at hM
              refine lv_aload_n hx hb dX2_asking_79 rfl (lv_at hl 1 rfl) ?_
              refine lv_bipush (v := (7 : Int32)) hx hb dX2_asking_80 (by decide) ?_
              have er36 : MX2_fail (7 : Int32) r11.2.2.2.1 = some ((7 : Int32), r11.2.2.2.1) := rfl
              refine k_r0 [0, 1] (va_runV (As := [.int (7 : Int32)]) (rest := []) ⟨hx, hb, hml, hown, hts⟩ (ctX2_fail l D dA _ (za 0) (za 1) (7 : Int32) k9.1 r11.2.1 r11.2.2.1 r11.2.2.2.1 r11.2.2.2.2.1 0 k9.2.1 k9.2.2 (.ref (za 2)) (.ref (za 3)) (zwv u12 r11.2.2.2.2.2.1) (.ref (za 4)) (zav u12 r11.2.2.2.2.2.2.1) .null .null .null .null .null _ er36) (cwV 1 hts (lw_V q619 q621 qs7 q114 q622) rfl rfl rfl (by decide +kernel) ⟨Nat.le_of_ble_eq_true rfl, Nat.le_of_ble_eq_true rfl⟩) (pre_V (hP.sub [0, 1] rfl) hK (hD.sub [0, 1] (by decide) rfl) (ci := 1) (q0 := 0) rfl rfl) rfl rfl hl.1 rfl (lv_room (Nat.le_of_ble_eq_true rfl)) dX2_asking_82 ⟨Nat.le_of_ble_eq_true rfl, Nat.le_of_ble_eq_true rfl⟩) hP hD hS hA rfl (fun _ => rfl) (fun u37 H locs hP hD hS => ?_)
              have hP : va_P D clG (zw dA za (k9.1, (7 : Int32), r11.2.2.2.1) tx u12 r11.2) H := hP
              have hD : va_D A (zw dA za (k9.1, (7 : Int32), r11.2.2.2.1) tx u12 r11.2) := hD
              have hM := Sum.inl.inj (Option.some.inj hM)
              subst hM
              exact z_throw hx hb dX2_asking_85 hK hP hD hS hout hlocks rfl (Nat.le_of_ble_eq_true rfl) (Nat.le_of_ble_eq_true rfl)
          · rw [if_neg c26] at hM
            refine lv_aload_n hx hb dX2_asking_59 rfl (lv_at hl 1 rfl) ?_
            refine lv_iconst (v := (3 : Int32)) hx hb dX2_asking_60 (by decide) ?_
            have er38 : MX2_fail (3 : Int32) r11.2.2.2.1 = some ((3 : Int32), r11.2.2.2.1) := rfl
            refine k_r0 [0, 1] (va_runV (As := [.int (3 : Int32)]) (rest := []) ⟨hx, hb, hml, hown, hts⟩ (ctX2_fail l D dA _ (za 0) (za 1) (3 : Int32) k9.1 r11.2.1 r11.2.2.1 r11.2.2.2.1 r11.2.2.2.2.1 0 k9.2.1 k9.2.2 (.ref (za 2)) (.ref (za 3)) (zwv u12 r11.2.2.2.2.2.1) (.ref (za 4)) (zav u12 r11.2.2.2.2.2.2.1) .null .null .null .null .null _ er38) (cwV 1 hts (lw_V q619 q621 qs7 q114 q622) rfl rfl rfl (by decide +kernel) ⟨Nat.le_of_ble_eq_true rfl, Nat.le_of_ble_eq_true rfl⟩) (pre_V (hP.sub [0, 1] rfl) hK (hD.sub [0, 1] (by decide) rfl) (ci := 1) (q0 := 0) rfl rfl) rfl rfl hl.1 rfl (lv_room (Nat.le_of_ble_eq_true rfl)) dX2_asking_61 ⟨Nat.le_of_ble_eq_true rfl, Nat.le_of_ble_eq_true rfl⟩) hP hD hS hA rfl (fun _ => rfl) (fun u39 H locs hP hD hS => ?_)
            have hP : va_P D clG (zw dA za (k9.1, (3 : Int32), r11.2.2.2.1) tx u12 r11.2) H := hP
            have hD : va_D A (zw dA za (k9.1, (3 : Int32), r11.2.2.2.1) tx u12 r11.2) := hD
            have hM := Sum.inl.inj (Option.some.inj hM)
            subst hM
            exact z_throw hx hb dX2_asking_64 hK hP hD hS hout hlocks rfl (Nat.le_of_ble_eq_true rfl) (Nat.le_of_ble_eq_true rfl)
    · rw [if_pos c7] at hM
      refine lv_aload_n hx hb dX2_asking_18 rfl (lv_at hl 0 rfl) ?_
      refine lv_bipush (v := (7 : Int32)) hx hb dX2_asking_19 (by decide) ?_
      have er40 : MX2_fail (7 : Int32) r1.2.2.2.1 = some ((7 : Int32), r1.2.2.2.1) := rfl
      refine k_r0 [0, 1] (va_runV (As := [.int (7 : Int32)]) (rest := []) ⟨hx, hb, hml, hown, hts⟩ (ctX2_fail l D dA _ (za 0) (za 1) (7 : Int32) k9.1 r1.2.1 r1.2.2.1 r1.2.2.2.1 r1.2.2.2.2.1 0 k9.2.1 k9.2.2 (.ref (za 2)) (.ref (za 3)) (zwv u2 r1.2.2.2.2.2.1) (.ref (za 4)) (zav u2 (some r1.1)) .null .null .null .null .null _ er40) (cwV 1 hts (lw_V q619 q621 qs7 q114 q622) rfl rfl rfl (by decide +kernel) ⟨Nat.le_of_ble_eq_true rfl, Nat.le_of_ble_eq_true rfl⟩) (pre_V (hP.sub [0, 1] rfl) hK (hD.sub [0, 1] (by decide) rfl) (ci := 1) (q0 := 0) rfl rfl) rfl rfl hl.1 rfl (lv_room (Nat.le_of_ble_eq_true rfl)) dX2_asking_21 ⟨Nat.le_of_ble_eq_true rfl, Nat.le_of_ble_eq_true rfl⟩) hP hD hS hA rfl (fun _ => rfl) (fun u41 H locs hP hD hS => ?_)
      have hP : va_P D clG (zw dA za (k9.1, (7 : Int32), r1.2.2.2.1) tx u2 (r1.2.1, r1.2.2.1, r1.2.2.2.1, r1.2.2.2.2.1, r1.2.2.2.2.2.1, (some r1.1), r1.2.2.2.2.2.2.2.1, r1.2.2.2.2.2.2.2.2.1, r1.2.2.2.2.2.2.2.2.2.1, r1.2.2.2.2.2.2.2.2.2.2.1, r1.2.2.2.2.2.2.2.2.2.2.2.1, r1.2.2.2.2.2.2.2.2.2.2.2.2.1, r1.2.2.2.2.2.2.2.2.2.2.2.2.2.1, r1.2.2.2.2.2.2.2.2.2.2.2.2.2.2.1, r1.2.2.2.2.2.2.2.2.2.2.2.2.2.2.2.1, r1.2.2.2.2.2.2.2.2.2.2.2.2.2.2.2.2.1, r1.2.2.2.2.2.2.2.2.2.2.2.2.2.2.2.2.2.1, r1.2.2.2.2.2.2.2.2.2.2.2.2.2.2.2.2.2.2.1, r1.2.2.2.2.2.2.2.2.2.2.2.2.2.2.2.2.2.2.2.1, r1.2.2.2.2.2.2.2.2.2.2.2.2.2.2.2.2.2.2.2.2.1, r1.2.2.2.2.2.2.2.2.2.2.2.2.2.2.2.2.2.2.2.2.2.1, r1.2.2.2.2.2.2.2.2.2.2.2.2.2.2.2.2.2.2.2.2.2.2.1, r1.2.2.2.2.2.2.2.2.2.2.2.2.2.2.2.2.2.2.2.2.2.2.2.1, r1.2.2.2.2.2.2.2.2.2.2.2.2.2.2.2.2.2.2.2.2.2.2.2.2.1, r1.2.2.2.2.2.2.2.2.2.2.2.2.2.2.2.2.2.2.2.2.2.2.2.2.2.1, r1.2.2.2.2.2.2.2.2.2.2.2.2.2.2.2.2.2.2.2.2.2.2.2.2.2.2.1, r1.2.2.2.2.2.2.2.2.2.2.2.2.2.2.2.2.2.2.2.2.2.2.2.2.2.2.2.1, r1.2.2.2.2.2.2.2.2.2.2.2.2.2.2.2.2.2.2.2.2.2.2.2.2.2.2.2.2.1, r1.2.2.2.2.2.2.2.2.2.2.2.2.2.2.2.2.2.2.2.2.2.2.2.2.2.2.2.2.2.1, r1.2.2.2.2.2.2.2.2.2.2.2.2.2.2.2.2.2.2.2.2.2.2.2.2.2.2.2.2.2.2.1, r1.2.2.2.2.2.2.2.2.2.2.2.2.2.2.2.2.2.2.2.2.2.2.2.2.2.2.2.2.2.2.2.1, r1.2.2.2.2.2.2.2.2.2.2.2.2.2.2.2.2.2.2.2.2.2.2.2.2.2.2.2.2.2.2.2.2)) H := hP
      have hD : va_D A (zw dA za (k9.1, (7 : Int32), r1.2.2.2.1) tx u2 (r1.2.1, r1.2.2.1, r1.2.2.2.1, r1.2.2.2.2.1, r1.2.2.2.2.2.1, (some r1.1), r1.2.2.2.2.2.2.2.1, r1.2.2.2.2.2.2.2.2.1, r1.2.2.2.2.2.2.2.2.2.1, r1.2.2.2.2.2.2.2.2.2.2.1, r1.2.2.2.2.2.2.2.2.2.2.2.1, r1.2.2.2.2.2.2.2.2.2.2.2.2.1, r1.2.2.2.2.2.2.2.2.2.2.2.2.2.1, r1.2.2.2.2.2.2.2.2.2.2.2.2.2.2.1, r1.2.2.2.2.2.2.2.2.2.2.2.2.2.2.2.1, r1.2.2.2.2.2.2.2.2.2.2.2.2.2.2.2.2.1, r1.2.2.2.2.2.2.2.2.2.2.2.2.2.2.2.2.2.1, r1.2.2.2.2.2.2.2.2.2.2.2.2.2.2.2.2.2.2.1, r1.2.2.2.2.2.2.2.2.2.2.2.2.2.2.2.2.2.2.2.1, r1.2.2.2.2.2.2.2.2.2.2.2.2.2.2.2.2.2.2.2.2.1, r1.2.2.2.2.2.2.2.2.2.2.2.2.2.2.2.2.2.2.2.2.2.1, r1.2.2.2.2.2.2.2.2.2.2.2.2.2.2.2.2.2.2.2.2.2.2.1, r1.2.2.2.2.2.2.2.2.2.2.2.2.2.2.2.2.2.2.2.2.2.2.2.1, r1.2.2.2.2.2.2.2.2.2.2.2.2.2.2.2.2.2.2.2.2.2.2.2.2.1, r1.2.2.2.2.2.2.2.2.2.2.2.2.2.2.2.2.2.2.2.2.2.2.2.2.2.1, r1.2.2.2.2.2.2.2.2.2.2.2.2.2.2.2.2.2.2.2.2.2.2.2.2.2.2.1, r1.2.2.2.2.2.2.2.2.2.2.2.2.2.2.2.2.2.2.2.2.2.2.2.2.2.2.2.1, r1.2.2.2.2.2.2.2.2.2.2.2.2.2.2.2.2.2.2.2.2.2.2.2.2.2.2.2.2.1, r1.2.2.2.2.2.2.2.2.2.2.2.2.2.2.2.2.2.2.2.2.2.2.2.2.2.2.2.2.2.1, r1.2.2.2.2.2.2.2.2.2.2.2.2.2.2.2.2.2.2.2.2.2.2.2.2.2.2.2.2.2.2.1, r1.2.2.2.2.2.2.2.2.2.2.2.2.2.2.2.2.2.2.2.2.2.2.2.2.2.2.2.2.2.2.2.1, r1.2.2.2.2.2.2.2.2.2.2.2.2.2.2.2.2.2.2.2.2.2.2.2.2.2.2.2.2.2.2.2.2)) := hD
      have hM := Sum.inl.inj (Option.some.inj hM)
      subst hM
      exact z_throw hx hb dX2_asking_24 hK hP hD hS hout hlocks rfl (Nat.le_of_ble_eq_true rfl) (Nat.le_of_ble_eq_true rfl)
set_option maxHeartbeats 40000000 in
theorem ctZ_nearLine (l : Launch) (D : va_G) (dA : Nat → ClassId) (sz : Nat) (za : Nat → Nat) (h : ZH) (tx : AI) (k9 : Int32 × Int32 × Int32) (ka kv : Nat → Nat) (s : ZS) (r : ZS) (hM : MZ_nearLine tx k9.1 s = some (.inr r)) : Met l yX2_nearLine (ws_ yX2_nearLine cX2_nearLine 3 none) ({ frames := 7, cells := 6, slots := 36, locals := 343 }) (preX D dA (ZE ka kv) [.ref (za 0)] (zw dA za k9 tx h s) sz) (qz_ D (fun (u : ZH) => none) (fun u => zext h u s r) (fun u => zw dA za k9 tx u r) (va_A (zw dA za k9 tx h s) sz)) 6 36 (va_A (zw dA za k9 tx h s) sz) := by
  refine Met.ofW (cc := cX2_nearLine) (maxL := 3) (ret := none) (by decide) rfl ?_
  intro p e s0 m args below meth c s₁ B hml hv
  obtain ⟨rfl, hsz, hP, hK, hD0, hE⟩ := hv
  have hx := B.exec
  have hb := B.bytes
  have hr := B.returns
  have hts := atoms_spec (ws := (ws_ yX2_nearLine cX2_nearLine 3 none)) B.pre
  have hts : ∀ w ∈ lw_all, w.before _ s0 = true := fun w h => hts w (List.mem_cons_of_mem _ h)
  have hown : s0.vm.findClass RX2 = some m.cls := findClass_of_methodNamed B.named
  have hlocks := B.notSynchronized
  subst hsz
  have hD := hD0.self (sz := s0.heap.size)
  generalize hAe : va_A (zw dA za k9 tx h s) s0.heap.size = A at hD hE ⊢
  have hA : ∀ q : Nat, s0.heap.size ≤ q → A q := fun q h => by rw [← hAe]; exact Or.inr h
  have hS : va_S A s0.heap s0.heap [] := va_S.rf
  have hl := lv_entry ([.ref (za 0)]) (n := 3) (Nat.le_of_ble_eq_true rfl)
  rw [lg_entry_eq]
  generalize (lg_sl ([.ref (za 0)]) ++ List.replicate (3 - (lg_sl ([.ref (za 0)])).length) Slot.unset).toArray = ls at hl ⊢
  have hl : lv_has ls 3 [(0, .ref (za 0))] := hl
  unfold MZ_nearLine at hM
  refine lv_aload_n hx hb dX2_nearLine_0 rfl (lv_at hl 0 rfl) ?_
  refine lv_aload_n hx hb dX2_nearLine_1 rfl (lv_at hl 0 rfl) ?_
  refine va_get (D := D) (ci := 1) (v := .ref (za 4)) (C := RX2) (T := TX2) (N := 11) hx hb hts in_X2 hown hK.1 hP 0 rfl rfl 9 (by decide) (hts _ q235) (fun _ h9 => h9) rfl dX2_nearLine_2 ?_
  refine va_get (D := D) (ci := 6) (v := .int s.2.2.2.2.2.2.2.2.2.2.1) (C := RX8) (T := TX8) (N := 13) hx hb hts in_X8 hown hK.1 hP 4 rfl rfl 9 (by decide) (hts _ q486) (fun _ h9 => h9) rfl dX2_nearLine_5 ?_
  refine lv_bipush (v := (9 : Int32)) hx hb dX2_nearLine_8 (by decide) ?_
  refine lv_icmp_ge (tgt := 17) hx hb dX2_nearLine_10 (by decide) (fun c1 => ?_) (fun c1 => ?_)
  · rw [if_pos c1] at hM
    refine lv_iconst (v := (0 : Int32)) hx hb dX2_nearLine_17 (by decide) ?_
    obtain ⟨r2_, er2, hM⟩ := b_inv hM
    cases r2_ with
    | inl e9 =>
      dsimp only at hM
      cases hM
    | inr r2 =>
      dsimp only at hM
      refine k_w (va_runV (As := [.int (0 : Int32)]) (rest := []) ⟨hx, hb, hml, hown, hts⟩ (ctZ_begins l D dA _ za h tx k9 ka kv s false r2 er2 ) (cwV 1 hts (lw_V q716 q718 qs13 q114 q719) rfl rfl rfl (by decide +kernel) ⟨Nat.le_of_ble_eq_true rfl, Nat.le_of_ble_eq_true rfl⟩) (preX_V ZE_ok hP hK hD (ev_at ZE_ok hE hS (w_free hD hS hA)) hP (ci := 1) (q0 := 0) rfl rfl) rfl rfl hl.1 rfl (lv_room (Nat.le_of_ble_eq_true rfl)) dX2_nearLine_18 ⟨Nat.le_of_ble_eq_true rfl, Nat.le_of_ble_eq_true rfl⟩) hD hS hA (fun u3 H locs x4 hP hD hS => ?_)
      refine W.widen (k := 2) (n := 12) (Nat.le_of_ble_eq_true rfl) (Nat.le_of_ble_eq_true rfl) ?_
      refine W.eq (g2 := F0 m 21 ls []) (by first | rfl | (rfl; rfl) | (rfl) | (simp only [*]; rfl) | simp only [*]) ?_
      refine lv_aload_n hx hb dX2_nearLine_21 rfl (lv_at hl 0 rfl) ?_
      obtain ⟨r5_, er5, hM⟩ := b_inv hM
      cases r5_ with
      | inl e9 =>
        dsimp only at hM
        cases hM
      | inr r5 =>
        dsimp only at hM
        refine k_w (va_runV (As := []) (rest := []) ⟨hx, hb, hml, hown, hts⟩ (ctZ_personHere l D dA _ za u3 tx k9 ka kv r2 r5 er5 ) (cwV 0 hts (lw_V q833 q835 qs18 q114 q836) rfl rfl rfl (by decide +kernel) ⟨Nat.le_of_ble_eq_true rfl, Nat.le_of_ble_eq_true rfl⟩) (preX_V ZE_ok hP hK hD (ev_at ZE_ok hE hS (w_free hD hS hA)) hP (ci := 1) (q0 := 0) rfl rfl) rfl rfl hl.1 rfl (lv_room (Nat.le_of_ble_eq_true rfl)) dX2_nearLine_22 ⟨Nat.le_of_ble_eq_true rfl, Nat.le_of_ble_eq_true rfl⟩) hD hS hA (fun u6 H locs x7 hP hD hS => ?_)
        refine W.eq (g2 := F0 m 25 ls [.ref (u6.2.2.2.1 r5.1)]) (by first | rfl | (rfl; rfl) | (rfl) | (simp only [*]; rfl) | simp only [*]) ?_
        refine lv_astore_n (lv' := [(1, .ref (u6.2.2.2.1 r5.1)), (0, .ref (za 0))]) hx hb dX2_nearLine_25 rfl hl (by decide) rfl (fun ls hl => ?_)
        refine lv_aload_n hx hb dX2_nearLine_26 rfl (lv_at hl 1 rfl) ?_
        obtain ⟨h11, hM⟩ := gn_inv hM
        obtain ⟨r8, er8, hM⟩ := b_inv hM
        refine k_w (va_runV (As := []) (rest := []) ⟨hx, hb, hml, hown, hts⟩ (ctZ_step l D dA _ za u6 tx k9 ka kv r5.2 r8 er8 ) (cwV 0 hts (lw_V q521 q523 qs4 q114 q524) rfl rfl rfl (by decide +kernel) ⟨Nat.le_of_ble_eq_true rfl, Nat.le_of_ble_eq_true rfl⟩) (preX_V ZE_ok hP hK hD (ev_at ZE_ok hE hS (w_free hD hS hA)) hP (ci := 1) (q0 := 0) rfl rfl) rfl rfl hl.1 rfl (lv_room (Nat.le_of_ble_eq_true rfl)) dX2_nearLine_27 ⟨Nat.le_of_ble_eq_true rfl, Nat.le_of_ble_eq_true rfl⟩) hD hS hA (fun u9 H locs x10 hP hD hS => ?_)
        have hl : lv_has ls 3 [(1, .ref (u9.2.2.2.1 r5.1)), (0, .ref (za 0))] := by simp only [x10.2.1 r5.1 h11]; exact hl
        refine W.widen (k := 4) (n := 24) (Nat.le_of_ble_eq_true rfl) (Nat.le_of_ble_eq_true rfl) ?_
        refine W.eq (g2 := F0 m 30 ls []) (by first | rfl | (rfl; rfl) | (rfl) | (simp only [*]; rfl) | simp only [*]) ?_
        refine lv_aload_n hx hb dX2_nearLine_30 rfl (lv_at hl 1 rfl) ?_
        obtain ⟨h15, hM⟩ := gn_inv hM
        obtain ⟨r12_, er12, hM⟩ := b_inv hM
        cases r12_ with
        | inl e9 =>
          dsimp only at hM
          cases hM
        | inr r12 =>
          dsimp only at hM
          refine k_w (va_runV (As := []) (rest := []) ⟨hx, hb, hml, hown, hts⟩ (ctZ_personHere l D dA _ za u9 tx k9 ka kv r8 r12 er12 ) (cwV 0 hts (lw_V q833 q835 qs18 q114 q836) rfl rfl rfl (by decide +kernel) ⟨Nat.le_of_ble_eq_true rfl, Nat.le_of_ble_eq_true rfl⟩) (preX_V ZE_ok hP hK hD (ev_at ZE_ok hE hS (w_free hD hS hA)) hP (ci := 1) (q0 := 0) rfl rfl) rfl rfl hl.1 rfl (lv_room (Nat.le_of_ble_eq_true rfl)) dX2_nearLine_31 ⟨Nat.le_of_ble_eq_true rfl, Nat.le_of_ble_eq_true rfl⟩) hD hS hA (fun u13 H locs x14 hP hD hS => ?_)
          have hl : lv_has ls 3 [(1, .ref (u13.2.2.2.1 r5.1)), (0, .ref (za 0))] := by simp only [x14.2.1 r5.1 h15]; exact hl
          refine W.eq (g2 := F0 m 34 ls [.ref (u13.2.2.2.1 r12.1)]) (by first | rfl | (rfl; rfl) | (rfl) | (simp only [*]; rfl) | simp only [*]) ?_
          refine lv_astore_n (lv' := [(2, .ref (u13.2.2.2.1 r12.1)), (1, .ref (u13.2.2.2.1 r5.1)), (0, .ref (za 0))]) hx hb dX2_nearLine_34 rfl hl (by decide) rfl (fun ls hl => ?_)
          refine lv_aload_n hx hb dX2_nearLine_35 rfl (lv_at hl 1 rfl) ?_
          refine lv_aload_n hx hb dX2_nearLine_36 rfl (lv_at hl 0 rfl) ?_
          obtain ⟨h16, hM⟩ := gn_inv hM
          obtain ⟨h17, hM⟩ := gn_inv hM
          refine lv_acmp_eq (rx := some (u13.2.2.2.1 r5.1)) (ry := some (u13.2.2.2.1 r12.1)) (tgt := 54) hx hb dX2_nearLine_37 (by decide) (fun c18 => ?_) (fun c18 => ?_)
          · have c_c18 := zpa_inj hD h16 h17 (Option.some.inj c18)
            rw [if_pos c_c18] at hM
            refine lv_aload_n hx hb dX2_nearLine_54 rfl (lv_at hl 2 rfl) ?_
            refine lv_iconst (v := (3 : Int32)) hx hb dX2_nearLine_55 (by decide) ?_
            have er19 : MX2_fail (3 : Int32) r12.2.2.2.1 = some ((3 : Int32), r12.2.2.2.1) := rfl
            refine k_r0 [0, 1] (va_runV (As := [.int (3 : Int32)]) (rest := []) ⟨hx, hb, hml, hown, hts⟩ (ctX2_fail l D dA _ (za 0) (za 1) (3 : Int32) k9.1 r12.2.1 r12.2.2.1 r12.2.2.2.1 r12.2.2.2.2.1 0 k9.2.1 k9.2.2 (.ref (za 2)) (.ref (za 3)) (zwv u13 r12.2.2.2.2.2.1) (.ref (za 4)) (zav u13 r12.2.2.2.2.2.2.1) .null .null .null .null .null _ er19) (cwV 1 hts (lw_V q619 q621 qs7 q114 q622) rfl rfl rfl (by decide +kernel) ⟨Nat.le_of_ble_eq_true rfl, Nat.le_of_ble_eq_true rfl⟩) (pre_V (hP.sub [0, 1] rfl) hK (hD.sub [0, 1] (by decide) rfl) (ci := 1) (q0 := 0) rfl rfl) rfl rfl hl.1 rfl (lv_room (Nat.le_of_ble_eq_true rfl)) dX2_nearLine_56 ⟨Nat.le_of_ble_eq_true rfl, Nat.le_of_ble_eq_true rfl⟩) hP hD hS hA rfl (fun _ => rfl) (fun u20 H locs hP hD hS => ?_)
            have hP : va_P D clG (zw dA za (k9.1, (3 : Int32), r12.2.2.2.1) tx u13 r12.2) H := hP
            have hD : va_D A (zw dA za (k9.1, (3 : Int32), r12.2.2.2.1) tx u13 r12.2) := hD
            cases hM
          · have c_c18 : ¬ r5.1 = r12.1 := fun h9 => c18 (by rw [h9])
            rw [if_neg c_c18] at hM
            refine lv_aload_n hx hb dX2_nearLine_40 rfl (lv_at hl 1 rfl) ?_
            obtain ⟨h21, hM⟩ := gn_inv hM
            obtain ⟨h22, hM⟩ := gn_inv hM
            refine pp_getf hx hb hts hown hK hP zX_len h21 h22 4 (by decide) (hts _ q761) (fun _ h9 => h9) (v := .int (r12.2.2.2.2.2.2.2.2.2.2.2.2.2.2.2.2.2.2.2.2.2.2.2.2.2.2.1 r5.1)) rfl dX2_nearLine_41 ?_
            refine lv_aload_n hx hb dX2_nearLine_44 rfl (lv_at hl 0 rfl) ?_
            obtain ⟨h23, hM⟩ := gn_inv hM
            obtain ⟨h24, hM⟩ := gn_inv hM
            refine pp_getf hx hb hts hown hK hP zX_len h23 h24 1 (by decide) (hts _ q751) (fun _ h9 => h9) (v := .int (r12.2.2.2.2.2.2.2.2.2.2.2.2.2.2.2.2.2.2.2.2.2.2.2.1 r12.1)) rfl dX2_nearLine_45 ?_
            obtain ⟨r25, er25, hM⟩ := b_inv hM
            refine k_i0 [] (va_runSN (As := [.int (r12.2.2.2.2.2.2.2.2.2.2.2.2.2.2.2.2.2.2.2.2.2.2.2.2.2.2.1 r5.1), .int (r12.2.2.2.2.2.2.2.2.2.2.2.2.2.2.2.2.2.2.2.2.2.2.2.1 r12.1)]) (rest := []) ⟨hx, hb, hml, hown, hts⟩ (ctX1_has l D dA _ (r12.2.2.2.2.2.2.2.2.2.2.2.2.2.2.2.2.2.2.2.2.2.2.2.2.2.2.1 r5.1) (r12.2.2.2.2.2.2.2.2.2.2.2.2.2.2.2.2.2.2.2.2.2.2.2.1 r12.1) _ er25) ⟨va_cnB 2 hts (lw_meth q839) rfl rfl rfl (hK.nw 15 rfl) (hts _ q113) (by decide +kernel) ⟨Nat.le_of_ble_eq_true rfl, Nat.le_of_ble_eq_true rfl⟩, hts _ q838, trivial⟩ (pre_S p_nil hK (A := A) d_nil) rfl rfl hl.1 rfl (lv_room (Nat.le_of_ble_eq_true rfl)) dX2_nearLine_48 ⟨Nat.le_of_ble_eq_true rfl, Nat.le_of_ble_eq_true rfl⟩) hP hD hS hA rfl (fun _ => rfl) (fun u26 H locs hP hD hS => ?_)
            have hP : va_P D clG (zw dA za k9 tx u13 r12.2) H := hP
            have hD : va_D A (zw dA za k9 tx u13 r12.2) := hD
            refine lv_if_eq (tgt := 60) hx hb dX2_nearLine_51 (by decide) (fun c27 => ?_) (fun c27 => ?_)
            · rw [if_pos c27] at hM
              refine lv_aload_n hx hb dX2_nearLine_60 rfl (lv_at hl 2 rfl) ?_
              obtain ⟨h31, hM⟩ := gn_inv hM
              obtain ⟨h32, hM⟩ := gn_inv hM
              obtain ⟨r28, er28, hM⟩ := b_inv hM
              refine k_w (va_runV (As := []) (rest := []) ⟨hx, hb, hml, hown, hts⟩ (ctZ_step l D dA _ za u13 tx k9 ka kv r12.2 r28 er28 ) (cwV 0 hts (lw_V q521 q523 qs4 q114 q524) rfl rfl rfl (by decide +kernel) ⟨Nat.le_of_ble_eq_true rfl, Nat.le_of_ble_eq_true rfl⟩) (preX_V ZE_ok hP hK hD (ev_at ZE_ok hE hS (w_free hD hS hA)) hP (ci := 1) (q0 := 0) rfl rfl) rfl rfl hl.1 rfl (lv_room (Nat.le_of_ble_eq_true rfl)) dX2_nearLine_61 ⟨Nat.le_of_ble_eq_true rfl, Nat.le_of_ble_eq_true rfl⟩) hD hS hA (fun u29 H locs x30 hP hD hS => ?_)
              have hl : lv_has ls 3 [(2, .ref (u29.2.2.2.1 r12.1)), (1, .ref (u29.2.2.2.1 r5.1)), (0, .ref (za 0))] := by simp only [x30.2.1 r12.1 h31, x30.2.1 r5.1 h32]; exact hl
              refine W.widen (k := 6) (n := 36) (Nat.le_of_ble_eq_true rfl) (Nat.le_of_ble_eq_true rfl) ?_
              refine W.eq (g2 := F0 m 64 ls []) (by first | rfl | (rfl; rfl) | (rfl) | (simp only [*]; rfl) | simp only [*]) ?_
              refine lv_aload_n hx hb dX2_nearLine_64 rfl (lv_at hl 1 rfl) ?_
              refine lv_dup hx hb dX2_nearLine_65 rfl ?_
              obtain ⟨h33, hM⟩ := gn_inv hM
              obtain ⟨h34, hM⟩ := gn_inv hM
              refine pp_getf hx hb hts hown hK hP zX_len h33 h34 4 (by decide) (hts _ q761) (fun _ h9 => h9) (v := .int (r28.2.2.2.2.2.2.2.2.2.2.2.2.2.2.2.2.2.2.2.2.2.2.2.2.2.1 r5.1)) rfl dX2_nearLine_66 ?_
              refine lv_iconst (v := (1 : Int32)) hx hb dX2_nearLine_69 (by decide) ?_
              refine lv_aload_n hx hb dX2_nearLine_70 rfl (lv_at hl 0 rfl) ?_
              obtain ⟨h35, hM⟩ := gn_inv hM
              obtain ⟨h36, hM⟩ := gn_inv hM
              refine pp_getf hx hb hts hown hK hP zX_len h35 h36 1 (by decide) (hts _ q751) (fun _ h9 => h9) (v := .int (r28.2.2.2.2.2.2.2.2.2.2.2.2.2.2.2.2.2.2.2.2.2.2.1 r12.1)) rfl dX2_nearLine_71 ?_
              refine lv_ishl hx hb dX2_nearLine_74 ?_
              refine lv_ior hx hb dX2_nearLine_75 ?_
              obtain ⟨v0_, hv0_⟩ : ∃ v_ : Int32, v_ = ((r28.2.2.2.2.2.2.2.2.2.2.2.2.2.2.2.2.2.2.2.2.2.2.2.2.2.1 r5.1) ||| ((1 : Int32) <<< ((r28.2.2.2.2.2.2.2.2.2.2.2.2.2.2.2.2.2.2.2.2.2.2.1 r12.1) &&& 31))) := ⟨_, rfl⟩
              rw [← hv0_]
              try rw [← hv0_] at hM
              obtain ⟨h37, hM⟩ := gn_inv hM
              obtain ⟨h38, hM⟩ := gn_inv hM
              refine zz_put4 hx hb hts hown hK hP hD hS h37 h38 v0_ (hts _ q761) dX2_nearLine_76 (fun H locs hP hD hS => ?_)
              have hP : va_P D clG (zw dA za k9 tx u29 (r28.1, r28.2.1, r28.2.2.1, r28.2.2.2.1, r28.2.2.2.2.1, r28.2.2.2.2.2.1, r28.2.2.2.2.2.2.1, r28.2.2.2.2.2.2.2.1, r28.2.2.2.2.2.2.2.2.1, r28.2.2.2.2.2.2.2.2.2.1, r28.2.2.2.2.2.2.2.2.2.2.1, r28.2.2.2.2.2.2.2.2.2.2.2.1, r28.2.2.2.2.2.2.2.2.2.2.2.2.1, r28.2.2.2.2.2.2.2.2.2.2.2.2.2.1, r28.2.2.2.2.2.2.2.2.2.2.2.2.2.2.1, r28.2.2.2.2.2.2.2.2.2.2.2.2.2.2.2.1, r28.2.2.2.2.2.2.2.2.2.2.2.2.2.2.2.2.1, r28.2.2.2.2.2.2.2.2.2.2.2.2.2.2.2.2.2.1, r28.2.2.2.2.2.2.2.2.2.2.2.2.2.2.2.2.2.2.1, r28.2.2.2.2.2.2.2.2.2.2.2.2.2.2.2.2.2.2.2.1, r28.2.2.2.2.2.2.2.2.2.2.2.2.2.2.2.2.2.2.2.2.1, r28.2.2.2.2.2.2.2.2.2.2.2.2.2.2.2.2.2.2.2.2.2.1, r28.2.2.2.2.2.2.2.2.2.2.2.2.2.2.2.2.2.2.2.2.2.2.1, r28.2.2.2.2.2.2.2.2.2.2.2.2.2.2.2.2.2.2.2.2.2.2.2.1, r28.2.2.2.2.2.2.2.2.2.2.2.2.2.2.2.2.2.2.2.2.2.2.2.2.1, (upd r28.2.2.2.2.2.2.2.2.2.2.2.2.2.2.2.2.2.2.2.2.2.2.2.2.2.1 r5.1 v0_), r28.2.2.2.2.2.2.2.2.2.2.2.2.2.2.2.2.2.2.2.2.2.2.2.2.2.2.1, r28.2.2.2.2.2.2.2.2.2.2.2.2.2.2.2.2.2.2.2.2.2.2.2.2.2.2.2.1, r28.2.2.2.2.2.2.2.2.2.2.2.2.2.2.2.2.2.2.2.2.2.2.2.2.2.2.2.2.1, r28.2.2.2.2.2.2.2.2.2.2.2.2.2.2.2.2.2.2.2.2.2.2.2.2.2.2.2.2.2.1, r28.2.2.2.2.2.2.2.2.2.2.2.2.2.2.2.2.2.2.2.2.2.2.2.2.2.2.2.2.2.2.1, r28.2.2.2.2.2.2.2.2.2.2.2.2.2.2.2.2.2.2.2.2.2.2.2.2.2.2.2.2.2.2.2)) H := hP
              have hD : va_D A (zw dA za k9 tx u29 (r28.1, r28.2.1, r28.2.2.1, r28.2.2.2.1, r28.2.2.2.2.1, r28.2.2.2.2.2.1, r28.2.2.2.2.2.2.1, r28.2.2.2.2.2.2.2.1, r28.2.2.2.2.2.2.2.2.1, r28.2.2.2.2.2.2.2.2.2.1, r28.2.2.2.2.2.2.2.2.2.2.1, r28.2.2.2.2.2.2.2.2.2.2.2.1, r28.2.2.2.2.2.2.2.2.2.2.2.2.1, r28.2.2.2.2.2.2.2.2.2.2.2.2.2.1, r28.2.2.2.2.2.2.2.2.2.2.2.2.2.2.1, r28.2.2.2.2.2.2.2.2.2.2.2.2.2.2.2.1, r28.2.2.2.2.2.2.2.2.2.2.2.2.2.2.2.2.1, r28.2.2.2.2.2.2.2.2.2.2.2.2.2.2.2.2.2.1, r28.2.2.2.2.2.2.2.2.2.2.2.2.2.2.2.2.2.2.1, r28.2.2.2.2.2.2.2.2.2.2.2.2.2.2.2.2.2.2.2.1, r28.2.2.2.2.2.2.2.2.2.2.2.2.2.2.2.2.2.2.2.2.1, r28.2.2.2.2.2.2.2.2.2.2.2.2.2.2.2.2.2.2.2.2.2.1, r28.2.2.2.2.2.2.2.2.2.2.2.2.2.2.2.2.2.2.2.2.2.2.1, r28.2.2.2.2.2.2.2.2.2.2.2.2.2.2.2.2.2.2.2.2.2.2.2.1, r28.2.2.2.2.2.2.2.2.2.2.2.2.2.2.2.2.2.2.2.2.2.2.2.2.1, (upd r28.2.2.2.2.2.2.2.2.2.2.2.2.2.2.2.2.2.2.2.2.2.2.2.2.2.1 r5.1 v0_), r28.2.2.2.2.2.2.2.2.2.2.2.2.2.2.2.2.2.2.2.2.2.2.2.2.2.2.1, r28.2.2.2.2.2.2.2.2.2.2.2.2.2.2.2.2.2.2.2.2.2.2.2.2.2.2.2.1, r28.2.2.2.2.2.2.2.2.2.2.2.2.2.2.2.2.2.2.2.2.2.2.2.2.2.2.2.2.1, r28.2.2.2.2.2.2.2.2.2.2.2.2.2.2.2.2.2.2.2.2.2.2.2.2.2.2.2.2.2.1, r28.2.2.2.2.2.2.2.2.2.2.2.2.2.2.2.2.2.2.2.2.2.2.2.2.2.2.2.2.2.2.1, r28.2.2.2.2.2.2.2.2.2.2.2.2.2.2.2.2.2.2.2.2.2.2.2.2.2.2.2.2.2.2.2)) := hD
              refine lv_aload_n hx hb dX2_nearLine_79 rfl (lv_at hl 0 rfl) ?_
              refine lv_dup hx hb dX2_nearLine_80 rfl ?_
              obtain ⟨h39, hM⟩ := gn_inv hM
              obtain ⟨h40, hM⟩ := gn_inv hM
              refine pp_getf hx hb hts hown hK hP zX_len h39 h40 4 (by decide) (hts _ q761) (fun _ h9 => h9) (v := .int ((upd r28.2.2.2.2.2.2.2.2.2.2.2.2.2.2.2.2.2.2.2.2.2.2.2.2.2.1 r5.1 v0_) r12.1)) rfl dX2_nearLine_81 ?_
              refine lv_iconst (v := (1 : Int32)) hx hb dX2_nearLine_84 (by decide) ?_
              refine lv_aload_n hx hb dX2_nearLine_85 rfl (lv_at hl 1 rfl) ?_
              obtain ⟨h41, hM⟩ := gn_inv hM
              obtain ⟨h42, hM⟩ := gn_inv hM
              refine pp_getf hx hb hts hown hK hP zX_len h41 h42 1 (by decide) (hts _ q751) (fun _ h9 => h9) (v := .int (r28.2.2.2.2.2.2.2.2.2.2.2.2.2.2.2.2.2.2.2.2.2.2.1 r5.1)) rfl dX2_nearLine_86 ?_
              refine lv_ishl hx hb dX2_nearLine_89 ?_
              refine lv_ior hx hb dX2_nearLine_90 ?_
              obtain ⟨v1_, hv1_⟩ : ∃ v_ : Int32, v_ = (((upd r28.2.2.2.2.2.2.2.2.2.2.2.2.2.2.2.2.2.2.2.2.2.2.2.2.2.1 r5.1 v0_) r12.1) ||| ((1 : Int32) <<< ((r28.2.2.2.2.2.2.2.2.2.2.2.2.2.2.2.2.2.2.2.2.2.2.1 r5.1) &&& 31))) := ⟨_, rfl⟩
              rw [← hv1_]
              try rw [← hv1_] at hM
              obtain ⟨h43, hM⟩ := gn_inv hM
              obtain ⟨h44, hM⟩ := gn_inv hM
              refine zz_put4 hx hb hts hown hK hP hD hS h43 h44 v1_ (hts _ q761) dX2_nearLine_91 (fun H locs hP hD hS => ?_)
              have hP : va_P D clG (zw dA za k9 tx u29 (r28.1, r28.2.1, r28.2.2.1, r28.2.2.2.1, r28.2.2.2.2.1, r28.2.2.2.2.2.1, r28.2.2.2.2.2.2.1, r28.2.2.2.2.2.2.2.1, r28.2.2.2.2.2.2.2.2.1, r28.2.2.2.2.2.2.2.2.2.1, r28.2.2.2.2.2.2.2.2.2.2.1, r28.2.2.2.2.2.2.2.2.2.2.2.1, r28.2.2.2.2.2.2.2.2.2.2.2.2.1, r28.2.2.2.2.2.2.2.2.2.2.2.2.2.1, r28.2.2.2.2.2.2.2.2.2.2.2.2.2.2.1, r28.2.2.2.2.2.2.2.2.2.2.2.2.2.2.2.1, r28.2.2.2.2.2.2.2.2.2.2.2.2.2.2.2.2.1, r28.2.2.2.2.2.2.2.2.2.2.2.2.2.2.2.2.2.1, r28.2.2.2.2.2.2.2.2.2.2.2.2.2.2.2.2.2.2.1, r28.2.2.2.2.2.2.2.2.2.2.2.2.2.2.2.2.2.2.2.1, r28.2.2.2.2.2.2.2.2.2.2.2.2.2.2.2.2.2.2.2.2.1, r28.2.2.2.2.2.2.2.2.2.2.2.2.2.2.2.2.2.2.2.2.2.1, r28.2.2.2.2.2.2.2.2.2.2.2.2.2.2.2.2.2.2.2.2.2.2.1, r28.2.2.2.2.2.2.2.2.2.2.2.2.2.2.2.2.2.2.2.2.2.2.2.1, r28.2.2.2.2.2.2.2.2.2.2.2.2.2.2.2.2.2.2.2.2.2.2.2.2.1, (upd (upd r28.2.2.2.2.2.2.2.2.2.2.2.2.2.2.2.2.2.2.2.2.2.2.2.2.2.1 r5.1 v0_) r12.1 v1_), r28.2.2.2.2.2.2.2.2.2.2.2.2.2.2.2.2.2.2.2.2.2.2.2.2.2.2.1, r28.2.2.2.2.2.2.2.2.2.2.2.2.2.2.2.2.2.2.2.2.2.2.2.2.2.2.2.1, r28.2.2.2.2.2.2.2.2.2.2.2.2.2.2.2.2.2.2.2.2.2.2.2.2.2.2.2.2.1, r28.2.2.2.2.2.2.2.2.2.2.2.2.2.2.2.2.2.2.2.2.2.2.2.2.2.2.2.2.2.1, r28.2.2.2.2.2.2.2.2.2.2.2.2.2.2.2.2.2.2.2.2.2.2.2.2.2.2.2.2.2.2.1, r28.2.2.2.2.2.2.2.2.2.2.2.2.2.2.2.2.2.2.2.2.2.2.2.2.2.2.2.2.2.2.2)) H := hP
              have hD : va_D A (zw dA za k9 tx u29 (r28.1, r28.2.1, r28.2.2.1, r28.2.2.2.1, r28.2.2.2.2.1, r28.2.2.2.2.2.1, r28.2.2.2.2.2.2.1, r28.2.2.2.2.2.2.2.1, r28.2.2.2.2.2.2.2.2.1, r28.2.2.2.2.2.2.2.2.2.1, r28.2.2.2.2.2.2.2.2.2.2.1, r28.2.2.2.2.2.2.2.2.2.2.2.1, r28.2.2.2.2.2.2.2.2.2.2.2.2.1, r28.2.2.2.2.2.2.2.2.2.2.2.2.2.1, r28.2.2.2.2.2.2.2.2.2.2.2.2.2.2.1, r28.2.2.2.2.2.2.2.2.2.2.2.2.2.2.2.1, r28.2.2.2.2.2.2.2.2.2.2.2.2.2.2.2.2.1, r28.2.2.2.2.2.2.2.2.2.2.2.2.2.2.2.2.2.1, r28.2.2.2.2.2.2.2.2.2.2.2.2.2.2.2.2.2.2.1, r28.2.2.2.2.2.2.2.2.2.2.2.2.2.2.2.2.2.2.2.1, r28.2.2.2.2.2.2.2.2.2.2.2.2.2.2.2.2.2.2.2.2.1, r28.2.2.2.2.2.2.2.2.2.2.2.2.2.2.2.2.2.2.2.2.2.1, r28.2.2.2.2.2.2.2.2.2.2.2.2.2.2.2.2.2.2.2.2.2.2.1, r28.2.2.2.2.2.2.2.2.2.2.2.2.2.2.2.2.2.2.2.2.2.2.2.1, r28.2.2.2.2.2.2.2.2.2.2.2.2.2.2.2.2.2.2.2.2.2.2.2.2.1, (upd (upd r28.2.2.2.2.2.2.2.2.2.2.2.2.2.2.2.2.2.2.2.2.2.2.2.2.2.1 r5.1 v0_) r12.1 v1_), r28.2.2.2.2.2.2.2.2.2.2.2.2.2.2.2.2.2.2.2.2.2.2.2.2.2.2.1, r28.2.2.2.2.2.2.2.2.2.2.2.2.2.2.2.2.2.2.2.2.2.2.2.2.2.2.2.1, r28.2.2.2.2.2.2.2.2.2.2.2.2.2.2.2.2.2.2.2.2.2.2.2.2.2.2.2.2.1, r28.2.2.2.2.2.2.2.2.2.2.2.2.2.2.2.2.2.2.2.2.2.2.2.2.2.2.2.2.2.1, r28.2.2.2.2.2.2.2.2.2.2.2.2.2.2.2.2.2.2.2.2.2.2.2.2.2.2.2.2.2.2.1, r28.2.2.2.2.2.2.2.2.2.2.2.2.2.2.2.2.2.2.2.2.2.2.2.2.2.2.2.2.2.2.2)) := hD
              refine lv_aload_n hx hb dX2_nearLine_94 rfl (lv_at hl 2 rfl) ?_
              refine va_get (D := D) (ci := 1) (v := .ref (za 4)) (C := RX2) (T := TX2) (N := 11) hx hb hts in_X2 hown hK.1 hP 0 rfl rfl 9 (by decide) (hts _ q235) (fun _ h9 => h9) rfl dX2_nearLine_95 ?_
              refine lv_dup hx hb dX2_nearLine_98 rfl ?_
              refine va_get (D := D) (ci := 6) (v := .int r28.2.2.2.2.2.2.2.2.2.2.1) (C := RX8) (T := TX8) (N := 13) hx hb hts in_X8 hown hK.1 hP 4 rfl rfl 9 (by decide) (hts _ q486) (fun _ h9 => h9) rfl dX2_nearLine_99 ?_
              refine lv_iconst (v := (1 : Int32)) hx hb dX2_nearLine_102 (by decide) ?_
              refine lv_iadd hx hb dX2_nearLine_103 ?_
              obtain ⟨v2_, hv2_⟩ : ∃ v_ : Int32, v_ = (r28.2.2.2.2.2.2.2.2.2.2.1 + (1 : Int32)) := ⟨_, rfl⟩
              rw [← hv2_]
              try rw [← hv2_] at hM
              refine va_put (D := D) (ci := 6) (v := .int v2_) (ty := .int) (C := RX8) (T := TX8) (N := 13) hx hb hts in_X8 tyX8 tyX8_ok nmX8 hown hK.1 hP hD hS 4 rfl rfl 9 (by decide) (hts _ q486) (fun _ h9 => h9) rfl (by decide +kernel) rfl rfl (Nat.le_of_ble_eq_true rfl) dX2_nearLine_104 (fun H locs hP hD hS => ?_)
              have hP : va_P D clG (zw dA za k9 tx u29 (r28.1, r28.2.1, r28.2.2.1, r28.2.2.2.1, r28.2.2.2.2.1, r28.2.2.2.2.2.1, r28.2.2.2.2.2.2.1, r28.2.2.2.2.2.2.2.1, r28.2.2.2.2.2.2.2.2.1, r28.2.2.2.2.2.2.2.2.2.1, v2_, r28.2.2.2.2.2.2.2.2.2.2.2.1, r28.2.2.2.2.2.2.2.2.2.2.2.2.1, r28.2.2.2.2.2.2.2.2.2.2.2.2.2.1, r28.2.2.2.2.2.2.2.2.2.2.2.2.2.2.1, r28.2.2.2.2.2.2.2.2.2.2.2.2.2.2.2.1, r28.2.2.2.2.2.2.2.2.2.2.2.2.2.2.2.2.1, r28.2.2.2.2.2.2.2.2.2.2.2.2.2.2.2.2.2.1, r28.2.2.2.2.2.2.2.2.2.2.2.2.2.2.2.2.2.2.1, r28.2.2.2.2.2.2.2.2.2.2.2.2.2.2.2.2.2.2.2.1, r28.2.2.2.2.2.2.2.2.2.2.2.2.2.2.2.2.2.2.2.2.1, r28.2.2.2.2.2.2.2.2.2.2.2.2.2.2.2.2.2.2.2.2.2.1, r28.2.2.2.2.2.2.2.2.2.2.2.2.2.2.2.2.2.2.2.2.2.2.1, r28.2.2.2.2.2.2.2.2.2.2.2.2.2.2.2.2.2.2.2.2.2.2.2.1, r28.2.2.2.2.2.2.2.2.2.2.2.2.2.2.2.2.2.2.2.2.2.2.2.2.1, (upd (upd r28.2.2.2.2.2.2.2.2.2.2.2.2.2.2.2.2.2.2.2.2.2.2.2.2.2.1 r5.1 v0_) r12.1 v1_), r28.2.2.2.2.2.2.2.2.2.2.2.2.2.2.2.2.2.2.2.2.2.2.2.2.2.2.1, r28.2.2.2.2.2.2.2.2.2.2.2.2.2.2.2.2.2.2.2.2.2.2.2.2.2.2.2.1, r28.2.2.2.2.2.2.2.2.2.2.2.2.2.2.2.2.2.2.2.2.2.2.2.2.2.2.2.2.1, r28.2.2.2.2.2.2.2.2.2.2.2.2.2.2.2.2.2.2.2.2.2.2.2.2.2.2.2.2.2.1, r28.2.2.2.2.2.2.2.2.2.2.2.2.2.2.2.2.2.2.2.2.2.2.2.2.2.2.2.2.2.2.1, r28.2.2.2.2.2.2.2.2.2.2.2.2.2.2.2.2.2.2.2.2.2.2.2.2.2.2.2.2.2.2.2)) H := zP_set hP (Nat.le_of_ble_eq_true rfl) rfl rfl
              have hD : va_D A (zw dA za k9 tx u29 (r28.1, r28.2.1, r28.2.2.1, r28.2.2.2.1, r28.2.2.2.2.1, r28.2.2.2.2.2.1, r28.2.2.2.2.2.2.1, r28.2.2.2.2.2.2.2.1, r28.2.2.2.2.2.2.2.2.1, r28.2.2.2.2.2.2.2.2.2.1, v2_, r28.2.2.2.2.2.2.2.2.2.2.2.1, r28.2.2.2.2.2.2.2.2.2.2.2.2.1, r28.2.2.2.2.2.2.2.2.2.2.2.2.2.1, r28.2.2.2.2.2.2.2.2.2.2.2.2.2.2.1, r28.2.2.2.2.2.2.2.2.2.2.2.2.2.2.2.1, r28.2.2.2.2.2.2.2.2.2.2.2.2.2.2.2.2.1, r28.2.2.2.2.2.2.2.2.2.2.2.2.2.2.2.2.2.1, r28.2.2.2.2.2.2.2.2.2.2.2.2.2.2.2.2.2.2.1, r28.2.2.2.2.2.2.2.2.2.2.2.2.2.2.2.2.2.2.2.1, r28.2.2.2.2.2.2.2.2.2.2.2.2.2.2.2.2.2.2.2.2.1, r28.2.2.2.2.2.2.2.2.2.2.2.2.2.2.2.2.2.2.2.2.2.1, r28.2.2.2.2.2.2.2.2.2.2.2.2.2.2.2.2.2.2.2.2.2.2.1, r28.2.2.2.2.2.2.2.2.2.2.2.2.2.2.2.2.2.2.2.2.2.2.2.1, r28.2.2.2.2.2.2.2.2.2.2.2.2.2.2.2.2.2.2.2.2.2.2.2.2.1, (upd (upd r28.2.2.2.2.2.2.2.2.2.2.2.2.2.2.2.2.2.2.2.2.2.2.2.2.2.1 r5.1 v0_) r12.1 v1_), r28.2.2.2.2.2.2.2.2.2.2.2.2.2.2.2.2.2.2.2.2.2.2.2.2.2.2.1, r28.2.2.2.2.2.2.2.2.2.2.2.2.2.2.2.2.2.2.2.2.2.2.2.2.2.2.2.1, r28.2.2.2.2.2.2.2.2.2.2.2.2.2.2.2.2.2.2.2.2.2.2.2.2.2.2.2.2.1, r28.2.2.2.2.2.2.2.2.2.2.2.2.2.2.2.2.2.2.2.2.2.2.2.2.2.2.2.2.2.1, r28.2.2.2.2.2.2.2.2.2.2.2.2.2.2.2.2.2.2.2.2.2.2.2.2.2.2.2.2.2.2.1, r28.2.2.2.2.2.2.2.2.2.2.2.2.2.2.2.2.2.2.2.2.2.2.2.2.2.2.2.2.2.2.2)) := zD_set hD (Nat.le_of_ble_eq_true rfl) rfl rfl
              have hM := Sum.inr.inj (Option.some.inj hM)
              subst hM
              refine W.widen (k := 6) (n := 36) (Nat.le_of_ble_eq_true rfl) (Nat.le_of_ble_eq_true rfl) ?_
              exact W.vret hx hb hr (fun t ht hW => ⟨⟨u29, rfl, (zext_trans (zext_trans (zext_trans (zext_trans (zext_trans zext_rf x4) x7) x10) x14) x30), by rw [ht]; exact hP, hD⟩, hS.F ht⟩) hS.2.2 dX2_nearLine_107
            · rw [if_neg c27] at hM
              refine lv_aload_n hx hb dX2_nearLine_54 rfl (lv_at hl 2 rfl) ?_
              refine lv_iconst (v := (3 : Int32)) hx hb dX2_nearLine_55 (by decide) ?_
              have er45 : MX2_fail (3 : Int32) r12.2.2.2.1 = some ((3 : Int32), r12.2.2.2.1) := rfl
              refine k_r0 [0, 1] (va_runV (As := [.int (3 : Int32)]) (rest := []) ⟨hx, hb, hml, hown, hts⟩ (ctX2_fail l D dA _ (za 0) (za 1) (3 : Int32) k9.1 r12.2.1 r12.2.2.1 r12.2.2.2.1 r12.2.2.2.2.1 0 k9.2.1 k9.2.2 (.ref (za 2)) (.ref (za 3)) (zwv u13 r12.2.2.2.2.2.1) (.ref (za 4)) (zav u13 r12.2.2.2.2.2.2.1) .null .null .null .null .null _ er45) (cwV 1 hts (lw_V q619 q621 qs7 q114 q622) rfl rfl rfl (by decide +kernel) ⟨Nat.le_of_ble_eq_true rfl, Nat.le_of_ble_eq_true rfl⟩) (pre_V (hP.sub [0, 1] rfl) hK (hD.sub [0, 1] (by decide) rfl) (ci := 1) (q0 := 0) rfl rfl) rfl rfl hl.1 rfl (lv_room (Nat.le_of_ble_eq_true rfl)) dX2_nearLine_56 ⟨Nat.le_of_ble_eq_true rfl, Nat.le_of_ble_eq_true rfl⟩) hP hD hS hA rfl (fun _ => rfl) (fun u46 H locs hP hD hS => ?_)
              have hP : va_P D clG (zw dA za (k9.1, (3 : Int32), r12.2.2.2.1) tx u13 r12.2) H := hP
              have hD : va_D A (zw dA za (k9.1, (3 : Int32), r12.2.2.2.1) tx u13 r12.2) := hD
              cases hM
  · rw [if_neg c1] at hM
    refine lv_iconst (v := (1 : Int32)) hx hb dX2_nearLine_13 (by decide) ?_
    refine lv_goto (tgt := 18) hx hb dX2_nearLine_14 (by decide) ?_
    obtain ⟨r47_, er47, hM⟩ := b_inv hM
    cases r47_ with
    | inl e9 =>
      dsimp only at hM
      cases hM
    | inr r47 =>
      dsimp only at hM
      refine k_w (va_runV (As := [.int (1 : Int32)]) (rest := []) ⟨hx, hb, hml, hown, hts⟩ (ctZ_begins l D dA _ za h tx k9 ka kv s true r47 er47 ) (cwV 1 hts (lw_V q716 q718 qs13 q114 q719) rfl rfl rfl (by decide +kernel) ⟨Nat.le_of_ble_eq_true rfl, Nat.le_of_ble_eq_true rfl⟩) (preX_V ZE_ok hP hK hD (ev_at ZE_ok hE hS (w_free hD hS hA)) hP (ci := 1) (q0 := 0) rfl rfl) rfl rfl hl.1 rfl (lv_room (Nat.le_of_ble_eq_true rfl)) dX2_nearLine_18 ⟨Nat.le_of_ble_eq_true rfl, Nat.le_of_ble_eq_true rfl⟩) hD hS hA (fun u48 H locs x49 hP hD hS => ?_)
      refine W.widen (k := 2) (n := 12) (Nat.le_of_ble_eq_true rfl) (Nat.le_of_ble_eq_true rfl) ?_
      refine W.eq (g2 := F0 m 21 ls []) (by first | rfl | (rfl; rfl) | (rfl) | (simp only [*]; rfl) | simp only [*]) ?_
      refine lv_aload_n hx hb dX2_nearLine_21 rfl (lv_at hl 0 rfl) ?_
      obtain ⟨r50_, er50, hM⟩ := b_inv hM
      cases r50_ with
      | inl e9 =>
        dsimp only at hM
        cases hM
      | inr r50 =>
        dsimp only at hM
        refine k_w (va_runV (As := []) (rest := []) ⟨hx, hb, hml, hown, hts⟩ (ctZ_personHere l D dA _ za u48 tx k9 ka kv r47 r50 er50 ) (cwV 0 hts (lw_V q833 q835 qs18 q114 q836) rfl rfl rfl (by decide +kernel) ⟨Nat.le_of_ble_eq_true rfl, Nat.le_of_ble_eq_true rfl⟩) (preX_V ZE_ok hP hK hD (ev_at ZE_ok hE hS (w_free hD hS hA)) hP (ci := 1) (q0 := 0) rfl rfl) rfl rfl hl.1 rfl (lv_room (Nat.le_of_ble_eq_true rfl)) dX2_nearLine_22 ⟨Nat.le_of_ble_eq_true rfl, Nat.le_of_ble_eq_true rfl⟩) hD hS hA (fun u51 H locs x52 hP hD hS => ?_)
        refine W.eq (g2 := F0 m 25 ls [.ref (u51.2.2.2.1 r50.1)]) (by first | rfl | (rfl; rfl) | (rfl) | (simp only [*]; rfl) | simp only [*]) ?_
        refine lv_astore_n (lv' := [(1, .ref (u51.2.2.2.1 r50.1)), (0, .ref (za 0))]) hx hb dX2_nearLine_25 rfl hl (by decide) rfl (fun ls hl => ?_)
        refine lv_aload_n hx hb dX2_nearLine_26 rfl (lv_at hl 1 rfl) ?_
        obtain ⟨h56, hM⟩ := gn_inv hM
        obtain ⟨r53, er53, hM⟩ := b_inv hM
        refine k_w (va_runV (As := []) (rest := []) ⟨hx, hb, hml, hown, hts⟩ (ctZ_step l D dA _ za u51 tx k9 ka kv r50.2 r53 er53 ) (cwV 0 hts (lw_V q521 q523 qs4 q114 q524) rfl rfl rfl (by decide +kernel) ⟨Nat.le_of_ble_eq_true rfl, Nat.le_of_ble_eq_true rfl⟩) (preX_V ZE_ok hP hK hD (ev_at ZE_ok hE hS (w_free hD hS hA)) hP (ci := 1) (q0 := 0) rfl rfl) rfl rfl hl.1 rfl (lv_room (Nat.le_of_ble_eq_true rfl)) dX2_nearLine_27 ⟨Nat.le_of_ble_eq_true rfl, Nat.le_of_ble_eq_true rfl⟩) hD hS hA (fun u54 H locs x55 hP hD hS => ?_)
        have hl : lv_has ls 3 [(1, .ref (u54.2.2.2.1 r50.1)), (0, .ref (za 0))] := by simp only [x55.2.1 r50.1 h56]; exact hl
        refine W.widen (k := 4) (n := 24) (Nat.le_of_ble_eq_true rfl) (Nat.le_of_ble_eq_true rfl) ?_
        refine W.eq (g2 := F0 m 30 ls []) (by first | rfl | (rfl; rfl) | (rfl) | (simp only [*]; rfl) | simp only [*]) ?_
        refine lv_aload_n hx hb dX2_nearLine_30 rfl (lv_at hl 1 rfl) ?_
        obtain ⟨h60, hM⟩ := gn_inv hM
        obtain ⟨r57_, er57, hM⟩ := b_inv hM
        cases r57_ with
        | inl e9 =>
          dsimp only at hM
          cases hM
        | inr r57 =>
          dsimp only at hM
          refine k_w (va_runV (As := []) (rest := []) ⟨hx, hb, hml, hown, hts⟩ (ctZ_personHere l D dA _ za u54 tx k9 ka kv r53 r57 er57 ) (cwV 0 hts (lw_V q833 q835 qs18 q114 q836) rfl rfl rfl (by decide +kernel) ⟨Nat.le_of_ble_eq_true rfl, Nat.le_of_ble_eq_true rfl⟩) (preX_V ZE_ok hP hK hD (ev_at ZE_ok hE hS (w_free hD hS hA)) hP (ci := 1) (q0 := 0) rfl rfl) rfl rfl hl.1 rfl (lv_room (Nat.le_of_ble_eq_true rfl)) dX2_nearLine_31 ⟨Nat.le_of_ble_eq_true rfl, Nat.le_of_ble_eq_true rfl⟩) hD hS hA (fun u58 H locs x59 hP hD hS => ?_)
          have hl : lv_has ls 3 [(1, .ref (u58.2.2.2.1 r50.1)), (0, .ref (za 0))] := by simp only [x59.2.1 r50.1 h60]; exact hl
          refine W.eq (g2 := F0 m 34 ls [.ref (u58.2.2.2.1 r57.1)]) (by first | rfl | (rfl; rfl) | (rfl) | (simp only [*]; rfl) | simp only [*]) ?_
          refine lv_astore_n (lv' := [(2, .ref (u58.2.2.2.1 r57.1)), (1, .ref (u58.2.2.2.1 r50.1)), (0, .ref (za 0))]) hx hb dX2_nearLine_34 rfl hl (by decide) rfl (fun ls hl => ?_)
          refine lv_aload_n hx hb dX2_nearLine_35 rfl (lv_at hl 1 rfl) ?_
          refine lv_aload_n hx hb dX2_nearLine_36 rfl (lv_at hl 0 rfl) ?_
          obtain ⟨h61, hM⟩ := gn_inv hM
          obtain ⟨h62, hM⟩ := gn_inv hM
          refine lv_acmp_eq (rx := some (u58.2.2.2.1 r50.1)) (ry := some (u58.2.2.2.1 r57.1)) (tgt := 54) hx hb dX2_nearLine_37 (by decide) (fun c63 => ?_) (fun c63 => ?_)
          · have c_c63 := zpa_inj hD h61 h62 (Option.some.inj c63)
            rw [if_pos c_c63] at hM
            refine lv_aload_n hx hb dX2_nearLine_54 rfl (lv_at hl 2 rfl) ?_
            refine lv_iconst (v := (3 : Int32)) hx hb dX2_nearLine_55 (by decide) ?_
            have er64 : MX2_fail (3 : Int32) r57.2.2.2.1 = some ((3 : Int32), r57.2.2.2.1) := rfl
            refine k_r0 [0, 1] (va_runV (As := [.int (3 : Int32)]) (rest := []) ⟨hx, hb, hml, hown, hts⟩ (ctX2_fail l D dA _ (za 0) (za 1) (3 : Int32) k9.1 r57.2.1 r57.2.2.1 r57.2.2.2.1 r57.2.2.2.2.1 0 k9.2.1 k9.2.2 (.ref (za 2)) (.ref (za 3)) (zwv u58 r57.2.2.2.2.2.1) (.ref (za 4)) (zav u58 r57.2.2.2.2.2.2.1) .null .null .null .null .null _ er64) (cwV 1 hts (lw_V q619 q621 qs7 q114 q622) rfl rfl rfl (by decide +kernel) ⟨Nat.le_of_ble_eq_true rfl, Nat.le_of_ble_eq_true rfl⟩) (pre_V (hP.sub [0, 1] rfl) hK (hD.sub [0, 1] (by decide) rfl) (ci := 1) (q0 := 0) rfl rfl) rfl rfl hl.1 rfl (lv_room (Nat.le_of_ble_eq_true rfl)) dX2_nearLine_56 ⟨Nat.le_of_ble_eq_true rfl, Nat.le_of_ble_eq_true rfl⟩) hP hD hS hA rfl (fun _ => rfl) (fun u65 H locs hP hD hS => ?_)
            have hP : va_P D clG (zw dA za (k9.1, (3 : Int32), r57.2.2.2.1) tx u58 r57.2) H := hP
            have hD : va_D A (zw dA za (k9.1, (3 : Int32), r57.2.2.2.1) tx u58 r57.2) := hD
            cases hM
          · have c_c63 : ¬ r50.1 = r57.1 := fun h9 => c63 (by rw [h9])
            rw [if_neg c_c63] at hM
            refine lv_aload_n hx hb dX2_nearLine_40 rfl (lv_at hl 1 rfl) ?_
            obtain ⟨h66, hM⟩ := gn_inv hM
            obtain ⟨h67, hM⟩ := gn_inv hM
            refine pp_getf hx hb hts hown hK hP zX_len h66 h67 4 (by decide) (hts _ q761) (fun _ h9 => h9) (v := .int (r57.2.2.2.2.2.2.2.2.2.2.2.2.2.2.2.2.2.2.2.2.2.2.2.2.2.2.1 r50.1)) rfl dX2_nearLine_41 ?_
            refine lv_aload_n hx hb dX2_nearLine_44 rfl (lv_at hl 0 rfl) ?_
            obtain ⟨h68, hM⟩ := gn_inv hM
            obtain ⟨h69, hM⟩ := gn_inv hM
            refine pp_getf hx hb hts hown hK hP zX_len h68 h69 1 (by decide) (hts _ q751) (fun _ h9 => h9) (v := .int (r57.2.2.2.2.2.2.2.2.2.2.2.2.2.2.2.2.2.2.2.2.2.2.2.1 r57.1)) rfl dX2_nearLine_45 ?_
            obtain ⟨r70, er70, hM⟩ := b_inv hM
            refine k_i0 [] (va_runSN (As := [.int (r57.2.2.2.2.2.2.2.2.2.2.2.2.2.2.2.2.2.2.2.2.2.2.2.2.2.2.1 r50.1), .int (r57.2.2.2.2.2.2.2.2.2.2.2.2.2.2.2.2.2.2.2.2.2.2.2.1 r57.1)]) (rest := []) ⟨hx, hb, hml, hown, hts⟩ (ctX1_has l D dA _ (r57.2.2.2.2.2.2.2.2.2.2.2.2.2.2.2.2.2.2.2.2.2.2.2.2.2.2.1 r50.1) (r57.2.2.2.2.2.2.2.2.2.2.2.2.2.2.2.2.2.2.2.2.2.2.2.1 r57.1) _ er70) ⟨va_cnB 2 hts (lw_meth q839) rfl rfl rfl (hK.nw 15 rfl) (hts _ q113) (by decide +kernel) ⟨Nat.le_of_ble_eq_true rfl, Nat.le_of_ble_eq_true rfl⟩, hts _ q838, trivial⟩ (pre_S p_nil hK (A := A) d_nil) rfl rfl hl.1 rfl (lv_room (Nat.le_of_ble_eq_true rfl)) dX2_nearLine_48 ⟨Nat.le_of_ble_eq_true rfl, Nat.le_of_ble_eq_true rfl⟩) hP hD hS hA rfl (fun _ => rfl) (fun u71 H locs hP hD hS => ?_)
            have hP : va_P D clG (zw dA za k9 tx u58 r57.2) H := hP
            have hD : va_D A (zw dA za k9 tx u58 r57.2) := hD
            refine lv_if_eq (tgt := 60) hx hb dX2_nearLine_51 (by decide) (fun c72 => ?_) (fun c72 => ?_)
            · rw [if_pos c72] at hM
              refine lv_aload_n hx hb dX2_nearLine_60 rfl (lv_at hl 2 rfl) ?_
              obtain ⟨h76, hM⟩ := gn_inv hM
              obtain ⟨h77, hM⟩ := gn_inv hM
              obtain ⟨r73, er73, hM⟩ := b_inv hM
              refine k_w (va_runV (As := []) (rest := []) ⟨hx, hb, hml, hown, hts⟩ (ctZ_step l D dA _ za u58 tx k9 ka kv r57.2 r73 er73 ) (cwV 0 hts (lw_V q521 q523 qs4 q114 q524) rfl rfl rfl (by decide +kernel) ⟨Nat.le_of_ble_eq_true rfl, Nat.le_of_ble_eq_true rfl⟩) (preX_V ZE_ok hP hK hD (ev_at ZE_ok hE hS (w_free hD hS hA)) hP (ci := 1) (q0 := 0) rfl rfl) rfl rfl hl.1 rfl (lv_room (Nat.le_of_ble_eq_true rfl)) dX2_nearLine_61 ⟨Nat.le_of_ble_eq_true rfl, Nat.le_of_ble_eq_true rfl⟩) hD hS hA (fun u74 H locs x75 hP hD hS => ?_)
              have hl : lv_has ls 3 [(2, .ref (u74.2.2.2.1 r57.1)), (1, .ref (u74.2.2.2.1 r50.1)), (0, .ref (za 0))] := by simp only [x75.2.1 r57.1 h76, x75.2.1 r50.1 h77]; exact hl
              refine W.widen (k := 6) (n := 36) (Nat.le_of_ble_eq_true rfl) (Nat.le_of_ble_eq_true rfl) ?_
              refine W.eq (g2 := F0 m 64 ls []) (by first | rfl | (rfl; rfl) | (rfl) | (simp only [*]; rfl) | simp only [*]) ?_
              refine lv_aload_n hx hb dX2_nearLine_64 rfl (lv_at hl 1 rfl) ?_
              refine lv_dup hx hb dX2_nearLine_65 rfl ?_
              obtain ⟨h78, hM⟩ := gn_inv hM
              obtain ⟨h79, hM⟩ := gn_inv hM
              refine pp_getf hx hb hts hown hK hP zX_len h78 h79 4 (by decide) (hts _ q761) (fun _ h9 => h9) (v := .int (r73.2.2.2.2.2.2.2.2.2.2.2.2.2.2.2.2.2.2.2.2.2.2.2.2.2.1 r50.1)) rfl dX2_nearLine_66 ?_
              refine lv_iconst (v := (1 : Int32)) hx hb dX2_nearLine_69 (by decide) ?_
              refine lv_aload_n hx hb dX2_nearLine_70 rfl (lv_at hl 0 rfl) ?_
              obtain ⟨h80, hM⟩ := gn_inv hM
              obtain ⟨h81, hM⟩ := gn_inv hM
              refine pp_getf hx hb hts hown hK hP zX_len h80 h81 1 (by decide) (hts _ q751) (fun _ h9 => h9) (v := .int (r73.2.2.2.2.2.2.2.2.2.2.2.2.2.2.2.2.2.2.2.2.2.2.1 r57.1)) rfl dX2_nearLine_71 ?_
              refine lv_ishl hx hb dX2_nearLine_74 ?_
              refine lv_ior hx hb dX2_nearLine_75 ?_
              obtain ⟨v3_, hv3_⟩ : ∃ v_ : Int32, v_ = ((r73.2.2.2.2.2.2.2.2.2.2.2.2.2.2.2.2.2.2.2.2.2.2.2.2.2.1 r50.1) ||| ((1 : Int32) <<< ((r73.2.2.2.2.2.2.2.2.2.2.2.2.2.2.2.2.2.2.2.2.2.2.1 r57.1) &&& 31))) := ⟨_, rfl⟩
              rw [← hv3_]
              try rw [← hv3_] at hM
              obtain ⟨h82, hM⟩ := gn_inv hM
              obtain ⟨h83, hM⟩ := gn_inv hM
              refine zz_put4 hx hb hts hown hK hP hD hS h82 h83 v3_ (hts _ q761) dX2_nearLine_76 (fun H locs hP hD hS => ?_)
              have hP : va_P D clG (zw dA za k9 tx u74 (r73.1, r73.2.1, r73.2.2.1, r73.2.2.2.1, r73.2.2.2.2.1, r73.2.2.2.2.2.1, r73.2.2.2.2.2.2.1, r73.2.2.2.2.2.2.2.1, r73.2.2.2.2.2.2.2.2.1, r73.2.2.2.2.2.2.2.2.2.1, r73.2.2.2.2.2.2.2.2.2.2.1, r73.2.2.2.2.2.2.2.2.2.2.2.1, r73.2.2.2.2.2.2.2.2.2.2.2.2.1, r73.2.2.2.2.2.2.2.2.2.2.2.2.2.1, r73.2.2.2.2.2.2.2.2.2.2.2.2.2.2.1, r73.2.2.2.2.2.2.2.2.2.2.2.2.2.2.2.1, r73.2.2.2.2.2.2.2.2.2.2.2.2.2.2.2.2.1, r73.2.2.2.2.2.2.2.2.2.2.2.2.2.2.2.2.2.1, r73.2.2.2.2.2.2.2.2.2.2.2.2.2.2.2.2.2.2.1, r73.2.2.2.2.2.2.2.2.2.2.2.2.2.2.2.2.2.2.2.1, r73.2.2.2.2.2.2.2.2.2.2.2.2.2.2.2.2.2.2.2.2.1, r73.2.2.2.2.2.2.2.2.2.2.2.2.2.2.2.2.2.2.2.2.2.1, r73.2.2.2.2.2.2.2.2.2.2.2.2.2.2.2.2.2.2.2.2.2.2.1, r73.2.2.2.2.2.2.2.2.2.2.2.2.2.2.2.2.2.2.2.2.2.2.2.1, r73.2.2.2.2.2.2.2.2.2.2.2.2.2.2.2.2.2.2.2.2.2.2.2.2.1, (upd r73.2.2.2.2.2.2.2.2.2.2.2.2.2.2.2.2.2.2.2.2.2.2.2.2.2.1 r50.1 v3_), r73.2.2.2.2.2.2.2.2.2.2.2.2.2.2.2.2.2.2.2.2.2.2.2.2.2.2.1, r73.2.2.2.2.2.2.2.2.2.2.2.2.2.2.2.2.2.2.2.2.2.2.2.2.2.2.2.1, r73.2.2.2.2.2.2.2.2.2.2.2.2.2.2.2.2.2.2.2.2.2.2.2.2.2.2.2.2.1, r73.2.2.2.2.2.2.2.2.2.2.2.2.2.2.2.2.2.2.2.2.2.2.2.2.2.2.2.2.2.1, r73.2.2.2.2.2.2.2.2.2.2.2.2.2.2.2.2.2.2.2.2.2.2.2.2.2.2.2.2.2.2.1, r73.2.2.2.2.2.2.2.2.2.2.2.2.2.2.2.2.2.2.2.2.2.2.2.2.2.2.2.2.2.2.2)) H := hP
              have hD : va_D A (zw dA za k9 tx u74 (r73.1, r73.2.1, r73.2.2.1, r73.2.2.2.1, r73.2.2.2.2.1, r73.2.2.2.2.2.1, r73.2.2.2.2.2.2.1, r73.2.2.2.2.2.2.2.1, r73.2.2.2.2.2.2.2.2.1, r73.2.2.2.2.2.2.2.2.2.1, r73.2.2.2.2.2.2.2.2.2.2.1, r73.2.2.2.2.2.2.2.2.2.2.2.1, r73.2.2.2.2.2.2.2.2.2.2.2.2.1, r73.2.2.2.2.2.2.2.2.2.2.2.2.2.1, r73.2.2.2.2.2.2.2.2.2.2.2.2.2.2.1, r73.2.2.2.2.2.2.2.2.2.2.2.2.2.2.2.1, r73.2.2.2.2.2.2.2.2.2.2.2.2.2.2.2.2.1, r73.2.2.2.2.2.2.2.2.2.2.2.2.2.2.2.2.2.1, r73.2.2.2.2.2.2.2.2.2.2.2.2.2.2.2.2.2.2.1, r73.2.2.2.2.2.2.2.2.2.2.2.2.2.2.2.2.2.2.2.1, r73.2.2.2.2.2.2.2.2.2.2.2.2.2.2.2.2.2.2.2.2.1, r73.2.2.2.2.2.2.2.2.2.2.2.2.2.2.2.2.2.2.2.2.2.1, r73.2.2.2.2.2.2.2.2.2.2.2.2.2.2.2.2.2.2.2.2.2.2.1, r73.2.2.2.2.2.2.2.2.2.2.2.2.2.2.2.2.2.2.2.2.2.2.2.1, r73.2.2.2.2.2.2.2.2.2.2.2.2.2.2.2.2.2.2.2.2.2.2.2.2.1, (upd r73.2.2.2.2.2.2.2.2.2.2.2.2.2.2.2.2.2.2.2.2.2.2.2.2.2.1 r50.1 v3_), r73.2.2.2.2.2.2.2.2.2.2.2.2.2.2.2.2.2.2.2.2.2.2.2.2.2.2.1, r73.2.2.2.2.2.2.2.2.2.2.2.2.2.2.2.2.2.2.2.2.2.2.2.2.2.2.2.1, r73.2.2.2.2.2.2.2.2.2.2.2.2.2.2.2.2.2.2.2.2.2.2.2.2.2.2.2.2.1, r73.2.2.2.2.2.2.2.2.2.2.2.2.2.2.2.2.2.2.2.2.2.2.2.2.2.2.2.2.2.1, r73.2.2.2.2.2.2.2.2.2.2.2.2.2.2.2.2.2.2.2.2.2.2.2.2.2.2.2.2.2.2.1, r73.2.2.2.2.2.2.2.2.2.2.2.2.2.2.2.2.2.2.2.2.2.2.2.2.2.2.2.2.2.2.2)) := hD
              refine lv_aload_n hx hb dX2_nearLine_79 rfl (lv_at hl 0 rfl) ?_
              refine lv_dup hx hb dX2_nearLine_80 rfl ?_
              obtain ⟨h84, hM⟩ := gn_inv hM
              obtain ⟨h85, hM⟩ := gn_inv hM
              refine pp_getf hx hb hts hown hK hP zX_len h84 h85 4 (by decide) (hts _ q761) (fun _ h9 => h9) (v := .int ((upd r73.2.2.2.2.2.2.2.2.2.2.2.2.2.2.2.2.2.2.2.2.2.2.2.2.2.1 r50.1 v3_) r57.1)) rfl dX2_nearLine_81 ?_
              refine lv_iconst (v := (1 : Int32)) hx hb dX2_nearLine_84 (by decide) ?_
              refine lv_aload_n hx hb dX2_nearLine_85 rfl (lv_at hl 1 rfl) ?_
              obtain ⟨h86, hM⟩ := gn_inv hM
              obtain ⟨h87, hM⟩ := gn_inv hM
              refine pp_getf hx hb hts hown hK hP zX_len h86 h87 1 (by decide) (hts _ q751) (fun _ h9 => h9) (v := .int (r73.2.2.2.2.2.2.2.2.2.2.2.2.2.2.2.2.2.2.2.2.2.2.1 r50.1)) rfl dX2_nearLine_86 ?_
              refine lv_ishl hx hb dX2_nearLine_89 ?_
              refine lv_ior hx hb dX2_nearLine_90 ?_
              obtain ⟨v4_, hv4_⟩ : ∃ v_ : Int32, v_ = (((upd r73.2.2.2.2.2.2.2.2.2.2.2.2.2.2.2.2.2.2.2.2.2.2.2.2.2.1 r50.1 v3_) r57.1) ||| ((1 : Int32) <<< ((r73.2.2.2.2.2.2.2.2.2.2.2.2.2.2.2.2.2.2.2.2.2.2.1 r50.1) &&& 31))) := ⟨_, rfl⟩
              rw [← hv4_]
              try rw [← hv4_] at hM
              obtain ⟨h88, hM⟩ := gn_inv hM
              obtain ⟨h89, hM⟩ := gn_inv hM
              refine zz_put4 hx hb hts hown hK hP hD hS h88 h89 v4_ (hts _ q761) dX2_nearLine_91 (fun H locs hP hD hS => ?_)
              have hP : va_P D clG (zw dA za k9 tx u74 (r73.1, r73.2.1, r73.2.2.1, r73.2.2.2.1, r73.2.2.2.2.1, r73.2.2.2.2.2.1, r73.2.2.2.2.2.2.1, r73.2.2.2.2.2.2.2.1, r73.2.2.2.2.2.2.2.2.1, r73.2.2.2.2.2.2.2.2.2.1, r73.2.2.2.2.2.2.2.2.2.2.1, r73.2.2.2.2.2.2.2.2.2.2.2.1, r73.2.2.2.2.2.2.2.2.2.2.2.2.1, r73.2.2.2.2.2.2.2.2.2.2.2.2.2.1, r73.2.2.2.2.2.2.2.2.2.2.2.2.2.2.1, r73.2.2.2.2.2.2.2.2.2.2.2.2.2.2.2.1, r73.2.2.2.2.2.2.2.2.2.2.2.2.2.2.2.2.1, r73.2.2.2.2.2.2.2.2.2.2.2.2.2.2.2.2.2.1, r73.2.2.2.2.2.2.2.2.2.2.2.2.2.2.2.2.2.2.1, r73.2.2.2.2.2.2.2.2.2.2.2.2.2.2.2.2.2.2.2.1, r73.2.2.2.2.2.2.2.2.2.2.2.2.2.2.2.2.2.2.2.2.1, r73.2.2.2.2.2.2.2.2.2.2.2.2.2.2.2.2.2.2.2.2.2.1, r73.2.2.2.2.2.2.2.2.2.2.2.2.2.2.2.2.2.2.2.2.2.2.1, r73.2.2.2.2.2.2.2.2.2.2.2.2.2.2.2.2.2.2.2.2.2.2.2.1, r73.2.2.2.2.2.2.2.2.2.2.2.2.2.2.2.2.2.2.2.2.2.2.2.2.1, (upd (upd r73.2.2.2.2.2.2.2.2.2.2.2.2.2.2.2.2.2.2.2.2.2.2.2.2.2.1 r50.1 v3_) r57.1 v4_), r73.2.2.2.2.2.2.2.2.2.2.2.2.2.2.2.2.2.2.2.2.2.2.2.2.2.2.1, r73.2.2.2.2.2.2.2.2.2.2.2.2.2.2.2.2.2.2.2.2.2.2.2.2.2.2.2.1, r73.2.2.2.2.2.2.2.2.2.2.2.2.2.2.2.2.2.2.2.2.2.2.2.2.2.2.2.2.1, r73.2.2.2.2.2.2.2.2.2.2.2.2.2.2.2.2.2.2.2.2.2.2.2.2.2.2.2.2.2.1, r73.2.2.2.2.2.2.2.2.2.2.2.2.2.2.2.2.2.2.2.2.2.2.2.2.2.2.2.2.2.2.1, r73.2.2.2.2.2.2.2.2.2.2.2.2.2.2.2.2.2.2.2.2.2.2.2.2.2.2.2.2.2.2.2)) H := hP
              have hD : va_D A (zw dA za k9 tx u74 (r73.1, r73.2.1, r73.2.2.1, r73.2.2.2.1, r73.2.2.2.2.1, r73.2.2.2.2.2.1, r73.2.2.2.2.2.2.1, r73.2.2.2.2.2.2.2.1, r73.2.2.2.2.2.2.2.2.1, r73.2.2.2.2.2.2.2.2.2.1, r73.2.2.2.2.2.2.2.2.2.2.1, r73.2.2.2.2.2.2.2.2.2.2.2.1, r73.2.2.2.2.2.2.2.2.2.2.2.2.1, r73.2.2.2.2.2.2.2.2.2.2.2.2.2.1, r73.2.2.2.2.2.2.2.2.2.2.2.2.2.2.1, r73.2.2.2.2.2.2.2.2.2.2.2.2.2.2.2.1, r73.2.2.2.2.2.2.2.2.2.2.2.2.2.2.2.2.1, r73.2.2.2.2.2.2.2.2.2.2.2.2.2.2.2.2.2.1, r73.2.2.2.2.2.2.2.2.2.2.2.2.2.2.2.2.2.2.1, r73.2.2.2.2.2.2.2.2.2.2.2.2.2.2.2.2.2.2.2.1, r73.2.2.2.2.2.2.2.2.2.2.2.2.2.2.2.2.2.2.2.2.1, r73.2.2.2.2.2.2.2.2.2.2.2.2.2.2.2.2.2.2.2.2.2.1, r73.2.2.2.2.2.2.2.2.2.2.2.2.2.2.2.2.2.2.2.2.2.2.1, r73.2.2.2.2.2.2.2.2.2.2.2.2.2.2.2.2.2.2.2.2.2.2.2.1, r73.2.2.2.2.2.2.2.2.2.2.2.2.2.2.2.2.2.2.2.2.2.2.2.2.1, (upd (upd r73.2.2.2.2.2.2.2.2.2.2.2.2.2.2.2.2.2.2.2.2.2.2.2.2.2.1 r50.1 v3_) r57.1 v4_), r73.2.2.2.2.2.2.2.2.2.2.2.2.2.2.2.2.2.2.2.2.2.2.2.2.2.2.1, r73.2.2.2.2.2.2.2.2.2.2.2.2.2.2.2.2.2.2.2.2.2.2.2.2.2.2.2.1, r73.2.2.2.2.2.2.2.2.2.2.2.2.2.2.2.2.2.2.2.2.2.2.2.2.2.2.2.2.1, r73.2.2.2.2.2.2.2.2.2.2.2.2.2.2.2.2.2.2.2.2.2.2.2.2.2.2.2.2.2.1, r73.2.2.2.2.2.2.2.2.2.2.2.2.2.2.2.2.2.2.2.2.2.2.2.2.2.2.2.2.2.2.1, r73.2.2.2.2.2.2.2.2.2.2.2.2.2.2.2.2.2.2.2.2.2.2.2.2.2.2.2.2.2.2.2)) := hD
              refine lv_aload_n hx hb dX2_nearLine_94 rfl (lv_at hl 2 rfl) ?_
              refine va_get (D := D) (ci := 1) (v := .ref (za 4)) (C := RX2) (T := TX2) (N := 11) hx hb hts in_X2 hown hK.1 hP 0 rfl rfl 9 (by decide) (hts _ q235) (fun _ h9 => h9) rfl dX2_nearLine_95 ?_
              refine lv_dup hx hb dX2_nearLine_98 rfl ?_
              refine va_get (D := D) (ci := 6) (v := .int r73.2.2.2.2.2.2.2.2.2.2.1) (C := RX8) (T := TX8) (N := 13) hx hb hts in_X8 hown hK.1 hP 4 rfl rfl 9 (by decide) (hts _ q486) (fun _ h9 => h9) rfl dX2_nearLine_99 ?_
              refine lv_iconst (v := (1 : Int32)) hx hb dX2_nearLine_102 (by decide) ?_
              refine lv_iadd hx hb dX2_nearLine_103 ?_
              obtain ⟨v5_, hv5_⟩ : ∃ v_ : Int32, v_ = (r73.2.2.2.2.2.2.2.2.2.2.1 + (1 : Int32)) := ⟨_, rfl⟩
              rw [← hv5_]
              try rw [← hv5_] at hM
              refine va_put (D := D) (ci := 6) (v := .int v5_) (ty := .int) (C := RX8) (T := TX8) (N := 13) hx hb hts in_X8 tyX8 tyX8_ok nmX8 hown hK.1 hP hD hS 4 rfl rfl 9 (by decide) (hts _ q486) (fun _ h9 => h9) rfl (by decide +kernel) rfl rfl (Nat.le_of_ble_eq_true rfl) dX2_nearLine_104 (fun H locs hP hD hS => ?_)
              have hP : va_P D clG (zw dA za k9 tx u74 (r73.1, r73.2.1, r73.2.2.1, r73.2.2.2.1, r73.2.2.2.2.1, r73.2.2.2.2.2.1, r73.2.2.2.2.2.2.1, r73.2.2.2.2.2.2.2.1, r73.2.2.2.2.2.2.2.2.1, r73.2.2.2.2.2.2.2.2.2.1, v5_, r73.2.2.2.2.2.2.2.2.2.2.2.1, r73.2.2.2.2.2.2.2.2.2.2.2.2.1, r73.2.2.2.2.2.2.2.2.2.2.2.2.2.1, r73.2.2.2.2.2.2.2.2.2.2.2.2.2.2.1, r73.2.2.2.2.2.2.2.2.2.2.2.2.2.2.2.1, r73.2.2.2.2.2.2.2.2.2.2.2.2.2.2.2.2.1, r73.2.2.2.2.2.2.2.2.2.2.2.2.2.2.2.2.2.1, r73.2.2.2.2.2.2.2.2.2.2.2.2.2.2.2.2.2.2.1, r73.2.2.2.2.2.2.2.2.2.2.2.2.2.2.2.2.2.2.2.1, r73.2.2.2.2.2.2.2.2.2.2.2.2.2.2.2.2.2.2.2.2.1, r73.2.2.2.2.2.2.2.2.2.2.2.2.2.2.2.2.2.2.2.2.2.1, r73.2.2.2.2.2.2.2.2.2.2.2.2.2.2.2.2.2.2.2.2.2.2.1, r73.2.2.2.2.2.2.2.2.2.2.2.2.2.2.2.2.2.2.2.2.2.2.2.1, r73.2.2.2.2.2.2.2.2.2.2.2.2.2.2.2.2.2.2.2.2.2.2.2.2.1, (upd (upd r73.2.2.2.2.2.2.2.2.2.2.2.2.2.2.2.2.2.2.2.2.2.2.2.2.2.1 r50.1 v3_) r57.1 v4_), r73.2.2.2.2.2.2.2.2.2.2.2.2.2.2.2.2.2.2.2.2.2.2.2.2.2.2.1, r73.2.2.2.2.2.2.2.2.2.2.2.2.2.2.2.2.2.2.2.2.2.2.2.2.2.2.2.1, r73.2.2.2.2.2.2.2.2.2.2.2.2.2.2.2.2.2.2.2.2.2.2.2.2.2.2.2.2.1, r73.2.2.2.2.2.2.2.2.2.2.2.2.2.2.2.2.2.2.2.2.2.2.2.2.2.2.2.2.2.1, r73.2.2.2.2.2.2.2.2.2.2.2.2.2.2.2.2.2.2.2.2.2.2.2.2.2.2.2.2.2.2.1, r73.2.2.2.2.2.2.2.2.2.2.2.2.2.2.2.2.2.2.2.2.2.2.2.2.2.2.2.2.2.2.2)) H := zP_set hP (Nat.le_of_ble_eq_true rfl) rfl rfl
              have hD : va_D A (zw dA za k9 tx u74 (r73.1, r73.2.1, r73.2.2.1, r73.2.2.2.1, r73.2.2.2.2.1, r73.2.2.2.2.2.1, r73.2.2.2.2.2.2.1, r73.2.2.2.2.2.2.2.1, r73.2.2.2.2.2.2.2.2.1, r73.2.2.2.2.2.2.2.2.2.1, v5_, r73.2.2.2.2.2.2.2.2.2.2.2.1, r73.2.2.2.2.2.2.2.2.2.2.2.2.1, r73.2.2.2.2.2.2.2.2.2.2.2.2.2.1, r73.2.2.2.2.2.2.2.2.2.2.2.2.2.2.1, r73.2.2.2.2.2.2.2.2.2.2.2.2.2.2.2.1, r73.2.2.2.2.2.2.2.2.2.2.2.2.2.2.2.2.1, r73.2.2.2.2.2.2.2.2.2.2.2.2.2.2.2.2.2.1, r73.2.2.2.2.2.2.2.2.2.2.2.2.2.2.2.2.2.2.1, r73.2.2.2.2.2.2.2.2.2.2.2.2.2.2.2.2.2.2.2.1, r73.2.2.2.2.2.2.2.2.2.2.2.2.2.2.2.2.2.2.2.2.1, r73.2.2.2.2.2.2.2.2.2.2.2.2.2.2.2.2.2.2.2.2.2.1, r73.2.2.2.2.2.2.2.2.2.2.2.2.2.2.2.2.2.2.2.2.2.2.1, r73.2.2.2.2.2.2.2.2.2.2.2.2.2.2.2.2.2.2.2.2.2.2.2.1, r73.2.2.2.2.2.2.2.2.2.2.2.2.2.2.2.2.2.2.2.2.2.2.2.2.1, (upd (upd r73.2.2.2.2.2.2.2.2.2.2.2.2.2.2.2.2.2.2.2.2.2.2.2.2.2.1 r50.1 v3_) r57.1 v4_), r73.2.2.2.2.2.2.2.2.2.2.2.2.2.2.2.2.2.2.2.2.2.2.2.2.2.2.1, r73.2.2.2.2.2.2.2.2.2.2.2.2.2.2.2.2.2.2.2.2.2.2.2.2.2.2.2.1, r73.2.2.2.2.2.2.2.2.2.2.2.2.2.2.2.2.2.2.2.2.2.2.2.2.2.2.2.2.1, r73.2.2.2.2.2.2.2.2.2.2.2.2.2.2.2.2.2.2.2.2.2.2.2.2.2.2.2.2.2.1, r73.2.2.2.2.2.2.2.2.2.2.2.2.2.2.2.2.2.2.2.2.2.2.2.2.2.2.2.2.2.2.1, r73.2.2.2.2.2.2.2.2.2.2.2.2.2.2.2.2.2.2.2.2.2.2.2.2.2.2.2.2.2.2.2)) := zD_set hD (Nat.le_of_ble_eq_true rfl) rfl rfl
              have hM := Sum.inr.inj (Option.some.inj hM)
              subst hM
              refine W.widen (k := 6) (n := 36) (Nat.le_of_ble_eq_true rfl) (Nat.le_of_ble_eq_true rfl) ?_
              exact W.vret hx hb hr (fun t ht hW => ⟨⟨u74, rfl, (zext_trans (zext_trans (zext_trans (zext_trans (zext_trans zext_rf x49) x52) x55) x59) x75), by rw [ht]; exact hP, hD⟩, hS.F ht⟩) hS.2.2 dX2_nearLine_107
            · rw [if_neg c72] at hM
              refine lv_aload_n hx hb dX2_nearLine_54 rfl (lv_at hl 2 rfl) ?_
              refine lv_iconst (v := (3 : Int32)) hx hb dX2_nearLine_55 (by decide) ?_
              have er90 : MX2_fail (3 : Int32) r57.2.2.2.1 = some ((3 : Int32), r57.2.2.2.1) := rfl
              refine k_r0 [0, 1] (va_runV (As := [.int (3 : Int32)]) (rest := []) ⟨hx, hb, hml, hown, hts⟩ (ctX2_fail l D dA _ (za 0) (za 1) (3 : Int32) k9.1 r57.2.1 r57.2.2.1 r57.2.2.2.1 r57.2.2.2.2.1 0 k9.2.1 k9.2.2 (.ref (za 2)) (.ref (za 3)) (zwv u58 r57.2.2.2.2.2.1) (.ref (za 4)) (zav u58 r57.2.2.2.2.2.2.1) .null .null .null .null .null _ er90) (cwV 1 hts (lw_V q619 q621 qs7 q114 q622) rfl rfl rfl (by decide +kernel) ⟨Nat.le_of_ble_eq_true rfl, Nat.le_of_ble_eq_true rfl⟩) (pre_V (hP.sub [0, 1] rfl) hK (hD.sub [0, 1] (by decide) rfl) (ci := 1) (q0 := 0) rfl rfl) rfl rfl hl.1 rfl (lv_room (Nat.le_of_ble_eq_true rfl)) dX2_nearLine_56 ⟨Nat.le_of_ble_eq_true rfl, Nat.le_of_ble_eq_true rfl⟩) hP hD hS hA rfl (fun _ => rfl) (fun u91 H locs hP hD hS => ?_)
              have hP : va_P D clG (zw dA za (k9.1, (3 : Int32), r57.2.2.2.1) tx u58 r57.2) H := hP
              have hD : va_D A (zw dA za (k9.1, (3 : Int32), r57.2.2.2.1) tx u58 r57.2) := hD
              cases hM
set_option maxHeartbeats 40000000 in
theorem ceZ_nearLine (l : Launch) (D : va_G) (dA : Nat → ClassId) (sz : Nat) (za : Nat → Nat) (h : ZH) (tx : AI) (k9 : Int32 × Int32 × Int32) (ka kv : Nat → Nat) (s : ZS) (er : Int32 × Int32) (hM : MZ_nearLine tx k9.1 s = some (.inl er)) : vy_Met l yX2_nearLine (ws_ yX2_nearLine cX2_nearLine 3 none) ({ frames := 7, cells := 6, slots := 36, locals := 343 }) (preX D dA (ZE ka kv) [.ref (za 0)] (zw dA za k9 tx h s) sz) (fun _ _ _ _ => False) (zQ D dA za tx er (va_A (zw dA za k9 tx h s) sz)) 6 36 (va_A (zw dA za k9 tx h s) sz) := by
  refine vy_ofW (cc := cX2_nearLine) (maxL := 3) (ret := none) (by decide) rfl ?_
  intro p e s0 m args below meth c s₁ B hml hout hv
  obtain ⟨rfl, hsz, hP, hK, hD0, hE⟩ := hv
  have hx := B.exec
  have hb := B.bytes
  have hr := B.returns
  have hts := atoms_spec (ws := (ws_ yX2_nearLine cX2_nearLine 3 none)) B.pre
  have hts : ∀ w ∈ lw_all, w.before _ s0 = true := fun w h => hts w (List.mem_cons_of_mem _ h)
  have hown : s0.vm.findClass RX2 = some m.cls := findClass_of_methodNamed B.named
  have hlocks := B.notSynchronized
  subst hsz
  have hD := hD0.self (sz := s0.heap.size)
  generalize hAe : va_A (zw dA za k9 tx h s) s0.heap.size = A at hD hE ⊢
  have hA : ∀ q : Nat, s0.heap.size ≤ q → A q := fun q h => by rw [← hAe]; exact Or.inr h
  have hS : va_S A s0.heap s0.heap [] := va_S.rf
  have hl := lv_entry ([.ref (za 0)]) (n := 3) (Nat.le_of_ble_eq_true rfl)
  rw [lg_entry_eq]
  generalize (lg_sl ([.ref (za 0)]) ++ List.replicate (3 - (lg_sl ([.ref (za 0)])).length) Slot.unset).toArray = ls at hl ⊢
  have hl : lv_has ls 3 [(0, .ref (za 0))] := hl
  unfold MZ_nearLine at hM
  refine lv_aload_n hx hb dX2_nearLine_0 rfl (lv_at hl 0 rfl) ?_
  refine lv_aload_n hx hb dX2_nearLine_1 rfl (lv_at hl 0 rfl) ?_
  refine va_get (D := D) (ci := 1) (v := .ref (za 4)) (C := RX2) (T := TX2) (N := 11) hx hb hts in_X2 hown hK.1 hP 0 rfl rfl 9 (by decide) (hts _ q235) (fun _ h9 => h9) rfl dX2_nearLine_2 ?_
  refine va_get (D := D) (ci := 6) (v := .int s.2.2.2.2.2.2.2.2.2.2.1) (C := RX8) (T := TX8) (N := 13) hx hb hts in_X8 hown hK.1 hP 4 rfl rfl 9 (by decide) (hts _ q486) (fun _ h9 => h9) rfl dX2_nearLine_5 ?_
  refine lv_bipush (v := (9 : Int32)) hx hb dX2_nearLine_8 (by decide) ?_
  refine lv_icmp_ge (tgt := 17) hx hb dX2_nearLine_10 (by decide) (fun c1 => ?_) (fun c1 => ?_)
  · rw [if_pos c1] at hM
    refine lv_iconst (v := (0 : Int32)) hx hb dX2_nearLine_17 (by decide) ?_
    obtain ⟨r2_, er2, hM⟩ := b_inv hM
    cases r2_ with
    | inl e9 =>
      dsimp only at hM
      have hM := Sum.inl.inj (Option.some.inj hM)
      subst hM
      exact z_err (vy_runV (As := [.int (0 : Int32)]) (rest := []) ⟨hx, hb, hml, hown, hts⟩ (ceZ_begins l D dA _ za h tx k9 ka kv s false e9 er2 ) (cwV 1 hts (lw_V q716 q718 qs13 q114 q719) rfl rfl rfl (by decide +kernel) ⟨Nat.le_of_ble_eq_true rfl, Nat.le_of_ble_eq_true rfl⟩) (preX_V ZE_ok hP hK hD (ev_at ZE_ok hE hS (w_free hD hS hA)) hP (ci := 1) (q0 := 0) rfl rfl) rfl rfl hl.1 rfl (lv_room (Nat.le_of_ble_eq_true rfl)) dX2_nearLine_18 ⟨Nat.le_of_ble_eq_true rfl, Nat.le_of_ble_eq_true rfl⟩) hD hS hA hout hlocks (Nat.le_of_ble_eq_true rfl) (Nat.le_of_ble_eq_true rfl)
    | inr r2 =>
      dsimp only at hM
      refine k_w (va_runV (As := [.int (0 : Int32)]) (rest := []) ⟨hx, hb, hml, hown, hts⟩ (ctZ_begins l D dA _ za h tx k9 ka kv s false r2 er2 ) (cwV 1 hts (lw_V q716 q718 qs13 q114 q719) rfl rfl rfl (by decide +kernel) ⟨Nat.le_of_ble_eq_true rfl, Nat.le_of_ble_eq_true rfl⟩) (preX_V ZE_ok hP hK hD (ev_at ZE_ok hE hS (w_free hD hS hA)) hP (ci := 1) (q0 := 0) rfl rfl) rfl rfl hl.1 rfl (lv_room (Nat.le_of_ble_eq_true rfl)) dX2_nearLine_18 ⟨Nat.le_of_ble_eq_true rfl, Nat.le_of_ble_eq_true rfl⟩) hD hS hA (fun u3 H locs x4 hP hD hS => ?_)
      refine W.widen (k := 2) (n := 12) (Nat.le_of_ble_eq_true rfl) (Nat.le_of_ble_eq_true rfl) ?_
      refine W.eq (g2 := F0 m 21 ls []) (by first | rfl | (rfl; rfl) | (rfl) | (simp only [*]; rfl) | simp only [*]) ?_
      refine lv_aload_n hx hb dX2_nearLine_21 rfl (lv_at hl 0 rfl) ?_
      obtain ⟨r5_, er5, hM⟩ := b_inv hM
      cases r5_ with
      | inl e9 =>
        dsimp only at hM
        have hM := Sum.inl.inj (Option.some.inj hM)
        subst hM
        exact z_err (vy_runV (As := []) (rest := []) ⟨hx, hb, hml, hown, hts⟩ (ceZ_personHere l D dA _ za u3 tx k9 ka kv r2 e9 er5 ) (cwV 0 hts (lw_V q833 q835 qs18 q114 q836) rfl rfl rfl (by decide +kernel) ⟨Nat.le_of_ble_eq_true rfl, Nat.le_of_ble_eq_true rfl⟩) (preX_V ZE_ok hP hK hD (ev_at ZE_ok hE hS (w_free hD hS hA)) hP (ci := 1) (q0 := 0) rfl rfl) rfl rfl hl.1 rfl (lv_room (Nat.le_of_ble_eq_true rfl)) dX2_nearLine_22 ⟨Nat.le_of_ble_eq_true rfl, Nat.le_of_ble_eq_true rfl⟩) hD hS hA hout hlocks (Nat.le_of_ble_eq_true rfl) (Nat.le_of_ble_eq_true rfl)
      | inr r5 =>
        dsimp only at hM
        refine k_w (va_runV (As := []) (rest := []) ⟨hx, hb, hml, hown, hts⟩ (ctZ_personHere l D dA _ za u3 tx k9 ka kv r2 r5 er5 ) (cwV 0 hts (lw_V q833 q835 qs18 q114 q836) rfl rfl rfl (by decide +kernel) ⟨Nat.le_of_ble_eq_true rfl, Nat.le_of_ble_eq_true rfl⟩) (preX_V ZE_ok hP hK hD (ev_at ZE_ok hE hS (w_free hD hS hA)) hP (ci := 1) (q0 := 0) rfl rfl) rfl rfl hl.1 rfl (lv_room (Nat.le_of_ble_eq_true rfl)) dX2_nearLine_22 ⟨Nat.le_of_ble_eq_true rfl, Nat.le_of_ble_eq_true rfl⟩) hD hS hA (fun u6 H locs x7 hP hD hS => ?_)
        refine W.eq (g2 := F0 m 25 ls [.ref (u6.2.2.2.1 r5.1)]) (by first | rfl | (rfl; rfl) | (rfl) | (simp only [*]; rfl) | simp only [*]) ?_
        refine lv_astore_n (lv' := [(1, .ref (u6.2.2.2.1 r5.1)), (0, .ref (za 0))]) hx hb dX2_nearLine_25 rfl hl (by decide) rfl (fun ls hl => ?_)
        refine lv_aload_n hx hb dX2_nearLine_26 rfl (lv_at hl 1 rfl) ?_
        obtain ⟨h11, hM⟩ := gn_inv hM
        obtain ⟨r8, er8, hM⟩ := b_inv hM
        refine k_w (va_runV (As := []) (rest := []) ⟨hx, hb, hml, hown, hts⟩ (ctZ_step l D dA _ za u6 tx k9 ka kv r5.2 r8 er8 ) (cwV 0 hts (lw_V q521 q523 qs4 q114 q524) rfl rfl rfl (by decide +kernel) ⟨Nat.le_of_ble_eq_true rfl, Nat.le_of_ble_eq_true rfl⟩) (preX_V ZE_ok hP hK hD (ev_at ZE_ok hE hS (w_free hD hS hA)) hP (ci := 1) (q0 := 0) rfl rfl) rfl rfl hl.1 rfl (lv_room (Nat.le_of_ble_eq_true rfl)) dX2_nearLine_27 ⟨Nat.le_of_ble_eq_true rfl, Nat.le_of_ble_eq_true rfl⟩) hD hS hA (fun u9 H locs x10 hP hD hS => ?_)
        have hl : lv_has ls 3 [(1, .ref (u9.2.2.2.1 r5.1)), (0, .ref (za 0))] := by simp only [x10.2.1 r5.1 h11]; exact hl
        refine W.widen (k := 4) (n := 24) (Nat.le_of_ble_eq_true rfl) (Nat.le_of_ble_eq_true rfl) ?_
        refine W.eq (g2 := F0 m 30 ls []) (by first | rfl | (rfl; rfl) | (rfl) | (simp only [*]; rfl) | simp only [*]) ?_
        refine lv_aload_n hx hb dX2_nearLine_30 rfl (lv_at hl 1 rfl) ?_
        obtain ⟨h15, hM⟩ := gn_inv hM
        obtain ⟨r12_, er12, hM⟩ := b_inv hM
        cases r12_ with
        | inl e9 =>
          dsimp only at hM
          have hM := Sum.inl.inj (Option.some.inj hM)
          subst hM
          exact z_err (vy_runV (As := []) (rest := []) ⟨hx, hb, hml, hown, hts⟩ (ceZ_personHere l D dA _ za u9 tx k9 ka kv r8 e9 er12 ) (cwV 0 hts (lw_V q833 q835 qs18 q114 q836) rfl rfl rfl (by decide +kernel) ⟨Nat.le_of_ble_eq_true rfl, Nat.le_of_ble_eq_true rfl⟩) (preX_V ZE_ok hP hK hD (ev_at ZE_ok hE hS (w_free hD hS hA)) hP (ci := 1) (q0 := 0) rfl rfl) rfl rfl hl.1 rfl (lv_room (Nat.le_of_ble_eq_true rfl)) dX2_nearLine_31 ⟨Nat.le_of_ble_eq_true rfl, Nat.le_of_ble_eq_true rfl⟩) hD hS hA hout hlocks (Nat.le_of_ble_eq_true rfl) (Nat.le_of_ble_eq_true rfl)
        | inr r12 =>
          dsimp only at hM
          refine k_w (va_runV (As := []) (rest := []) ⟨hx, hb, hml, hown, hts⟩ (ctZ_personHere l D dA _ za u9 tx k9 ka kv r8 r12 er12 ) (cwV 0 hts (lw_V q833 q835 qs18 q114 q836) rfl rfl rfl (by decide +kernel) ⟨Nat.le_of_ble_eq_true rfl, Nat.le_of_ble_eq_true rfl⟩) (preX_V ZE_ok hP hK hD (ev_at ZE_ok hE hS (w_free hD hS hA)) hP (ci := 1) (q0 := 0) rfl rfl) rfl rfl hl.1 rfl (lv_room (Nat.le_of_ble_eq_true rfl)) dX2_nearLine_31 ⟨Nat.le_of_ble_eq_true rfl, Nat.le_of_ble_eq_true rfl⟩) hD hS hA (fun u13 H locs x14 hP hD hS => ?_)
          have hl : lv_has ls 3 [(1, .ref (u13.2.2.2.1 r5.1)), (0, .ref (za 0))] := by simp only [x14.2.1 r5.1 h15]; exact hl
          refine W.eq (g2 := F0 m 34 ls [.ref (u13.2.2.2.1 r12.1)]) (by first | rfl | (rfl; rfl) | (rfl) | (simp only [*]; rfl) | simp only [*]) ?_
          refine lv_astore_n (lv' := [(2, .ref (u13.2.2.2.1 r12.1)), (1, .ref (u13.2.2.2.1 r5.1)), (0, .ref (za 0))]) hx hb dX2_nearLine_34 rfl hl (by decide) rfl (fun ls hl => ?_)
          refine lv_aload_n hx hb dX2_nearLine_35 rfl (lv_at hl 1 rfl) ?_
          refine lv_aload_n hx hb dX2_nearLine_36 rfl (lv_at hl 0 rfl) ?_
          obtain ⟨h16, hM⟩ := gn_inv hM
          obtain ⟨h17, hM⟩ := gn_inv hM
          refine lv_acmp_eq (rx := some (u13.2.2.2.1 r5.1)) (ry := some (u13.2.2.2.1 r12.1)) (tgt := 54) hx hb dX2_nearLine_37 (by decide) (fun c18 => ?_) (fun c18 => ?_)
          · have c_c18 := zpa_inj hD h16 h17 (Option.some.inj c18)
            rw [if_pos c_c18] at hM
            refine lv_aload_n hx hb dX2_nearLine_54 rfl (lv_at hl 2 rfl) ?_
            refine lv_iconst (v := (3 : Int32)) hx hb dX2_nearLine_55 (by decide) ?_
            have er19 : MX2_fail (3 : Int32) r12.2.2.2.1 = some ((3 : Int32), r12.2.2.2.1) := rfl
            refine k_r0 [0, 1] (va_runV (As := [.int (3 : Int32)]) (rest := []) ⟨hx, hb, hml, hown, hts⟩ (ctX2_fail l D dA _ (za 0) (za 1) (3 : Int32) k9.1 r12.2.1 r12.2.2.1 r12.2.2.2.1 r12.2.2.2.2.1 0 k9.2.1 k9.2.2 (.ref (za 2)) (.ref (za 3)) (zwv u13 r12.2.2.2.2.2.1) (.ref (za 4)) (zav u13 r12.2.2.2.2.2.2.1) .null .null .null .null .null _ er19) (cwV 1 hts (lw_V q619 q621 qs7 q114 q622) rfl rfl rfl (by decide +kernel) ⟨Nat.le_of_ble_eq_true rfl, Nat.le_of_ble_eq_true rfl⟩) (pre_V (hP.sub [0, 1] rfl) hK (hD.sub [0, 1] (by decide) rfl) (ci := 1) (q0 := 0) rfl rfl) rfl rfl hl.1 rfl (lv_room (Nat.le_of_ble_eq_true rfl)) dX2_nearLine_56 ⟨Nat.le_of_ble_eq_true rfl, Nat.le_of_ble_eq_true rfl⟩) hP hD hS hA rfl (fun _ => rfl) (fun u20 H locs hP hD hS => ?_)
            have hP : va_P D clG (zw dA za (k9.1, (3 : Int32), r12.2.2.2.1) tx u13 r12.2) H := hP
            have hD : va_D A (zw dA za (k9.1, (3 : Int32), r12.2.2.2.1) tx u13 r12.2) := hD
            have hM := Sum.inl.inj (Option.some.inj hM)
            subst hM
            exact z_throw hx hb dX2_nearLine_59 hK hP hD hS hout hlocks rfl (Nat.le_of_ble_eq_true rfl) (Nat.le_of_ble_eq_true rfl)
          · have c_c18 : ¬ r5.1 = r12.1 := fun h9 => c18 (by rw [h9])
            rw [if_neg c_c18] at hM
            refine lv_aload_n hx hb dX2_nearLine_40 rfl (lv_at hl 1 rfl) ?_
            obtain ⟨h21, hM⟩ := gn_inv hM
            obtain ⟨h22, hM⟩ := gn_inv hM
            refine pp_getf hx hb hts hown hK hP zX_len h21 h22 4 (by decide) (hts _ q761) (fun _ h9 => h9) (v := .int (r12.2.2.2.2.2.2.2.2.2.2.2.2.2.2.2.2.2.2.2.2.2.2.2.2.2.2.1 r5.1)) rfl dX2_nearLine_41 ?_
            refine lv_aload_n hx hb dX2_nearLine_44 rfl (lv_at hl 0 rfl) ?_
            obtain ⟨h23, hM⟩ := gn_inv hM
            obtain ⟨h24, hM⟩ := gn_inv hM
            refine pp_getf hx hb hts hown hK hP zX_len h23 h24 1 (by decide) (hts _ q751) (fun _ h9 => h9) (v := .int (r12.2.2.2.2.2.2.2.2.2.2.2.2.2.2.2.2.2.2.2.2.2.2.2.1 r12.1)) rfl dX2_nearLine_45 ?_
            obtain ⟨r25, er25, hM⟩ := b_inv hM
            refine k_i0 [] (va_runSN (As := [.int (r12.2.2.2.2.2.2.2.2.2.2.2.2.2.2.2.2.2.2.2.2.2.2.2.2.2.2.1 r5.1), .int (r12.2.2.2.2.2.2.2.2.2.2.2.2.2.2.2.2.2.2.2.2.2.2.2.1 r12.1)]) (rest := []) ⟨hx, hb, hml, hown, hts⟩ (ctX1_has l D dA _ (r12.2.2.2.2.2.2.2.2.2.2.2.2.2.2.2.2.2.2.2.2.2.2.2.2.2.2.1 r5.1) (r12.2.2.2.2.2.2.2.2.2.2.2.2.2.2.2.2.2.2.2.2.2.2.2.1 r12.1) _ er25) ⟨va_cnB 2 hts (lw_meth q839) rfl rfl rfl (hK.nw 15 rfl) (hts _ q113) (by decide +kernel) ⟨Nat.le_of_ble_eq_true rfl, Nat.le_of_ble_eq_true rfl⟩, hts _ q838, trivial⟩ (pre_S p_nil hK (A := A) d_nil) rfl rfl hl.1 rfl (lv_room (Nat.le_of_ble_eq_true rfl)) dX2_nearLine_48 ⟨Nat.le_of_ble_eq_true rfl, Nat.le_of_ble_eq_true rfl⟩) hP hD hS hA rfl (fun _ => rfl) (fun u26 H locs hP hD hS => ?_)
            have hP : va_P D clG (zw dA za k9 tx u13 r12.2) H := hP
            have hD : va_D A (zw dA za k9 tx u13 r12.2) := hD
            refine lv_if_eq (tgt := 60) hx hb dX2_nearLine_51 (by decide) (fun c27 => ?_) (fun c27 => ?_)
            · rw [if_pos c27] at hM
              refine lv_aload_n hx hb dX2_nearLine_60 rfl (lv_at hl 2 rfl) ?_
              obtain ⟨h31, hM⟩ := gn_inv hM
              obtain ⟨h32, hM⟩ := gn_inv hM
              obtain ⟨r28, er28, hM⟩ := b_inv hM
              refine k_w (va_runV (As := []) (rest := []) ⟨hx, hb, hml, hown, hts⟩ (ctZ_step l D dA _ za u13 tx k9 ka kv r12.2 r28 er28 ) (cwV 0 hts (lw_V q521 q523 qs4 q114 q524) rfl rfl rfl (by decide +kernel) ⟨Nat.le_of_ble_eq_true rfl, Nat.le_of_ble_eq_true rfl⟩) (preX_V ZE_ok hP hK hD (ev_at ZE_ok hE hS (w_free hD hS hA)) hP (ci := 1) (q0 := 0) rfl rfl) rfl rfl hl.1 rfl (lv_room (Nat.le_of_ble_eq_true rfl)) dX2_nearLine_61 ⟨Nat.le_of_ble_eq_true rfl, Nat.le_of_ble_eq_true rfl⟩) hD hS hA (fun u29 H locs x30 hP hD hS => ?_)
              have hl : lv_has ls 3 [(2, .ref (u29.2.2.2.1 r12.1)), (1, .ref (u29.2.2.2.1 r5.1)), (0, .ref (za 0))] := by simp only [x30.2.1 r12.1 h31, x30.2.1 r5.1 h32]; exact hl
              refine W.widen (k := 6) (n := 36) (Nat.le_of_ble_eq_true rfl) (Nat.le_of_ble_eq_true rfl) ?_
              refine W.eq (g2 := F0 m 64 ls []) (by first | rfl | (rfl; rfl) | (rfl) | (simp only [*]; rfl) | simp only [*]) ?_
              refine lv_aload_n hx hb dX2_nearLine_64 rfl (lv_at hl 1 rfl) ?_
              refine lv_dup hx hb dX2_nearLine_65 rfl ?_
              obtain ⟨h33, hM⟩ := gn_inv hM
              obtain ⟨h34, hM⟩ := gn_inv hM
              refine pp_getf hx hb hts hown hK hP zX_len h33 h34 4 (by decide) (hts _ q761) (fun _ h9 => h9) (v := .int (r28.2.2.2.2.2.2.2.2.2.2.2.2.2.2.2.2.2.2.2.2.2.2.2.2.2.1 r5.1)) rfl dX2_nearLine_66 ?_
              refine lv_iconst (v := (1 : Int32)) hx hb dX2_nearLine_69 (by decide) ?_
              refine lv_aload_n hx hb dX2_nearLine_70 rfl (lv_at hl 0 rfl) ?_
              obtain ⟨h35, hM⟩ := gn_inv hM
              obtain ⟨h36, hM⟩ := gn_inv hM
              refine pp_getf hx hb hts hown hK hP zX_len h35 h36 1 (by decide) (hts _ q751) (fun _ h9 => h9) (v := .int (r28.2.2.2.2.2.2.2.2.2.2.2.2.2.2.2.2.2.2.2.2.2.2.1 r12.1)) rfl dX2_nearLine_71 ?_
              refine lv_ishl hx hb dX2_nearLine_74 ?_
              refine lv_ior hx hb dX2_nearLine_75 ?_
              obtain ⟨v0_, hv0_⟩ : ∃ v_ : Int32, v_ = ((r28.2.2.2.2.2.2.2.2.2.2.2.2.2.2.2.2.2.2.2.2.2.2.2.2.2.1 r5.1) ||| ((1 : Int32) <<< ((r28.2.2.2.2.2.2.2.2.2.2.2.2.2.2.2.2.2.2.2.2.2.2.1 r12.1) &&& 31))) := ⟨_, rfl⟩
              rw [← hv0_]
              try rw [← hv0_] at hM
              obtain ⟨h37, hM⟩ := gn_inv hM
              obtain ⟨h38, hM⟩ := gn_inv hM
              refine zz_put4 hx hb hts hown hK hP hD hS h37 h38 v0_ (hts _ q761) dX2_nearLine_76 (fun H locs hP hD hS => ?_)
              have hP : va_P D clG (zw dA za k9 tx u29 (r28.1, r28.2.1, r28.2.2.1, r28.2.2.2.1, r28.2.2.2.2.1, r28.2.2.2.2.2.1, r28.2.2.2.2.2.2.1, r28.2.2.2.2.2.2.2.1, r28.2.2.2.2.2.2.2.2.1, r28.2.2.2.2.2.2.2.2.2.1, r28.2.2.2.2.2.2.2.2.2.2.1, r28.2.2.2.2.2.2.2.2.2.2.2.1, r28.2.2.2.2.2.2.2.2.2.2.2.2.1, r28.2.2.2.2.2.2.2.2.2.2.2.2.2.1, r28.2.2.2.2.2.2.2.2.2.2.2.2.2.2.1, r28.2.2.2.2.2.2.2.2.2.2.2.2.2.2.2.1, r28.2.2.2.2.2.2.2.2.2.2.2.2.2.2.2.2.1, r28.2.2.2.2.2.2.2.2.2.2.2.2.2.2.2.2.2.1, r28.2.2.2.2.2.2.2.2.2.2.2.2.2.2.2.2.2.2.1, r28.2.2.2.2.2.2.2.2.2.2.2.2.2.2.2.2.2.2.2.1, r28.2.2.2.2.2.2.2.2.2.2.2.2.2.2.2.2.2.2.2.2.1, r28.2.2.2.2.2.2.2.2.2.2.2.2.2.2.2.2.2.2.2.2.2.1, r28.2.2.2.2.2.2.2.2.2.2.2.2.2.2.2.2.2.2.2.2.2.2.1, r28.2.2.2.2.2.2.2.2.2.2.2.2.2.2.2.2.2.2.2.2.2.2.2.1, r28.2.2.2.2.2.2.2.2.2.2.2.2.2.2.2.2.2.2.2.2.2.2.2.2.1, (upd r28.2.2.2.2.2.2.2.2.2.2.2.2.2.2.2.2.2.2.2.2.2.2.2.2.2.1 r5.1 v0_), r28.2.2.2.2.2.2.2.2.2.2.2.2.2.2.2.2.2.2.2.2.2.2.2.2.2.2.1, r28.2.2.2.2.2.2.2.2.2.2.2.2.2.2.2.2.2.2.2.2.2.2.2.2.2.2.2.1, r28.2.2.2.2.2.2.2.2.2.2.2.2.2.2.2.2.2.2.2.2.2.2.2.2.2.2.2.2.1, r28.2.2.2.2.2.2.2.2.2.2.2.2.2.2.2.2.2.2.2.2.2.2.2.2.2.2.2.2.2.1, r28.2.2.2.2.2.2.2.2.2.2.2.2.2.2.2.2.2.2.2.2.2.2.2.2.2.2.2.2.2.2.1, r28.2.2.2.2.2.2.2.2.2.2.2.2.2.2.2.2.2.2.2.2.2.2.2.2.2.2.2.2.2.2.2)) H := hP
              have hD : va_D A (zw dA za k9 tx u29 (r28.1, r28.2.1, r28.2.2.1, r28.2.2.2.1, r28.2.2.2.2.1, r28.2.2.2.2.2.1, r28.2.2.2.2.2.2.1, r28.2.2.2.2.2.2.2.1, r28.2.2.2.2.2.2.2.2.1, r28.2.2.2.2.2.2.2.2.2.1, r28.2.2.2.2.2.2.2.2.2.2.1, r28.2.2.2.2.2.2.2.2.2.2.2.1, r28.2.2.2.2.2.2.2.2.2.2.2.2.1, r28.2.2.2.2.2.2.2.2.2.2.2.2.2.1, r28.2.2.2.2.2.2.2.2.2.2.2.2.2.2.1, r28.2.2.2.2.2.2.2.2.2.2.2.2.2.2.2.1, r28.2.2.2.2.2.2.2.2.2.2.2.2.2.2.2.2.1, r28.2.2.2.2.2.2.2.2.2.2.2.2.2.2.2.2.2.1, r28.2.2.2.2.2.2.2.2.2.2.2.2.2.2.2.2.2.2.1, r28.2.2.2.2.2.2.2.2.2.2.2.2.2.2.2.2.2.2.2.1, r28.2.2.2.2.2.2.2.2.2.2.2.2.2.2.2.2.2.2.2.2.1, r28.2.2.2.2.2.2.2.2.2.2.2.2.2.2.2.2.2.2.2.2.2.1, r28.2.2.2.2.2.2.2.2.2.2.2.2.2.2.2.2.2.2.2.2.2.2.1, r28.2.2.2.2.2.2.2.2.2.2.2.2.2.2.2.2.2.2.2.2.2.2.2.1, r28.2.2.2.2.2.2.2.2.2.2.2.2.2.2.2.2.2.2.2.2.2.2.2.2.1, (upd r28.2.2.2.2.2.2.2.2.2.2.2.2.2.2.2.2.2.2.2.2.2.2.2.2.2.1 r5.1 v0_), r28.2.2.2.2.2.2.2.2.2.2.2.2.2.2.2.2.2.2.2.2.2.2.2.2.2.2.1, r28.2.2.2.2.2.2.2.2.2.2.2.2.2.2.2.2.2.2.2.2.2.2.2.2.2.2.2.1, r28.2.2.2.2.2.2.2.2.2.2.2.2.2.2.2.2.2.2.2.2.2.2.2.2.2.2.2.2.1, r28.2.2.2.2.2.2.2.2.2.2.2.2.2.2.2.2.2.2.2.2.2.2.2.2.2.2.2.2.2.1, r28.2.2.2.2.2.2.2.2.2.2.2.2.2.2.2.2.2.2.2.2.2.2.2.2.2.2.2.2.2.2.1, r28.2.2.2.2.2.2.2.2.2.2.2.2.2.2.2.2.2.2.2.2.2.2.2.2.2.2.2.2.2.2.2)) := hD
              refine lv_aload_n hx hb dX2_nearLine_79 rfl (lv_at hl 0 rfl) ?_
              refine lv_dup hx hb dX2_nearLine_80 rfl ?_
              obtain ⟨h39, hM⟩ := gn_inv hM
              obtain ⟨h40, hM⟩ := gn_inv hM
              refine pp_getf hx hb hts hown hK hP zX_len h39 h40 4 (by decide) (hts _ q761) (fun _ h9 => h9) (v := .int ((upd r28.2.2.2.2.2.2.2.2.2.2.2.2.2.2.2.2.2.2.2.2.2.2.2.2.2.1 r5.1 v0_) r12.1)) rfl dX2_nearLine_81 ?_
              refine lv_iconst (v := (1 : Int32)) hx hb dX2_nearLine_84 (by decide) ?_
              refine lv_aload_n hx hb dX2_nearLine_85 rfl (lv_at hl 1 rfl) ?_
              obtain ⟨h41, hM⟩ := gn_inv hM
              obtain ⟨h42, hM⟩ := gn_inv hM
              refine pp_getf hx hb hts hown hK hP zX_len h41 h42 1 (by decide) (hts _ q751) (fun _ h9 => h9) (v := .int (r28.2.2.2.2.2.2.2.2.2.2.2.2.2.2.2.2.2.2.2.2.2.2.1 r5.1)) rfl dX2_nearLine_86 ?_
              refine lv_ishl hx hb dX2_nearLine_89 ?_
              refine lv_ior hx hb dX2_nearLine_90 ?_
              obtain ⟨v1_, hv1_⟩ : ∃ v_ : Int32, v_ = (((upd r28.2.2.2.2.2.2.2.2.2.2.2.2.2.2.2.2.2.2.2.2.2.2.2.2.2.1 r5.1 v0_) r12.1) ||| ((1 : Int32) <<< ((r28.2.2.2.2.2.2.2.2.2.2.2.2.2.2.2.2.2.2.2.2.2.2.1 r5.1) &&& 31))) := ⟨_, rfl⟩
              rw [← hv1_]
              try rw [← hv1_] at hM
              obtain ⟨h43, hM⟩ := gn_inv hM
              obtain ⟨h44, hM⟩ := gn_inv hM
              refine zz_put4 hx hb hts hown hK hP hD hS h43 h44 v1_ (hts _ q761) dX2_nearLine_91 (fun H locs hP hD hS => ?_)
              have hP : va_P D clG (zw dA za k9 tx u29 (r28.1, r28.2.1, r28.2.2.1, r28.2.2.2.1, r28.2.2.2.2.1, r28.2.2.2.2.2.1, r28.2.2.2.2.2.2.1, r28.2.2.2.2.2.2.2.1, r28.2.2.2.2.2.2.2.2.1, r28.2.2.2.2.2.2.2.2.2.1, r28.2.2.2.2.2.2.2.2.2.2.1, r28.2.2.2.2.2.2.2.2.2.2.2.1, r28.2.2.2.2.2.2.2.2.2.2.2.2.1, r28.2.2.2.2.2.2.2.2.2.2.2.2.2.1, r28.2.2.2.2.2.2.2.2.2.2.2.2.2.2.1, r28.2.2.2.2.2.2.2.2.2.2.2.2.2.2.2.1, r28.2.2.2.2.2.2.2.2.2.2.2.2.2.2.2.2.1, r28.2.2.2.2.2.2.2.2.2.2.2.2.2.2.2.2.2.1, r28.2.2.2.2.2.2.2.2.2.2.2.2.2.2.2.2.2.2.1, r28.2.2.2.2.2.2.2.2.2.2.2.2.2.2.2.2.2.2.2.1, r28.2.2.2.2.2.2.2.2.2.2.2.2.2.2.2.2.2.2.2.2.1, r28.2.2.2.2.2.2.2.2.2.2.2.2.2.2.2.2.2.2.2.2.2.1, r28.2.2.2.2.2.2.2.2.2.2.2.2.2.2.2.2.2.2.2.2.2.2.1, r28.2.2.2.2.2.2.2.2.2.2.2.2.2.2.2.2.2.2.2.2.2.2.2.1, r28.2.2.2.2.2.2.2.2.2.2.2.2.2.2.2.2.2.2.2.2.2.2.2.2.1, (upd (upd r28.2.2.2.2.2.2.2.2.2.2.2.2.2.2.2.2.2.2.2.2.2.2.2.2.2.1 r5.1 v0_) r12.1 v1_), r28.2.2.2.2.2.2.2.2.2.2.2.2.2.2.2.2.2.2.2.2.2.2.2.2.2.2.1, r28.2.2.2.2.2.2.2.2.2.2.2.2.2.2.2.2.2.2.2.2.2.2.2.2.2.2.2.1, r28.2.2.2.2.2.2.2.2.2.2.2.2.2.2.2.2.2.2.2.2.2.2.2.2.2.2.2.2.1, r28.2.2.2.2.2.2.2.2.2.2.2.2.2.2.2.2.2.2.2.2.2.2.2.2.2.2.2.2.2.1, r28.2.2.2.2.2.2.2.2.2.2.2.2.2.2.2.2.2.2.2.2.2.2.2.2.2.2.2.2.2.2.1, r28.2.2.2.2.2.2.2.2.2.2.2.2.2.2.2.2.2.2.2.2.2.2.2.2.2.2.2.2.2.2.2)) H := hP
              have hD : va_D A (zw dA za k9 tx u29 (r28.1, r28.2.1, r28.2.2.1, r28.2.2.2.1, r28.2.2.2.2.1, r28.2.2.2.2.2.1, r28.2.2.2.2.2.2.1, r28.2.2.2.2.2.2.2.1, r28.2.2.2.2.2.2.2.2.1, r28.2.2.2.2.2.2.2.2.2.1, r28.2.2.2.2.2.2.2.2.2.2.1, r28.2.2.2.2.2.2.2.2.2.2.2.1, r28.2.2.2.2.2.2.2.2.2.2.2.2.1, r28.2.2.2.2.2.2.2.2.2.2.2.2.2.1, r28.2.2.2.2.2.2.2.2.2.2.2.2.2.2.1, r28.2.2.2.2.2.2.2.2.2.2.2.2.2.2.2.1, r28.2.2.2.2.2.2.2.2.2.2.2.2.2.2.2.2.1, r28.2.2.2.2.2.2.2.2.2.2.2.2.2.2.2.2.2.1, r28.2.2.2.2.2.2.2.2.2.2.2.2.2.2.2.2.2.2.1, r28.2.2.2.2.2.2.2.2.2.2.2.2.2.2.2.2.2.2.2.1, r28.2.2.2.2.2.2.2.2.2.2.2.2.2.2.2.2.2.2.2.2.1, r28.2.2.2.2.2.2.2.2.2.2.2.2.2.2.2.2.2.2.2.2.2.1, r28.2.2.2.2.2.2.2.2.2.2.2.2.2.2.2.2.2.2.2.2.2.2.1, r28.2.2.2.2.2.2.2.2.2.2.2.2.2.2.2.2.2.2.2.2.2.2.2.1, r28.2.2.2.2.2.2.2.2.2.2.2.2.2.2.2.2.2.2.2.2.2.2.2.2.1, (upd (upd r28.2.2.2.2.2.2.2.2.2.2.2.2.2.2.2.2.2.2.2.2.2.2.2.2.2.1 r5.1 v0_) r12.1 v1_), r28.2.2.2.2.2.2.2.2.2.2.2.2.2.2.2.2.2.2.2.2.2.2.2.2.2.2.1, r28.2.2.2.2.2.2.2.2.2.2.2.2.2.2.2.2.2.2.2.2.2.2.2.2.2.2.2.1, r28.2.2.2.2.2.2.2.2.2.2.2.2.2.2.2.2.2.2.2.2.2.2.2.2.2.2.2.2.1, r28.2.2.2.2.2.2.2.2.2.2.2.2.2.2.2.2.2.2.2.2.2.2.2.2.2.2.2.2.2.1, r28.2.2.2.2.2.2.2.2.2.2.2.2.2.2.2.2.2.2.2.2.2.2.2.2.2.2.2.2.2.2.1, r28.2.2.2.2.2.2.2.2.2.2.2.2.2.2.2.2.2.2.2.2.2.2.2.2.2.2.2.2.2.2.2)) := hD
              refine lv_aload_n hx hb dX2_nearLine_94 rfl (lv_at hl 2 rfl) ?_
              refine va_get (D := D) (ci := 1) (v := .ref (za 4)) (C := RX2) (T := TX2) (N := 11) hx hb hts in_X2 hown hK.1 hP 0 rfl rfl 9 (by decide) (hts _ q235) (fun _ h9 => h9) rfl dX2_nearLine_95 ?_
              refine lv_dup hx hb dX2_nearLine_98 rfl ?_
              refine va_get (D := D) (ci := 6) (v := .int r28.2.2.2.2.2.2.2.2.2.2.1) (C := RX8) (T := TX8) (N := 13) hx hb hts in_X8 hown hK.1 hP 4 rfl rfl 9 (by decide) (hts _ q486) (fun _ h9 => h9) rfl dX2_nearLine_99 ?_
              refine lv_iconst (v := (1 : Int32)) hx hb dX2_nearLine_102 (by decide) ?_
              refine lv_iadd hx hb dX2_nearLine_103 ?_
              obtain ⟨v2_, hv2_⟩ : ∃ v_ : Int32, v_ = (r28.2.2.2.2.2.2.2.2.2.2.1 + (1 : Int32)) := ⟨_, rfl⟩
              rw [← hv2_]
              try rw [← hv2_] at hM
              refine va_put (D := D) (ci := 6) (v := .int v2_) (ty := .int) (C := RX8) (T := TX8) (N := 13) hx hb hts in_X8 tyX8 tyX8_ok nmX8 hown hK.1 hP hD hS 4 rfl rfl 9 (by decide) (hts _ q486) (fun _ h9 => h9) rfl (by decide +kernel) rfl rfl (Nat.le_of_ble_eq_true rfl) dX2_nearLine_104 (fun H locs hP hD hS => ?_)
              have hP : va_P D clG (zw dA za k9 tx u29 (r28.1, r28.2.1, r28.2.2.1, r28.2.2.2.1, r28.2.2.2.2.1, r28.2.2.2.2.2.1, r28.2.2.2.2.2.2.1, r28.2.2.2.2.2.2.2.1, r28.2.2.2.2.2.2.2.2.1, r28.2.2.2.2.2.2.2.2.2.1, v2_, r28.2.2.2.2.2.2.2.2.2.2.2.1, r28.2.2.2.2.2.2.2.2.2.2.2.2.1, r28.2.2.2.2.2.2.2.2.2.2.2.2.2.1, r28.2.2.2.2.2.2.2.2.2.2.2.2.2.2.1, r28.2.2.2.2.2.2.2.2.2.2.2.2.2.2.2.1, r28.2.2.2.2.2.2.2.2.2.2.2.2.2.2.2.2.1, r28.2.2.2.2.2.2.2.2.2.2.2.2.2.2.2.2.2.1, r28.2.2.2.2.2.2.2.2.2.2.2.2.2.2.2.2.2.2.1, r28.2.2.2.2.2.2.2.2.2.2.2.2.2.2.2.2.2.2.2.1, r28.2.2.2.2.2.2.2.2.2.2.2.2.2.2.2.2.2.2.2.2.1, r28.2.2.2.2.2.2.2.2.2.2.2.2.2.2.2.2.2.2.2.2.2.1, r28.2.2.2.2.2.2.2.2.2.2.2.2.2.2.2.2.2.2.2.2.2.2.1, r28.2.2.2.2.2.2.2.2.2.2.2.2.2.2.2.2.2.2.2.2.2.2.2.1, r28.2.2.2.2.2.2.2.2.2.2.2.2.2.2.2.2.2.2.2.2.2.2.2.2.1, (upd (upd r28.2.2.2.2.2.2.2.2.2.2.2.2.2.2.2.2.2.2.2.2.2.2.2.2.2.1 r5.1 v0_) r12.1 v1_), r28.2.2.2.2.2.2.2.2.2.2.2.2.2.2.2.2.2.2.2.2.2.2.2.2.2.2.1, r28.2.2.2.2.2.2.2.2.2.2.2.2.2.2.2.2.2.2.2.2.2.2.2.2.2.2.2.1, r28.2.2.2.2.2.2.2.2.2.2.2.2.2.2.2.2.2.2.2.2.2.2.2.2.2.2.2.2.1, r28.2.2.2.2.2.2.2.2.2.2.2.2.2.2.2.2.2.2.2.2.2.2.2.2.2.2.2.2.2.1, r28.2.2.2.2.2.2.2.2.2.2.2.2.2.2.2.2.2.2.2.2.2.2.2.2.2.2.2.2.2.2.1, r28.2.2.2.2.2.2.2.2.2.2.2.2.2.2.2.2.2.2.2.2.2.2.2.2.2.2.2.2.2.2.2)) H := zP_set hP (Nat.le_of_ble_eq_true rfl) rfl rfl
              have hD : va_D A (zw dA za k9 tx u29 (r28.1, r28.2.1, r28.2.2.1, r28.2.2.2.1, r28.2.2.2.2.1, r28.2.2.2.2.2.1, r28.2.2.2.2.2.2.1, r28.2.2.2.2.2.2.2.1, r28.2.2.2.2.2.2.2.2.1, r28.2.2.2.2.2.2.2.2.2.1, v2_, r28.2.2.2.2.2.2.2.2.2.2.2.1, r28.2.2.2.2.2.2.2.2.2.2.2.2.1, r28.2.2.2.2.2.2.2.2.2.2.2.2.2.1, r28.2.2.2.2.2.2.2.2.2.2.2.2.2.2.1, r28.2.2.2.2.2.2.2.2.2.2.2.2.2.2.2.1, r28.2.2.2.2.2.2.2.2.2.2.2.2.2.2.2.2.1, r28.2.2.2.2.2.2.2.2.2.2.2.2.2.2.2.2.2.1, r28.2.2.2.2.2.2.2.2.2.2.2.2.2.2.2.2.2.2.1, r28.2.2.2.2.2.2.2.2.2.2.2.2.2.2.2.2.2.2.2.1, r28.2.2.2.2.2.2.2.2.2.2.2.2.2.2.2.2.2.2.2.2.1, r28.2.2.2.2.2.2.2.2.2.2.2.2.2.2.2.2.2.2.2.2.2.1, r28.2.2.2.2.2.2.2.2.2.2.2.2.2.2.2.2.2.2.2.2.2.2.1, r28.2.2.2.2.2.2.2.2.2.2.2.2.2.2.2.2.2.2.2.2.2.2.2.1, r28.2.2.2.2.2.2.2.2.2.2.2.2.2.2.2.2.2.2.2.2.2.2.2.2.1, (upd (upd r28.2.2.2.2.2.2.2.2.2.2.2.2.2.2.2.2.2.2.2.2.2.2.2.2.2.1 r5.1 v0_) r12.1 v1_), r28.2.2.2.2.2.2.2.2.2.2.2.2.2.2.2.2.2.2.2.2.2.2.2.2.2.2.1, r28.2.2.2.2.2.2.2.2.2.2.2.2.2.2.2.2.2.2.2.2.2.2.2.2.2.2.2.1, r28.2.2.2.2.2.2.2.2.2.2.2.2.2.2.2.2.2.2.2.2.2.2.2.2.2.2.2.2.1, r28.2.2.2.2.2.2.2.2.2.2.2.2.2.2.2.2.2.2.2.2.2.2.2.2.2.2.2.2.2.1, r28.2.2.2.2.2.2.2.2.2.2.2.2.2.2.2.2.2.2.2.2.2.2.2.2.2.2.2.2.2.2.1, r28.2.2.2.2.2.2.2.2.2.2.2.2.2.2.2.2.2.2.2.2.2.2.2.2.2.2.2.2.2.2.2)) := zD_set hD (Nat.le_of_ble_eq_true rfl) rfl rfl
              cases hM
            · rw [if_neg c27] at hM
              refine lv_aload_n hx hb dX2_nearLine_54 rfl (lv_at hl 2 rfl) ?_
              refine lv_iconst (v := (3 : Int32)) hx hb dX2_nearLine_55 (by decide) ?_
              have er45 : MX2_fail (3 : Int32) r12.2.2.2.1 = some ((3 : Int32), r12.2.2.2.1) := rfl
              refine k_r0 [0, 1] (va_runV (As := [.int (3 : Int32)]) (rest := []) ⟨hx, hb, hml, hown, hts⟩ (ctX2_fail l D dA _ (za 0) (za 1) (3 : Int32) k9.1 r12.2.1 r12.2.2.1 r12.2.2.2.1 r12.2.2.2.2.1 0 k9.2.1 k9.2.2 (.ref (za 2)) (.ref (za 3)) (zwv u13 r12.2.2.2.2.2.1) (.ref (za 4)) (zav u13 r12.2.2.2.2.2.2.1) .null .null .null .null .null _ er45) (cwV 1 hts (lw_V q619 q621 qs7 q114 q622) rfl rfl rfl (by decide +kernel) ⟨Nat.le_of_ble_eq_true rfl, Nat.le_of_ble_eq_true rfl⟩) (pre_V (hP.sub [0, 1] rfl) hK (hD.sub [0, 1] (by decide) rfl) (ci := 1) (q0 := 0) rfl rfl) rfl rfl hl.1 rfl (lv_room (Nat.le_of_ble_eq_true rfl)) dX2_nearLine_56 ⟨Nat.le_of_ble_eq_true rfl, Nat.le_of_ble_eq_true rfl⟩) hP hD hS hA rfl (fun _ => rfl) (fun u46 H locs hP hD hS => ?_)
              have hP : va_P D clG (zw dA za (k9.1, (3 : Int32), r12.2.2.2.1) tx u13 r12.2) H := hP
              have hD : va_D A (zw dA za (k9.1, (3 : Int32), r12.2.2.2.1) tx u13 r12.2) := hD
              have hM := Sum.inl.inj (Option.some.inj hM)
              subst hM
              exact z_throw hx hb dX2_nearLine_59 hK hP hD hS hout hlocks rfl (Nat.le_of_ble_eq_true rfl) (Nat.le_of_ble_eq_true rfl)
  · rw [if_neg c1] at hM
    refine lv_iconst (v := (1 : Int32)) hx hb dX2_nearLine_13 (by decide) ?_
    refine lv_goto (tgt := 18) hx hb dX2_nearLine_14 (by decide) ?_
    obtain ⟨r47_, er47, hM⟩ := b_inv hM
    cases r47_ with
    | inl e9 =>
      dsimp only at hM
      have hM := Sum.inl.inj (Option.some.inj hM)
      subst hM
      exact z_err (vy_runV (As := [.int (1 : Int32)]) (rest := []) ⟨hx, hb, hml, hown, hts⟩ (ceZ_begins l D dA _ za h tx k9 ka kv s true e9 er47 ) (cwV 1 hts (lw_V q716 q718 qs13 q114 q719) rfl rfl rfl (by decide +kernel) ⟨Nat.le_of_ble_eq_true rfl, Nat.le_of_ble_eq_true rfl⟩) (preX_V ZE_ok hP hK hD (ev_at ZE_ok hE hS (w_free hD hS hA)) hP (ci := 1) (q0 := 0) rfl rfl) rfl rfl hl.1 rfl (lv_room (Nat.le_of_ble_eq_true rfl)) dX2_nearLine_18 ⟨Nat.le_of_ble_eq_true rfl, Nat.le_of_ble_eq_true rfl⟩) hD hS hA hout hlocks (Nat.le_of_ble_eq_true rfl) (Nat.le_of_ble_eq_true rfl)
    | inr r47 =>
      dsimp only at hM
      refine k_w (va_runV (As := [.int (1 : Int32)]) (rest := []) ⟨hx, hb, hml, hown, hts⟩ (ctZ_begins l D dA _ za h tx k9 ka kv s true r47 er47 ) (cwV 1 hts (lw_V q716 q718 qs13 q114 q719) rfl rfl rfl (by decide +kernel) ⟨Nat.le_of_ble_eq_true rfl, Nat.le_of_ble_eq_true rfl⟩) (preX_V ZE_ok hP hK hD (ev_at ZE_ok hE hS (w_free hD hS hA)) hP (ci := 1) (q0 := 0) rfl rfl) rfl rfl hl.1 rfl (lv_room (Nat.le_of_ble_eq_true rfl)) dX2_nearLine_18 ⟨Nat.le_of_ble_eq_true rfl, Nat.le_of_ble_eq_true rfl⟩) hD hS hA (fun u48 H locs x49 hP hD hS => ?_)
      refine W.widen (k := 2) (n := 12) (Nat.le_of_ble_eq_true rfl) (Nat.le_of_ble_eq_true rfl) ?_
      refine W.eq (g2 := F0 m 21 ls []) (by first | rfl | (rfl; rfl) | (rfl) | (simp only [*]; rfl) | simp only [*]) ?_
      refine lv_aload_n hx hb dX2_nearLine_21 rfl (lv_at hl 0 rfl) ?_
      obtain ⟨r50_, er50, hM⟩ := b_inv hM
      cases r50_ with
      | inl e9 =>
        dsimp only at hM
        have hM := Sum.inl.inj (Option.some.inj hM)
        subst hM
        exact z_err (vy_runV (As := []) (rest := []) ⟨hx, hb, hml, hown, hts⟩ (ceZ_personHere l D dA _ za u48 tx k9 ka kv r47 e9 er50 ) (cwV 0 hts (lw_V q833 q835 qs18 q114 q836) rfl rfl rfl (by decide +kernel) ⟨Nat.le_of_ble_eq_true rfl, Nat.le_of_ble_eq_true rfl⟩) (preX_V ZE_ok hP hK hD (ev_at ZE_ok hE hS (w_free hD hS hA)) hP (ci := 1) (q0 := 0) rfl rfl) rfl rfl hl.1 rfl (lv_room (Nat.le_of_ble_eq_true rfl)) dX2_nearLine_22 ⟨Nat.le_of_ble_eq_true rfl, Nat.le_of_ble_eq_true rfl⟩) hD hS hA hout hlocks (Nat.le_of_ble_eq_true rfl) (Nat.le_of_ble_eq_true rfl)
      | inr r50 =>
        dsimp only at hM
        refine k_w (va_runV (As := []) (rest := []) ⟨hx, hb, hml, hown, hts⟩ (ctZ_personHere l D dA _ za u48 tx k9 ka kv r47 r50 er50 ) (cwV 0 hts (lw_V q833 q835 qs18 q114 q836) rfl rfl rfl (by decide +kernel) ⟨Nat.le_of_ble_eq_true rfl, Nat.le_of_ble_eq_true rfl⟩) (preX_V ZE_ok hP hK hD (ev_at ZE_ok hE hS (w_free hD hS hA)) hP (ci := 1) (q0 := 0) rfl rfl) rfl rfl hl.1 rfl (lv_room (Nat.le_of_ble_eq_true rfl)) dX2_nearLine_22 ⟨Nat.le_of_ble_eq_true rfl, Nat.le_of_ble_eq_true rfl⟩) hD hS hA (fun u51 H locs x52 hP hD hS => ?_)
        refine W.eq (g2 := F0 m 25 ls [.ref (u51.2.2.2.1 r50.1)]) (by first | rfl | (rfl; rfl) | (rfl) | (simp only [*]; rfl) | simp only [*]) ?_
        refine lv_astore_n (lv' := [(1, .ref (u51.2.2.2.1 r50.1)), (0, .ref (za 0))]) hx hb dX2_nearLine_25 rfl hl (by decide) rfl (fun ls hl => ?_)
        refine lv_aload_n hx hb dX2_nearLine_26 rfl (lv_at hl 1 rfl) ?_
        obtain ⟨h56, hM⟩ := gn_inv hM
        obtain ⟨r53, er53, hM⟩ := b_inv hM
        refine k_w (va_runV (As := []) (rest := []) ⟨hx, hb, hml, hown, hts⟩ (ctZ_step l D dA _ za u51 tx k9 ka kv r50.2 r53 er53 ) (cwV 0 hts (lw_V q521 q523 qs4 q114 q524) rfl rfl rfl (by decide +kernel) ⟨Nat.le_of_ble_eq_true rfl, Nat.le_of_ble_eq_true rfl⟩) (preX_V ZE_ok hP hK hD (ev_at ZE_ok hE hS (w_free hD hS hA)) hP (ci := 1) (q0 := 0) rfl rfl) rfl rfl hl.1 rfl (lv_room (Nat.le_of_ble_eq_true rfl)) dX2_nearLine_27 ⟨Nat.le_of_ble_eq_true rfl, Nat.le_of_ble_eq_true rfl⟩) hD hS hA (fun u54 H locs x55 hP hD hS => ?_)
        have hl : lv_has ls 3 [(1, .ref (u54.2.2.2.1 r50.1)), (0, .ref (za 0))] := by simp only [x55.2.1 r50.1 h56]; exact hl
        refine W.widen (k := 4) (n := 24) (Nat.le_of_ble_eq_true rfl) (Nat.le_of_ble_eq_true rfl) ?_
        refine W.eq (g2 := F0 m 30 ls []) (by first | rfl | (rfl; rfl) | (rfl) | (simp only [*]; rfl) | simp only [*]) ?_
        refine lv_aload_n hx hb dX2_nearLine_30 rfl (lv_at hl 1 rfl) ?_
        obtain ⟨h60, hM⟩ := gn_inv hM
        obtain ⟨r57_, er57, hM⟩ := b_inv hM
        cases r57_ with
        | inl e9 =>
          dsimp only at hM
          have hM := Sum.inl.inj (Option.some.inj hM)
          subst hM
          exact z_err (vy_runV (As := []) (rest := []) ⟨hx, hb, hml, hown, hts⟩ (ceZ_personHere l D dA _ za u54 tx k9 ka kv r53 e9 er57 ) (cwV 0 hts (lw_V q833 q835 qs18 q114 q836) rfl rfl rfl (by decide +kernel) ⟨Nat.le_of_ble_eq_true rfl, Nat.le_of_ble_eq_true rfl⟩) (preX_V ZE_ok hP hK hD (ev_at ZE_ok hE hS (w_free hD hS hA)) hP (ci := 1) (q0 := 0) rfl rfl) rfl rfl hl.1 rfl (lv_room (Nat.le_of_ble_eq_true rfl)) dX2_nearLine_31 ⟨Nat.le_of_ble_eq_true rfl, Nat.le_of_ble_eq_true rfl⟩) hD hS hA hout hlocks (Nat.le_of_ble_eq_true rfl) (Nat.le_of_ble_eq_true rfl)
        | inr r57 =>
          dsimp only at hM
          refine k_w (va_runV (As := []) (rest := []) ⟨hx, hb, hml, hown, hts⟩ (ctZ_personHere l D dA _ za u54 tx k9 ka kv r53 r57 er57 ) (cwV 0 hts (lw_V q833 q835 qs18 q114 q836) rfl rfl rfl (by decide +kernel) ⟨Nat.le_of_ble_eq_true rfl, Nat.le_of_ble_eq_true rfl⟩) (preX_V ZE_ok hP hK hD (ev_at ZE_ok hE hS (w_free hD hS hA)) hP (ci := 1) (q0 := 0) rfl rfl) rfl rfl hl.1 rfl (lv_room (Nat.le_of_ble_eq_true rfl)) dX2_nearLine_31 ⟨Nat.le_of_ble_eq_true rfl, Nat.le_of_ble_eq_true rfl⟩) hD hS hA (fun u58 H locs x59 hP hD hS => ?_)
          have hl : lv_has ls 3 [(1, .ref (u58.2.2.2.1 r50.1)), (0, .ref (za 0))] := by simp only [x59.2.1 r50.1 h60]; exact hl
          refine W.eq (g2 := F0 m 34 ls [.ref (u58.2.2.2.1 r57.1)]) (by first | rfl | (rfl; rfl) | (rfl) | (simp only [*]; rfl) | simp only [*]) ?_
          refine lv_astore_n (lv' := [(2, .ref (u58.2.2.2.1 r57.1)), (1, .ref (u58.2.2.2.1 r50.1)), (0, .ref (za 0))]) hx hb dX2_nearLine_34 rfl hl (by decide) rfl (fun ls hl => ?_)
          refine lv_aload_n hx hb dX2_nearLine_35 rfl (lv_at hl 1 rfl) ?_
          refine lv_aload_n hx hb dX2_nearLine_36 rfl (lv_at hl 0 rfl) ?_
          obtain ⟨h61, hM⟩ := gn_inv hM
          obtain ⟨h62, hM⟩ := gn_inv hM
          refine lv_acmp_eq (rx := some (u58.2.2.2.1 r50.1)) (ry := some (u58.2.2.2.1 r57.1)) (tgt := 54) hx hb dX2_nearLine_37 (by decide) (fun c63 => ?_) (fun c63 => ?_)
          · have c_c63 := zpa_inj hD h61 h62 (Option.some.inj c63)
            rw [if_pos c_c63] at hM
            refine lv_aload_n hx hb dX2_nearLine_54 rfl (lv_at hl 2 rfl) ?_
            refine lv_iconst (v := (3 : Int32)) hx hb dX2_nearLine_55 (by decide) ?_
            have er64 : MX2_fail (3 : Int32) r57.2.2.2.1 = some ((3 : Int32), r57.2.2.2.1) := rfl
            refine k_r0 [0, 1] (va_runV (As := [.int (3 : Int32)]) (rest := []) ⟨hx, hb, hml, hown, hts⟩ (ctX2_fail l D dA _ (za 0) (za 1) (3 : Int32) k9.1 r57.2.1 r57.2.2.1 r57.2.2.2.1 r57.2.2.2.2.1 0 k9.2.1 k9.2.2 (.ref (za 2)) (.ref (za 3)) (zwv u58 r57.2.2.2.2.2.1) (.ref (za 4)) (zav u58 r57.2.2.2.2.2.2.1) .null .null .null .null .null _ er64) (cwV 1 hts (lw_V q619 q621 qs7 q114 q622) rfl rfl rfl (by decide +kernel) ⟨Nat.le_of_ble_eq_true rfl, Nat.le_of_ble_eq_true rfl⟩) (pre_V (hP.sub [0, 1] rfl) hK (hD.sub [0, 1] (by decide) rfl) (ci := 1) (q0 := 0) rfl rfl) rfl rfl hl.1 rfl (lv_room (Nat.le_of_ble_eq_true rfl)) dX2_nearLine_56 ⟨Nat.le_of_ble_eq_true rfl, Nat.le_of_ble_eq_true rfl⟩) hP hD hS hA rfl (fun _ => rfl) (fun u65 H locs hP hD hS => ?_)
            have hP : va_P D clG (zw dA za (k9.1, (3 : Int32), r57.2.2.2.1) tx u58 r57.2) H := hP
            have hD : va_D A (zw dA za (k9.1, (3 : Int32), r57.2.2.2.1) tx u58 r57.2) := hD
            have hM := Sum.inl.inj (Option.some.inj hM)
            subst hM
            exact z_throw hx hb dX2_nearLine_59 hK hP hD hS hout hlocks rfl (Nat.le_of_ble_eq_true rfl) (Nat.le_of_ble_eq_true rfl)
          · have c_c63 : ¬ r50.1 = r57.1 := fun h9 => c63 (by rw [h9])
            rw [if_neg c_c63] at hM
            refine lv_aload_n hx hb dX2_nearLine_40 rfl (lv_at hl 1 rfl) ?_
            obtain ⟨h66, hM⟩ := gn_inv hM
            obtain ⟨h67, hM⟩ := gn_inv hM
            refine pp_getf hx hb hts hown hK hP zX_len h66 h67 4 (by decide) (hts _ q761) (fun _ h9 => h9) (v := .int (r57.2.2.2.2.2.2.2.2.2.2.2.2.2.2.2.2.2.2.2.2.2.2.2.2.2.2.1 r50.1)) rfl dX2_nearLine_41 ?_
            refine lv_aload_n hx hb dX2_nearLine_44 rfl (lv_at hl 0 rfl) ?_
            obtain ⟨h68, hM⟩ := gn_inv hM
            obtain ⟨h69, hM⟩ := gn_inv hM
            refine pp_getf hx hb hts hown hK hP zX_len h68 h69 1 (by decide) (hts _ q751) (fun _ h9 => h9) (v := .int (r57.2.2.2.2.2.2.2.2.2.2.2.2.2.2.2.2.2.2.2.2.2.2.2.1 r57.1)) rfl dX2_nearLine_45 ?_
            obtain ⟨r70, er70, hM⟩ := b_inv hM
            refine k_i0 [] (va_runSN (As := [.int (r57.2.2.2.2.2.2.2.2.2.2.2.2.2.2.2.2.2.2.2.2.2.2.2.2.2.2.1 r50.1), .int (r57.2.2.2.2.2.2.2.2.2.2.2.2.2.2.2.2.2.2.2.2.2.2.2.1 r57.1)]) (rest := []) ⟨hx, hb, hml, hown, hts⟩ (ctX1_has l D dA _ (r57.2.2.2.2.2.2.2.2.2.2.2.2.2.2.2.2.2.2.2.2.2.2.2.2.2.2.1 r50.1) (r57.2.2.2.2.2.2.2.2.2.2.2.2.2.2.2.2.2.2.2.2.2.2.2.1 r57.1) _ er70) ⟨va_cnB 2 hts (lw_meth q839) rfl rfl rfl (hK.nw 15 rfl) (hts _ q113) (by decide +kernel) ⟨Nat.le_of_ble_eq_true rfl, Nat.le_of_ble_eq_true rfl⟩, hts _ q838, trivial⟩ (pre_S p_nil hK (A := A) d_nil) rfl rfl hl.1 rfl (lv_room (Nat.le_of_ble_eq_true rfl)) dX2_nearLine_48 ⟨Nat.le_of_ble_eq_true rfl, Nat.le_of_ble_eq_true rfl⟩) hP hD hS hA rfl (fun _ => rfl) (fun u71 H locs hP hD hS => ?_)
            have hP : va_P D clG (zw dA za k9 tx u58 r57.2) H := hP
            have hD : va_D A (zw dA za k9 tx u58 r57.2) := hD
            refine lv_if_eq (tgt := 60) hx hb dX2_nearLine_51 (by decide) (fun c72 => ?_) (fun c72 => ?_)
            · rw [if_pos c72] at hM
              refine lv_aload_n hx hb dX2_nearLine_60 rfl (lv_at hl 2 rfl) ?_
              obtain ⟨h76, hM⟩ := gn_inv hM
              obtain ⟨h77, hM⟩ := gn_inv hM
              obtain ⟨r73, er73, hM⟩ := b_inv hM
              refine k_w (va_runV (As := []) (rest := []) ⟨hx, hb, hml, hown, hts⟩ (ctZ_step l D dA _ za u58 tx k9 ka kv r57.2 r73 er73 ) (cwV 0 hts (lw_V q521 q523 qs4 q114 q524) rfl rfl rfl (by decide +kernel) ⟨Nat.le_of_ble_eq_true rfl, Nat.le_of_ble_eq_true rfl⟩) (preX_V ZE_ok hP hK hD (ev_at ZE_ok hE hS (w_free hD hS hA)) hP (ci := 1) (q0 := 0) rfl rfl) rfl rfl hl.1 rfl (lv_room (Nat.le_of_ble_eq_true rfl)) dX2_nearLine_61 ⟨Nat.le_of_ble_eq_true rfl, Nat.le_of_ble_eq_true rfl⟩) hD hS hA (fun u74 H locs x75 hP hD hS => ?_)
              have hl : lv_has ls 3 [(2, .ref (u74.2.2.2.1 r57.1)), (1, .ref (u74.2.2.2.1 r50.1)), (0, .ref (za 0))] := by simp only [x75.2.1 r57.1 h76, x75.2.1 r50.1 h77]; exact hl
              refine W.widen (k := 6) (n := 36) (Nat.le_of_ble_eq_true rfl) (Nat.le_of_ble_eq_true rfl) ?_
              refine W.eq (g2 := F0 m 64 ls []) (by first | rfl | (rfl; rfl) | (rfl) | (simp only [*]; rfl) | simp only [*]) ?_
              refine lv_aload_n hx hb dX2_nearLine_64 rfl (lv_at hl 1 rfl) ?_
              refine lv_dup hx hb dX2_nearLine_65 rfl ?_
              obtain ⟨h78, hM⟩ := gn_inv hM
              obtain ⟨h79, hM⟩ := gn_inv hM
              refine pp_getf hx hb hts hown hK hP zX_len h78 h79 4 (by decide) (hts _ q761) (fun _ h9 => h9) (v := .int (r73.2.2.2.2.2.2.2.2.2.2.2.2.2.2.2.2.2.2.2.2.2.2.2.2.2.1 r50.1)) rfl dX2_nearLine_66 ?_
              refine lv_iconst (v := (1 : Int32)) hx hb dX2_nearLine_69 (by decide) ?_
              refine lv_aload_n hx hb dX2_nearLine_70 rfl (lv_at hl 0 rfl) ?_
              obtain ⟨h80, hM⟩ := gn_inv hM
              obtain ⟨h81, hM⟩ := gn_inv hM
              refine pp_getf hx hb hts hown hK hP zX_len h80 h81 1 (by decide) (hts _ q751) (fun _ h9 => h9) (v := .int (r73.2.2.2.2.2.2.2.2.2.2.2.2.2.2.2.2.2.2.2.2.2.2.1 r57.1)) rfl dX2_nearLine_71 ?_
              refine lv_ishl hx hb dX2_nearLine_74 ?_
              refine lv_ior hx hb dX2_nearLine_75 ?_
              obtain ⟨v3_, hv3_⟩ : ∃ v_ : Int32, v_ = ((r73.2.2.2.2.2.2.2.2.2.2.2.2.2.2.2.2.2.2.2.2.2.2.2.2.2.1 r50.1) ||| ((1 : Int32) <<< ((r73.2.2.2.2.2.2.2.2.2.2.2.2.2.2.2.2.2.2.2.2.2.2.1 r57.1) &&& 31))) := ⟨_, rfl⟩
              rw [← hv3_]
              try rw [← hv3_] at hM
              obtain ⟨h82, hM⟩ := gn_inv hM
              obtain ⟨h83, hM⟩ := gn_inv hM
              refine zz_put4 hx hb hts hown hK hP hD hS h82 h83 v3_ (hts _ q761) dX2_nearLine_76 (fun H locs hP hD hS => ?_)
              have hP : va_P D clG (zw dA za k9 tx u74 (r73.1, r73.2.1, r73.2.2.1, r73.2.2.2.1, r73.2.2.2.2.1, r73.2.2.2.2.2.1, r73.2.2.2.2.2.2.1, r73.2.2.2.2.2.2.2.1, r73.2.2.2.2.2.2.2.2.1, r73.2.2.2.2.2.2.2.2.2.1, r73.2.2.2.2.2.2.2.2.2.2.1, r73.2.2.2.2.2.2.2.2.2.2.2.1, r73.2.2.2.2.2.2.2.2.2.2.2.2.1, r73.2.2.2.2.2.2.2.2.2.2.2.2.2.1, r73.2.2.2.2.2.2.2.2.2.2.2.2.2.2.1, r73.2.2.2.2.2.2.2.2.2.2.2.2.2.2.2.1, r73.2.2.2.2.2.2.2.2.2.2.2.2.2.2.2.2.1, r73.2.2.2.2.2.2.2.2.2.2.2.2.2.2.2.2.2.1, r73.2.2.2.2.2.2.2.2.2.2.2.2.2.2.2.2.2.2.1, r73.2.2.2.2.2.2.2.2.2.2.2.2.2.2.2.2.2.2.2.1, r73.2.2.2.2.2.2.2.2.2.2.2.2.2.2.2.2.2.2.2.2.1, r73.2.2.2.2.2.2.2.2.2.2.2.2.2.2.2.2.2.2.2.2.2.1, r73.2.2.2.2.2.2.2.2.2.2.2.2.2.2.2.2.2.2.2.2.2.2.1, r73.2.2.2.2.2.2.2.2.2.2.2.2.2.2.2.2.2.2.2.2.2.2.2.1, r73.2.2.2.2.2.2.2.2.2.2.2.2.2.2.2.2.2.2.2.2.2.2.2.2.1, (upd r73.2.2.2.2.2.2.2.2.2.2.2.2.2.2.2.2.2.2.2.2.2.2.2.2.2.1 r50.1 v3_), r73.2.2.2.2.2.2.2.2.2.2.2.2.2.2.2.2.2.2.2.2.2.2.2.2.2.2.1, r73.2.2.2.2.2.2.2.2.2.2.2.2.2.2.2.2.2.2.2.2.2.2.2.2.2.2.2.1, r73.2.2.2.2.2.2.2.2.2.2.2.2.2.2.2.2.2.2.2.2.2.2.2.2.2.2.2.2.1, r73.2.2.2.2.2.2.2.2.2.2.2.2.2.2.2.2.2.2.2.2.2.2.2.2.2.2.2.2.2.1, r73.2.2.2.2.2.2.2.2.2.2.2.2.2.2.2.2.2.2.2.2.2.2.2.2.2.2.2.2.2.2.1, r73.2.2.2.2.2.2.2.2.2.2.2.2.2.2.2.2.2.2.2.2.2.2.2.2.2.2.2.2.2.2.2)) H := hP
              have hD : va_D A (zw dA za k9 tx u74 (r73.1, r73.2.1, r73.2.2.1, r73.2.2.2.1, r73.2.2.2.2.1, r73.2.2.2.2.2.1, r73.2.2.2.2.2.2.1, r73.2.2.2.2.2.2.2.1, r73.2.2.2.2.2.2.2.2.1, r73.2.2.2.2.2.2.2.2.2.1, r73.2.2.2.2.2.2.2.2.2.2.1, r73.2.2.2.2.2.2.2.2.2.2.2.1, r73.2.2.2.2.2.2.2.2.2.2.2.2.1, r73.2.2.2.2.2.2.2.2.2.2.2.2.2.1, r73.2.2.2.2.2.2.2.2.2.2.2.2.2.2.1, r73.2.2.2.2.2.2.2.2.2.2.2.2.2.2.2.1, r73.2.2.2.2.2.2.2.2.2.2.2.2.2.2.2.2.1, r73.2.2.2.2.2.2.2.2.2.2.2.2.2.2.2.2.2.1, r73.2.2.2.2.2.2.2.2.2.2.2.2.2.2.2.2.2.2.1, r73.2.2.2.2.2.2.2.2.2.2.2.2.2.2.2.2.2.2.2.1, r73.2.2.2.2.2.2.2.2.2.2.2.2.2.2.2.2.2.2.2.2.1, r73.2.2.2.2.2.2.2.2.2.2.2.2.2.2.2.2.2.2.2.2.2.1, r73.2.2.2.2.2.2.2.2.2.2.2.2.2.2.2.2.2.2.2.2.2.2.1, r73.2.2.2.2.2.2.2.2.2.2.2.2.2.2.2.2.2.2.2.2.2.2.2.1, r73.2.2.2.2.2.2.2.2.2.2.2.2.2.2.2.2.2.2.2.2.2.2.2.2.1, (upd r73.2.2.2.2.2.2.2.2.2.2.2.2.2.2.2.2.2.2.2.2.2.2.2.2.2.1 r50.1 v3_), r73.2.2.2.2.2.2.2.2.2.2.2.2.2.2.2.2.2.2.2.2.2.2.2.2.2.2.1, r73.2.2.2.2.2.2.2.2.2.2.2.2.2.2.2.2.2.2.2.2.2.2.2.2.2.2.2.1, r73.2.2.2.2.2.2.2.2.2.2.2.2.2.2.2.2.2.2.2.2.2.2.2.2.2.2.2.2.1, r73.2.2.2.2.2.2.2.2.2.2.2.2.2.2.2.2.2.2.2.2.2.2.2.2.2.2.2.2.2.1, r73.2.2.2.2.2.2.2.2.2.2.2.2.2.2.2.2.2.2.2.2.2.2.2.2.2.2.2.2.2.2.1, r73.2.2.2.2.2.2.2.2.2.2.2.2.2.2.2.2.2.2.2.2.2.2.2.2.2.2.2.2.2.2.2)) := hD
              refine lv_aload_n hx hb dX2_nearLine_79 rfl (lv_at hl 0 rfl) ?_
              refine lv_dup hx hb dX2_nearLine_80 rfl ?_
              obtain ⟨h84, hM⟩ := gn_inv hM
              obtain ⟨h85, hM⟩ := gn_inv hM
              refine pp_getf hx hb hts hown hK hP zX_len h84 h85 4 (by decide) (hts _ q761) (fun _ h9 => h9) (v := .int ((upd r73.2.2.2.2.2.2.2.2.2.2.2.2.2.2.2.2.2.2.2.2.2.2.2.2.2.1 r50.1 v3_) r57.1)) rfl dX2_nearLine_81 ?_
              refine lv_iconst (v := (1 : Int32)) hx hb dX2_nearLine_84 (by decide) ?_
              refine lv_aload_n hx hb dX2_nearLine_85 rfl (lv_at hl 1 rfl) ?_
              obtain ⟨h86, hM⟩ := gn_inv hM
              obtain ⟨h87, hM⟩ := gn_inv hM
              refine pp_getf hx hb hts hown hK hP zX_len h86 h87 1 (by decide) (hts _ q751) (fun _ h9 => h9) (v := .int (r73.2.2.2.2.2.2.2.2.2.2.2.2.2.2.2.2.2.2.2.2.2.2.1 r50.1)) rfl dX2_nearLine_86 ?_
              refine lv_ishl hx hb dX2_nearLine_89 ?_
              refine lv_ior hx hb dX2_nearLine_90 ?_
              obtain ⟨v4_, hv4_⟩ : ∃ v_ : Int32, v_ = (((upd r73.2.2.2.2.2.2.2.2.2.2.2.2.2.2.2.2.2.2.2.2.2.2.2.2.2.1 r50.1 v3_) r57.1) ||| ((1 : Int32) <<< ((r73.2.2.2.2.2.2.2.2.2.2.2.2.2.2.2.2.2.2.2.2.2.2.1 r50.1) &&& 31))) := ⟨_, rfl⟩
              rw [← hv4_]
              try rw [← hv4_] at hM
              obtain ⟨h88, hM⟩ := gn_inv hM
              obtain ⟨h89, hM⟩ := gn_inv hM
              refine zz_put4 hx hb hts hown hK hP hD hS h88 h89 v4_ (hts _ q761) dX2_nearLine_91 (fun H locs hP hD hS => ?_)
              have hP : va_P D clG (zw dA za k9 tx u74 (r73.1, r73.2.1, r73.2.2.1, r73.2.2.2.1, r73.2.2.2.2.1, r73.2.2.2.2.2.1, r73.2.2.2.2.2.2.1, r73.2.2.2.2.2.2.2.1, r73.2.2.2.2.2.2.2.2.1, r73.2.2.2.2.2.2.2.2.2.1, r73.2.2.2.2.2.2.2.2.2.2.1, r73.2.2.2.2.2.2.2.2.2.2.2.1, r73.2.2.2.2.2.2.2.2.2.2.2.2.1, r73.2.2.2.2.2.2.2.2.2.2.2.2.2.1, r73.2.2.2.2.2.2.2.2.2.2.2.2.2.2.1, r73.2.2.2.2.2.2.2.2.2.2.2.2.2.2.2.1, r73.2.2.2.2.2.2.2.2.2.2.2.2.2.2.2.2.1, r73.2.2.2.2.2.2.2.2.2.2.2.2.2.2.2.2.2.1, r73.2.2.2.2.2.2.2.2.2.2.2.2.2.2.2.2.2.2.1, r73.2.2.2.2.2.2.2.2.2.2.2.2.2.2.2.2.2.2.2.1, r73.2.2.2.2.2.2.2.2.2.2.2.2.2.2.2.2.2.2.2.2.1, r73.2.2.2.2.2.2.2.2.2.2.2.2.2.2.2.2.2.2.2.2.2.1, r73.2.2.2.2.2.2.2.2.2.2.2.2.2.2.2.2.2.2.2.2.2.2.1, r73.2.2.2.2.2.2.2.2.2.2.2.2.2.2.2.2.2.2.2.2.2.2.2.1, r73.2.2.2.2.2.2.2.2.2.2.2.2.2.2.2.2.2.2.2.2.2.2.2.2.1, (upd (upd r73.2.2.2.2.2.2.2.2.2.2.2.2.2.2.2.2.2.2.2.2.2.2.2.2.2.1 r50.1 v3_) r57.1 v4_), r73.2.2.2.2.2.2.2.2.2.2.2.2.2.2.2.2.2.2.2.2.2.2.2.2.2.2.1, r73.2.2.2.2.2.2.2.2.2.2.2.2.2.2.2.2.2.2.2.2.2.2.2.2.2.2.2.1, r73.2.2.2.2.2.2.2.2.2.2.2.2.2.2.2.2.2.2.2.2.2.2.2.2.2.2.2.2.1, r73.2.2.2.2.2.2.2.2.2.2.2.2.2.2.2.2.2.2.2.2.2.2.2.2.2.2.2.2.2.1, r73.2.2.2.2.2.2.2.2.2.2.2.2.2.2.2.2.2.2.2.2.2.2.2.2.2.2.2.2.2.2.1, r73.2.2.2.2.2.2.2.2.2.2.2.2.2.2.2.2.2.2.2.2.2.2.2.2.2.2.2.2.2.2.2)) H := hP
              have hD : va_D A (zw dA za k9 tx u74 (r73.1, r73.2.1, r73.2.2.1, r73.2.2.2.1, r73.2.2.2.2.1, r73.2.2.2.2.2.1, r73.2.2.2.2.2.2.1, r73.2.2.2.2.2.2.2.1, r73.2.2.2.2.2.2.2.2.1, r73.2.2.2.2.2.2.2.2.2.1, r73.2.2.2.2.2.2.2.2.2.2.1, r73.2.2.2.2.2.2.2.2.2.2.2.1, r73.2.2.2.2.2.2.2.2.2.2.2.2.1, r73.2.2.2.2.2.2.2.2.2.2.2.2.2.1, r73.2.2.2.2.2.2.2.2.2.2.2.2.2.2.1, r73.2.2.2.2.2.2.2.2.2.2.2.2.2.2.2.1, r73.2.2.2.2.2.2.2.2.2.2.2.2.2.2.2.2.1, r73.2.2.2.2.2.2.2.2.2.2.2.2.2.2.2.2.2.1, r73.2.2.2.2.2.2.2.2.2.2.2.2.2.2.2.2.2.2.1, r73.2.2.2.2.2.2.2.2.2.2.2.2.2.2.2.2.2.2.2.1, r73.2.2.2.2.2.2.2.2.2.2.2.2.2.2.2.2.2.2.2.2.1, r73.2.2.2.2.2.2.2.2.2.2.2.2.2.2.2.2.2.2.2.2.2.1, r73.2.2.2.2.2.2.2.2.2.2.2.2.2.2.2.2.2.2.2.2.2.2.1, r73.2.2.2.2.2.2.2.2.2.2.2.2.2.2.2.2.2.2.2.2.2.2.2.1, r73.2.2.2.2.2.2.2.2.2.2.2.2.2.2.2.2.2.2.2.2.2.2.2.2.1, (upd (upd r73.2.2.2.2.2.2.2.2.2.2.2.2.2.2.2.2.2.2.2.2.2.2.2.2.2.1 r50.1 v3_) r57.1 v4_), r73.2.2.2.2.2.2.2.2.2.2.2.2.2.2.2.2.2.2.2.2.2.2.2.2.2.2.1, r73.2.2.2.2.2.2.2.2.2.2.2.2.2.2.2.2.2.2.2.2.2.2.2.2.2.2.2.1, r73.2.2.2.2.2.2.2.2.2.2.2.2.2.2.2.2.2.2.2.2.2.2.2.2.2.2.2.2.1, r73.2.2.2.2.2.2.2.2.2.2.2.2.2.2.2.2.2.2.2.2.2.2.2.2.2.2.2.2.2.1, r73.2.2.2.2.2.2.2.2.2.2.2.2.2.2.2.2.2.2.2.2.2.2.2.2.2.2.2.2.2.2.1, r73.2.2.2.2.2.2.2.2.2.2.2.2.2.2.2.2.2.2.2.2.2.2.2.2.2.2.2.2.2.2.2)) := hD
              refine lv_aload_n hx hb dX2_nearLine_94 rfl (lv_at hl 2 rfl) ?_
              refine va_get (D := D) (ci := 1) (v := .ref (za 4)) (C := RX2) (T := TX2) (N := 11) hx hb hts in_X2 hown hK.1 hP 0 rfl rfl 9 (by decide) (hts _ q235) (fun _ h9 => h9) rfl dX2_nearLine_95 ?_
              refine lv_dup hx hb dX2_nearLine_98 rfl ?_
              refine va_get (D := D) (ci := 6) (v := .int r73.2.2.2.2.2.2.2.2.2.2.1) (C := RX8) (T := TX8) (N := 13) hx hb hts in_X8 hown hK.1 hP 4 rfl rfl 9 (by decide) (hts _ q486) (fun _ h9 => h9) rfl dX2_nearLine_99 ?_
              refine lv_iconst (v := (1 : Int32)) hx hb dX2_nearLine_102 (by decide) ?_
              refine lv_iadd hx hb dX2_nearLine_103 ?_
              obtain ⟨v5_, hv5_⟩ : ∃ v_ : Int32, v_ = (r73.2.2.2.2.2.2.2.2.2.2.1 + (1 : Int32)) := ⟨_, rfl⟩
              rw [← hv5_]
              try rw [← hv5_] at hM
              refine va_put (D := D) (ci := 6) (v := .int v5_) (ty := .int) (C := RX8) (T := TX8) (N := 13) hx hb hts in_X8 tyX8 tyX8_ok nmX8 hown hK.1 hP hD hS 4 rfl rfl 9 (by decide) (hts _ q486) (fun _ h9 => h9) rfl (by decide +kernel) rfl rfl (Nat.le_of_ble_eq_true rfl) dX2_nearLine_104 (fun H locs hP hD hS => ?_)
              have hP : va_P D clG (zw dA za k9 tx u74 (r73.1, r73.2.1, r73.2.2.1, r73.2.2.2.1, r73.2.2.2.2.1, r73.2.2.2.2.2.1, r73.2.2.2.2.2.2.1, r73.2.2.2.2.2.2.2.1, r73.2.2.2.2.2.2.2.2.1, r73.2.2.2.2.2.2.2.2.2.1, v5_, r73.2.2.2.2.2.2.2.2.2.2.2.1, r73.2.2.2.2.2.2.2.2.2.2.2.2.1, r73.2.2.2.2.2.2.2.2.2.2.2.2.2.1, r73.2.2.2.2.2.2.2.2.2.2.2.2.2.2.1, r73.2.2.2.2.2.2.2.2.2.2.2.2.2.2.2.1, r73.2.2.2.2.2.2.2.2.2.2.2.2.2.2.2.2.1, r73.2.2.2.2.2.2.2.2.2.2.2.2.2.2.2.2.2.1, r73.2.2.2.2.2.2.2.2.2.2.2.2.2.2.2.2.2.2.1, r73.2.2.2.2.2.2.2.2.2.2.2.2.2.2.2.2.2.2.2.1, r73.2.2.2.2.2.2.2.2.2.2.2.2.2.2.2.2.2.2.2.2.1, r73.2.2.2.2.2.2.2.2.2.2.2.2.2.2.2.2.2.2.2.2.2.1, r73.2.2.2.2.2.2.2.2.2.2.2.2.2.2.2.2.2.2.2.2.2.2.1, r73.2.2.2.2.2.2.2.2.2.2.2.2.2.2.2.2.2.2.2.2.2.2.2.1, r73.2.2.2.2.2.2.2.2.2.2.2.2.2.2.2.2.2.2.2.2.2.2.2.2.1, (upd (upd r73.2.2.2.2.2.2.2.2.2.2.2.2.2.2.2.2.2.2.2.2.2.2.2.2.2.1 r50.1 v3_) r57.1 v4_), r73.2.2.2.2.2.2.2.2.2.2.2.2.2.2.2.2.2.2.2.2.2.2.2.2.2.2.1, r73.2.2.2.2.2.2.2.2.2.2.2.2.2.2.2.2.2.2.2.2.2.2.2.2.2.2.2.1, r73.2.2.2.2.2.2.2.2.2.2.2.2.2.2.2.2.2.2.2.2.2.2.2.2.2.2.2.2.1, r73.2.2.2.2.2.2.2.2.2.2.2.2.2.2.2.2.2.2.2.2.2.2.2.2.2.2.2.2.2.1, r73.2.2.2.2.2.2.2.2.2.2.2.2.2.2.2.2.2.2.2.2.2.2.2.2.2.2.2.2.2.2.1, r73.2.2.2.2.2.2.2.2.2.2.2.2.2.2.2.2.2.2.2.2.2.2.2.2.2.2.2.2.2.2.2)) H := zP_set hP (Nat.le_of_ble_eq_true rfl) rfl rfl
              have hD : va_D A (zw dA za k9 tx u74 (r73.1, r73.2.1, r73.2.2.1, r73.2.2.2.1, r73.2.2.2.2.1, r73.2.2.2.2.2.1, r73.2.2.2.2.2.2.1, r73.2.2.2.2.2.2.2.1, r73.2.2.2.2.2.2.2.2.1, r73.2.2.2.2.2.2.2.2.2.1, v5_, r73.2.2.2.2.2.2.2.2.2.2.2.1, r73.2.2.2.2.2.2.2.2.2.2.2.2.1, r73.2.2.2.2.2.2.2.2.2.2.2.2.2.1, r73.2.2.2.2.2.2.2.2.2.2.2.2.2.2.1, r73.2.2.2.2.2.2.2.2.2.2.2.2.2.2.2.1, r73.2.2.2.2.2.2.2.2.2.2.2.2.2.2.2.2.1, r73.2.2.2.2.2.2.2.2.2.2.2.2.2.2.2.2.2.1, r73.2.2.2.2.2.2.2.2.2.2.2.2.2.2.2.2.2.2.1, r73.2.2.2.2.2.2.2.2.2.2.2.2.2.2.2.2.2.2.2.1, r73.2.2.2.2.2.2.2.2.2.2.2.2.2.2.2.2.2.2.2.2.1, r73.2.2.2.2.2.2.2.2.2.2.2.2.2.2.2.2.2.2.2.2.2.1, r73.2.2.2.2.2.2.2.2.2.2.2.2.2.2.2.2.2.2.2.2.2.2.1, r73.2.2.2.2.2.2.2.2.2.2.2.2.2.2.2.2.2.2.2.2.2.2.2.1, r73.2.2.2.2.2.2.2.2.2.2.2.2.2.2.2.2.2.2.2.2.2.2.2.2.1, (upd (upd r73.2.2.2.2.2.2.2.2.2.2.2.2.2.2.2.2.2.2.2.2.2.2.2.2.2.1 r50.1 v3_) r57.1 v4_), r73.2.2.2.2.2.2.2.2.2.2.2.2.2.2.2.2.2.2.2.2.2.2.2.2.2.2.1, r73.2.2.2.2.2.2.2.2.2.2.2.2.2.2.2.2.2.2.2.2.2.2.2.2.2.2.2.1, r73.2.2.2.2.2.2.2.2.2.2.2.2.2.2.2.2.2.2.2.2.2.2.2.2.2.2.2.2.1, r73.2.2.2.2.2.2.2.2.2.2.2.2.2.2.2.2.2.2.2.2.2.2.2.2.2.2.2.2.2.1, r73.2.2.2.2.2.2.2.2.2.2.2.2.2.2.2.2.2.2.2.2.2.2.2.2.2.2.2.2.2.2.1, r73.2.2.2.2.2.2.2.2.2.2.2.2.2.2.2.2.2.2.2.2.2.2.2.2.2.2.2.2.2.2.2)) := zD_set hD (Nat.le_of_ble_eq_true rfl) rfl rfl
              cases hM
            · rw [if_neg c72] at hM
              refine lv_aload_n hx hb dX2_nearLine_54 rfl (lv_at hl 2 rfl) ?_
              refine lv_iconst (v := (3 : Int32)) hx hb dX2_nearLine_55 (by decide) ?_
              have er90 : MX2_fail (3 : Int32) r57.2.2.2.1 = some ((3 : Int32), r57.2.2.2.1) := rfl
              refine k_r0 [0, 1] (va_runV (As := [.int (3 : Int32)]) (rest := []) ⟨hx, hb, hml, hown, hts⟩ (ctX2_fail l D dA _ (za 0) (za 1) (3 : Int32) k9.1 r57.2.1 r57.2.2.1 r57.2.2.2.1 r57.2.2.2.2.1 0 k9.2.1 k9.2.2 (.ref (za 2)) (.ref (za 3)) (zwv u58 r57.2.2.2.2.2.1) (.ref (za 4)) (zav u58 r57.2.2.2.2.2.2.1) .null .null .null .null .null _ er90) (cwV 1 hts (lw_V q619 q621 qs7 q114 q622) rfl rfl rfl (by decide +kernel) ⟨Nat.le_of_ble_eq_true rfl, Nat.le_of_ble_eq_true rfl⟩) (pre_V (hP.sub [0, 1] rfl) hK (hD.sub [0, 1] (by decide) rfl) (ci := 1) (q0 := 0) rfl rfl) rfl rfl hl.1 rfl (lv_room (Nat.le_of_ble_eq_true rfl)) dX2_nearLine_56 ⟨Nat.le_of_ble_eq_true rfl, Nat.le_of_ble_eq_true rfl⟩) hP hD hS hA rfl (fun _ => rfl) (fun u91 H locs hP hD hS => ?_)
              have hP : va_P D clG (zw dA za (k9.1, (3 : Int32), r57.2.2.2.1) tx u58 r57.2) H := hP
              have hD : va_D A (zw dA za (k9.1, (3 : Int32), r57.2.2.2.1) tx u58 r57.2) := hD
              have hM := Sum.inl.inj (Option.some.inj hM)
              subst hM
              exact z_throw hx hb dX2_nearLine_59 hK hP hD hS hout hlocks rfl (Nat.le_of_ble_eq_true rfl) (Nat.le_of_ble_eq_true rfl)
set_option maxHeartbeats 40000000 in
theorem ctZ_askedLine (l : Launch) (D : va_G) (dA : Nat → ClassId) (sz : Nat) (za : Nat → Nat) (h : ZH) (tx : AI) (k9 : Int32 × Int32 × Int32) (ka kv : Nat → Nat) (s : ZS) (r : ZS) (hM : MZ_askedLine tx k9.1 s = some (.inr r)) : Met l yX2_askedLine (ws_ yX2_askedLine cX2_askedLine 2 none) ({ frames := 9, cells := 10, slots := 60, locals := 371 }) (preX D dA (ZE ka kv) [.ref (za 0)] (zw dA za k9 tx h s) sz) (qz_ D (fun (u : ZH) => none) (fun u => zext h u s r) (fun u => zw dA za k9 tx u r) (va_A (zw dA za k9 tx h s) sz)) 10 60 (va_A (zw dA za k9 tx h s) sz) := by
  refine Met.ofW (cc := cX2_askedLine) (maxL := 2) (ret := none) (by decide) rfl ?_
  intro p e s0 m args below meth c s₁ B hml hv
  obtain ⟨rfl, hsz, hP, hK, hD0, hE⟩ := hv
  have hx := B.exec
  have hb := B.bytes
  have hr := B.returns
  have hts := atoms_spec (ws := (ws_ yX2_askedLine cX2_askedLine 2 none)) B.pre
  have hts : ∀ w ∈ lw_all, w.before _ s0 = true := fun w h => hts w (List.mem_cons_of_mem _ h)
  have hown : s0.vm.findClass RX2 = some m.cls := findClass_of_methodNamed B.named
  have hlocks := B.notSynchronized
  subst hsz
  have hD := hD0.self (sz := s0.heap.size)
  generalize hAe : va_A (zw dA za k9 tx h s) s0.heap.size = A at hD hE ⊢
  have hA : ∀ q : Nat, s0.heap.size ≤ q → A q := fun q h => by rw [← hAe]; exact Or.inr h
  have hS : va_S A s0.heap s0.heap [] := va_S.rf
  have hl := lv_entry ([.ref (za 0)]) (n := 2) (Nat.le_of_ble_eq_true rfl)
  rw [lg_entry_eq]
  generalize (lg_sl ([.ref (za 0)]) ++ List.replicate (2 - (lg_sl ([.ref (za 0)])).length) Slot.unset).toArray = ls at hl ⊢
  have hl : lv_has ls 2 [(0, .ref (za 0))] := hl
  unfold MZ_askedLine at hM
  refine lv_aload_n hx hb dX2_askedLine_0 rfl (lv_at hl 0 rfl) ?_
  refine lv_aload_n hx hb dX2_askedLine_1 rfl (lv_at hl 0 rfl) ?_
  refine va_get (D := D) (ci := 1) (v := .ref (za 4)) (C := RX2) (T := TX2) (N := 11) hx hb hts in_X2 hown hK.1 hP 0 rfl rfl 9 (by decide) (hts _ q235) (fun _ h9 => h9) rfl dX2_askedLine_2 ?_
  refine va_get (D := D) (ci := 6) (v := .int s.2.2.2.2.2.2.2.2.2.2.2.1) (C := RX8) (T := TX8) (N := 13) hx hb hts in_X8 hown hK.1 hP 4 rfl rfl 10 (by decide) (hts _ q488) (fun _ h9 => h9) rfl dX2_askedLine_5 ?_
  refine lv_bipush (v := (12 : Int32)) hx hb dX2_askedLine_8 (by decide) ?_
  refine lv_icmp_ge (tgt := 17) hx hb dX2_askedLine_10 (by decide) (fun c1 => ?_) (fun c1 => ?_)
  · rw [if_pos c1] at hM
    refine lv_iconst (v := (0 : Int32)) hx hb dX2_askedLine_17 (by decide) ?_
    obtain ⟨r2_, er2, hM⟩ := b_inv hM
    cases r2_ with
    | inl e9 =>
      dsimp only at hM
      cases hM
    | inr r2 =>
      dsimp only at hM
      refine k_w (va_runV (As := [.int (0 : Int32)]) (rest := []) ⟨hx, hb, hml, hown, hts⟩ (ctZ_begins l D dA _ za h tx k9 ka kv s false r2 er2 ) (cwV 1 hts (lw_V q716 q718 qs13 q114 q719) rfl rfl rfl (by decide +kernel) ⟨Nat.le_of_ble_eq_true rfl, Nat.le_of_ble_eq_true rfl⟩) (preX_V ZE_ok hP hK hD (ev_at ZE_ok hE hS (w_free hD hS hA)) hP (ci := 1) (q0 := 0) rfl rfl) rfl rfl hl.1 rfl (lv_room (Nat.le_of_ble_eq_true rfl)) dX2_askedLine_18 ⟨Nat.le_of_ble_eq_true rfl, Nat.le_of_ble_eq_true rfl⟩) hD hS hA (fun u3 H locs x4 hP hD hS => ?_)
      refine W.widen (k := 2) (n := 12) (Nat.le_of_ble_eq_true rfl) (Nat.le_of_ble_eq_true rfl) ?_
      refine W.eq (g2 := F0 m 21 ls []) (by first | rfl | (rfl; rfl) | (rfl) | (simp only [*]; rfl) | simp only [*]) ?_
      refine lv_aload_n hx hb dX2_askedLine_21 rfl (lv_at hl 0 rfl) ?_
      obtain ⟨r5_, er5, hM⟩ := b_inv hM
      cases r5_ with
      | inl e9 =>
        dsimp only at hM
        cases hM
      | inr r5 =>
        dsimp only at hM
        refine k_w (va_runV (As := []) (rest := []) ⟨hx, hb, hml, hown, hts⟩ (ctZ_asking l D dA _ za u3 tx k9 ka kv r2 r5 er5 ) (cwV 0 hts (lw_V q844 q846 qs20 q114 q847) rfl rfl rfl (by decide +kernel) ⟨Nat.le_of_ble_eq_true rfl, Nat.le_of_ble_eq_true rfl⟩) (preX_V ZE_ok hP hK hD (ev_at ZE_ok hE hS (w_free hD hS hA)) hP (ci := 1) (q0 := 0) rfl rfl) rfl rfl hl.1 rfl (lv_room (Nat.le_of_ble_eq_true rfl)) dX2_askedLine_22 ⟨Nat.le_of_ble_eq_true rfl, Nat.le_of_ble_eq_true rfl⟩) hD hS hA (fun u6 H locs x7 hP hD hS => ?_)
        refine W.widen (k := 6) (n := 36) (Nat.le_of_ble_eq_true rfl) (Nat.le_of_ble_eq_true rfl) ?_
        refine W.eq (g2 := F0 m 25 ls [.ref (u6.2.2.2.1 r5.1)]) (by first | rfl | (rfl; rfl) | (rfl) | (simp only [*]; rfl) | simp only [*]) ?_
        refine lv_astore_n (lv' := [(1, .ref (u6.2.2.2.1 r5.1)), (0, .ref (za 0))]) hx hb dX2_askedLine_25 rfl hl (by decide) rfl (fun ls hl => ?_)
        refine lv_aload_n hx hb dX2_askedLine_26 rfl (lv_at hl 1 rfl) ?_
        refine lv_aload_n hx hb dX2_askedLine_27 rfl (lv_at hl 0 rfl) ?_
        refine lv_aload_n hx hb dX2_askedLine_28 rfl (lv_at hl 1 rfl) ?_
        refine va_ldcS hx hb hown (hE.2.2.1 16 (Nat.zero_le _) (by decide)) dX2_askedLine_29 ?_
        refine lv_iconst (v := (0 : Int32)) hx hb dX2_askedLine_31 (by decide) ?_
        refine lv_aload_n hx hb dX2_askedLine_32 rfl (lv_at hl 1 rfl) ?_
        refine va_get (D := D) (ci := 1) (v := .ref (za 4)) (C := RX2) (T := TX2) (N := 11) hx hb hts in_X2 hown hK.1 hP 0 rfl rfl 9 (by decide) (hts _ q235) (fun _ h9 => h9) rfl dX2_askedLine_33 ?_
        refine va_get (D := D) (ci := 6) (v := .int r5.2.2.2.2.2.2.2.2.1) (C := RX8) (T := TX8) (N := 13) hx hb hts in_X8 hown hK.1 hP 4 rfl rfl 6 (by decide) (hts _ q476) (fun _ h9 => h9) rfl dX2_askedLine_36 ?_
        obtain ⟨h11, hM⟩ := gn_inv hM
        obtain ⟨r8_, er8, hM⟩ := b_inv hM
        cases r8_ with
        | inl e9 =>
          dsimp only at hM
          cases hM
        | inr r8 =>
          dsimp only at hM
          refine k_w (va_runV (As := [.ref (ka 16), .int (0 : Int32), .int r5.2.2.2.2.2.2.2.2.1]) (rest := [.ref (u6.2.2.2.1 r5.1), .ref (za 0)]) ⟨hx, hb, hml, hown, hts⟩ (ctZ_after l D dA _ za u6 tx k9 ka kv r5.2 16 (0 : Int32) r5.2.2.2.2.2.2.2.2.1 r8 er8 (by decide)) (cwV 3 hts (lw_V q699 q701 qs9 q114 q702) rfl rfl rfl (by decide +kernel) ⟨Nat.le_of_ble_eq_true rfl, Nat.le_of_ble_eq_true rfl⟩) (preX_V ZE_ok hP hK hD (ev_at ZE_ok hE hS (w_free hD hS hA)) hP (ci := 1) (q0 := 0) rfl rfl) rfl rfl hl.1 rfl (lv_room (Nat.le_of_ble_eq_true rfl)) dX2_askedLine_39 ⟨Nat.le_of_ble_eq_true rfl, Nat.le_of_ble_eq_true rfl⟩) hD hS hA (fun u9 H locs x10 hP hD hS => ?_)
          have hl : lv_has ls 2 [(1, .ref (u9.2.2.2.1 r5.1)), (0, .ref (za 0))] := by simp only [x10.2.1 r5.1 h11]; exact hl
          refine W.widen (k := 10) (n := 60) (Nat.le_of_ble_eq_true rfl) (Nat.le_of_ble_eq_true rfl) ?_
          refine W.eq (g2 := F0 m 42 ls [.int r8.1, .ref (u9.2.2.2.1 r5.1), .ref (za 0)]) (by first | rfl | (simp only [x10.2.1 r5.1 h11]; rfl) | (simp only [x10.2.1 r5.1 h11]) | (simp only [*]; rfl) | simp only [*]) ?_
          obtain ⟨h15, hM⟩ := gn_inv hM
          obtain ⟨r12, er12, hM⟩ := b_inv hM
          refine k_w (va_runV (As := [.ref (u9.2.2.2.1 r5.1), .int r8.1]) (rest := []) ⟨hx, hb, hml, hown, hts⟩ (ctZ_lay l D dA _ za u9 tx k9 ka kv r8.2 r5.1 r8.1 r12 er12 ) (cwV 2 hts (lw_V q877 q879 qs21 q114 q880) rfl rfl rfl (by decide +kernel) ⟨Nat.le_of_ble_eq_true rfl, Nat.le_of_ble_eq_true rfl⟩) (preX_V ZE_ok hP hK hD (ev_at ZE_ok hE hS (w_free hD hS hA)) hP (ci := 1) (q0 := 0) rfl rfl) rfl rfl hl.1 rfl (lv_room (Nat.le_of_ble_eq_true rfl)) dX2_askedLine_42 ⟨Nat.le_of_ble_eq_true rfl, Nat.le_of_ble_eq_true rfl⟩) hD hS hA (fun u13 H locs x14 hP hD hS => ?_)
          have hl : lv_has ls 2 [(1, .ref (u13.2.2.2.1 r5.1)), (0, .ref (za 0))] := by simp only [x14.2.1 r5.1 h15]; exact hl
          refine W.eq (g2 := F0 m 45 ls []) (by first | rfl | (rfl; rfl) | (rfl) | (simp only [*]; rfl) | simp only [*]) ?_
          refine lv_aload_n hx hb dX2_askedLine_45 rfl (lv_at hl 1 rfl) ?_
          refine va_get (D := D) (ci := 1) (v := .ref (za 4)) (C := RX2) (T := TX2) (N := 11) hx hb hts in_X2 hown hK.1 hP 0 rfl rfl 9 (by decide) (hts _ q235) (fun _ h9 => h9) rfl dX2_askedLine_46 ?_
          refine lv_dup hx hb dX2_askedLine_49 rfl ?_
          refine va_get (D := D) (ci := 6) (v := .int r12.2.2.2.2.2.2.2.2.2.2.2.1) (C := RX8) (T := TX8) (N := 13) hx hb hts in_X8 hown hK.1 hP 4 rfl rfl 10 (by decide) (hts _ q488) (fun _ h9 => h9) rfl dX2_askedLine_50 ?_
          refine lv_iconst (v := (1 : Int32)) hx hb dX2_askedLine_53 (by decide) ?_
          refine lv_iadd hx hb dX2_askedLine_54 ?_
          obtain ⟨v0_, hv0_⟩ : ∃ v_ : Int32, v_ = (r12.2.2.2.2.2.2.2.2.2.2.2.1 + (1 : Int32)) := ⟨_, rfl⟩
          rw [← hv0_]
          try rw [← hv0_] at hM
          refine va_put (D := D) (ci := 6) (v := .int v0_) (ty := .int) (C := RX8) (T := TX8) (N := 13) hx hb hts in_X8 tyX8 tyX8_ok nmX8 hown hK.1 hP hD hS 4 rfl rfl 10 (by decide) (hts _ q488) (fun _ h9 => h9) rfl (by decide +kernel) rfl rfl (Nat.le_of_ble_eq_true rfl) dX2_askedLine_55 (fun H locs hP hD hS => ?_)
          have hP : va_P D clG (zw dA za k9 tx u13 (r12.1, r12.2.1, r12.2.2.1, r12.2.2.2.1, r12.2.2.2.2.1, r12.2.2.2.2.2.1, r12.2.2.2.2.2.2.1, r12.2.2.2.2.2.2.2.1, r12.2.2.2.2.2.2.2.2.1, r12.2.2.2.2.2.2.2.2.2.1, r12.2.2.2.2.2.2.2.2.2.2.1, v0_, r12.2.2.2.2.2.2.2.2.2.2.2.2.1, r12.2.2.2.2.2.2.2.2.2.2.2.2.2.1, r12.2.2.2.2.2.2.2.2.2.2.2.2.2.2.1, r12.2.2.2.2.2.2.2.2.2.2.2.2.2.2.2.1, r12.2.2.2.2.2.2.2.2.2.2.2.2.2.2.2.2.1, r12.2.2.2.2.2.2.2.2.2.2.2.2.2.2.2.2.2.1, r12.2.2.2.2.2.2.2.2.2.2.2.2.2.2.2.2.2.2.1, r12.2.2.2.2.2.2.2.2.2.2.2.2.2.2.2.2.2.2.2.1, r12.2.2.2.2.2.2.2.2.2.2.2.2.2.2.2.2.2.2.2.2.1, r12.2.2.2.2.2.2.2.2.2.2.2.2.2.2.2.2.2.2.2.2.2.1, r12.2.2.2.2.2.2.2.2.2.2.2.2.2.2.2.2.2.2.2.2.2.2.1, r12.2.2.2.2.2.2.2.2.2.2.2.2.2.2.2.2.2.2.2.2.2.2.2.1, r12.2.2.2.2.2.2.2.2.2.2.2.2.2.2.2.2.2.2.2.2.2.2.2.2.1, r12.2.2.2.2.2.2.2.2.2.2.2.2.2.2.2.2.2.2.2.2.2.2.2.2.2.1, r12.2.2.2.2.2.2.2.2.2.2.2.2.2.2.2.2.2.2.2.2.2.2.2.2.2.2.1, r12.2.2.2.2.2.2.2.2.2.2.2.2.2.2.2.2.2.2.2.2.2.2.2.2.2.2.2.1, r12.2.2.2.2.2.2.2.2.2.2.2.2.2.2.2.2.2.2.2.2.2.2.2.2.2.2.2.2.1, r12.2.2.2.2.2.2.2.2.2.2.2.2.2.2.2.2.2.2.2.2.2.2.2.2.2.2.2.2.2.1, r12.2.2.2.2.2.2.2.2.2.2.2.2.2.2.2.2.2.2.2.2.2.2.2.2.2.2.2.2.2.2.1, r12.2.2.2.2.2.2.2.2.2.2.2.2.2.2.2.2.2.2.2.2.2.2.2.2.2.2.2.2.2.2.2)) H := zP_set hP (Nat.le_of_ble_eq_true rfl) rfl rfl
          have hD : va_D A (zw dA za k9 tx u13 (r12.1, r12.2.1, r12.2.2.1, r12.2.2.2.1, r12.2.2.2.2.1, r12.2.2.2.2.2.1, r12.2.2.2.2.2.2.1, r12.2.2.2.2.2.2.2.1, r12.2.2.2.2.2.2.2.2.1, r12.2.2.2.2.2.2.2.2.2.1, r12.2.2.2.2.2.2.2.2.2.2.1, v0_, r12.2.2.2.2.2.2.2.2.2.2.2.2.1, r12.2.2.2.2.2.2.2.2.2.2.2.2.2.1, r12.2.2.2.2.2.2.2.2.2.2.2.2.2.2.1, r12.2.2.2.2.2.2.2.2.2.2.2.2.2.2.2.1, r12.2.2.2.2.2.2.2.2.2.2.2.2.2.2.2.2.1, r12.2.2.2.2.2.2.2.2.2.2.2.2.2.2.2.2.2.1, r12.2.2.2.2.2.2.2.2.2.2.2.2.2.2.2.2.2.2.1, r12.2.2.2.2.2.2.2.2.2.2.2.2.2.2.2.2.2.2.2.1, r12.2.2.2.2.2.2.2.2.2.2.2.2.2.2.2.2.2.2.2.2.1, r12.2.2.2.2.2.2.2.2.2.2.2.2.2.2.2.2.2.2.2.2.2.1, r12.2.2.2.2.2.2.2.2.2.2.2.2.2.2.2.2.2.2.2.2.2.2.1, r12.2.2.2.2.2.2.2.2.2.2.2.2.2.2.2.2.2.2.2.2.2.2.2.1, r12.2.2.2.2.2.2.2.2.2.2.2.2.2.2.2.2.2.2.2.2.2.2.2.2.1, r12.2.2.2.2.2.2.2.2.2.2.2.2.2.2.2.2.2.2.2.2.2.2.2.2.2.1, r12.2.2.2.2.2.2.2.2.2.2.2.2.2.2.2.2.2.2.2.2.2.2.2.2.2.2.1, r12.2.2.2.2.2.2.2.2.2.2.2.2.2.2.2.2.2.2.2.2.2.2.2.2.2.2.2.1, r12.2.2.2.2.2.2.2.2.2.2.2.2.2.2.2.2.2.2.2.2.2.2.2.2.2.2.2.2.1, r12.2.2.2.2.2.2.2.2.2.2.2.2.2.2.2.2.2.2.2.2.2.2.2.2.2.2.2.2.2.1, r12.2.2.2.2.2.2.2.2.2.2.2.2.2.2.2.2.2.2.2.2.2.2.2.2.2.2.2.2.2.2.1, r12.2.2.2.2.2.2.2.2.2.2.2.2.2.2.2.2.2.2.2.2.2.2.2.2.2.2.2.2.2.2.2)) := zD_set hD (Nat.le_of_ble_eq_true rfl) rfl rfl
          have hM := Sum.inr.inj (Option.some.inj hM)
          subst hM
          refine W.widen (k := 10) (n := 60) (Nat.le_of_ble_eq_true rfl) (Nat.le_of_ble_eq_true rfl) ?_
          exact W.vret hx hb hr (fun t ht hW => ⟨⟨u13, rfl, (zext_trans (zext_trans (zext_trans (zext_trans zext_rf x4) x7) x10) x14), by rw [ht]; exact hP, hD⟩, hS.F ht⟩) hS.2.2 dX2_askedLine_58
  · rw [if_neg c1] at hM
    refine lv_iconst (v := (1 : Int32)) hx hb dX2_askedLine_13 (by decide) ?_
    refine lv_goto (tgt := 18) hx hb dX2_askedLine_14 (by decide) ?_
    obtain ⟨r16_, er16, hM⟩ := b_inv hM
    cases r16_ with
    | inl e9 =>
      dsimp only at hM
      cases hM
    | inr r16 =>
      dsimp only at hM
      refine k_w (va_runV (As := [.int (1 : Int32)]) (rest := []) ⟨hx, hb, hml, hown, hts⟩ (ctZ_begins l D dA _ za h tx k9 ka kv s true r16 er16 ) (cwV 1 hts (lw_V q716 q718 qs13 q114 q719) rfl rfl rfl (by decide +kernel) ⟨Nat.le_of_ble_eq_true rfl, Nat.le_of_ble_eq_true rfl⟩) (preX_V ZE_ok hP hK hD (ev_at ZE_ok hE hS (w_free hD hS hA)) hP (ci := 1) (q0 := 0) rfl rfl) rfl rfl hl.1 rfl (lv_room (Nat.le_of_ble_eq_true rfl)) dX2_askedLine_18 ⟨Nat.le_of_ble_eq_true rfl, Nat.le_of_ble_eq_true rfl⟩) hD hS hA (fun u17 H locs x18 hP hD hS => ?_)
      refine W.widen (k := 2) (n := 12) (Nat.le_of_ble_eq_true rfl) (Nat.le_of_ble_eq_true rfl) ?_
      refine W.eq (g2 := F0 m 21 ls []) (by first | rfl | (rfl; rfl) | (rfl) | (simp only [*]; rfl) | simp only [*]) ?_
      refine lv_aload_n hx hb dX2_askedLine_21 rfl (lv_at hl 0 rfl) ?_
      obtain ⟨r19_, er19, hM⟩ := b_inv hM
      cases r19_ with
      | inl e9 =>
        dsimp only at hM
        cases hM
      | inr r19 =>
        dsimp only at hM
        refine k_w (va_runV (As := []) (rest := []) ⟨hx, hb, hml, hown, hts⟩ (ctZ_asking l D dA _ za u17 tx k9 ka kv r16 r19 er19 ) (cwV 0 hts (lw_V q844 q846 qs20 q114 q847) rfl rfl rfl (by decide +kernel) ⟨Nat.le_of_ble_eq_true rfl, Nat.le_of_ble_eq_true rfl⟩) (preX_V ZE_ok hP hK hD (ev_at ZE_ok hE hS (w_free hD hS hA)) hP (ci := 1) (q0 := 0) rfl rfl) rfl rfl hl.1 rfl (lv_room (Nat.le_of_ble_eq_true rfl)) dX2_askedLine_22 ⟨Nat.le_of_ble_eq_true rfl, Nat.le_of_ble_eq_true rfl⟩) hD hS hA (fun u20 H locs x21 hP hD hS => ?_)
        refine W.widen (k := 6) (n := 36) (Nat.le_of_ble_eq_true rfl) (Nat.le_of_ble_eq_true rfl) ?_
        refine W.eq (g2 := F0 m 25 ls [.ref (u20.2.2.2.1 r19.1)]) (by first | rfl | (rfl; rfl) | (rfl) | (simp only [*]; rfl) | simp only [*]) ?_
        refine lv_astore_n (lv' := [(1, .ref (u20.2.2.2.1 r19.1)), (0, .ref (za 0))]) hx hb dX2_askedLine_25 rfl hl (by decide) rfl (fun ls hl => ?_)
        refine lv_aload_n hx hb dX2_askedLine_26 rfl (lv_at hl 1 rfl) ?_
        refine lv_aload_n hx hb dX2_askedLine_27 rfl (lv_at hl 0 rfl) ?_
        refine lv_aload_n hx hb dX2_askedLine_28 rfl (lv_at hl 1 rfl) ?_
        refine va_ldcS hx hb hown (hE.2.2.1 16 (Nat.zero_le _) (by decide)) dX2_askedLine_29 ?_
        refine lv_iconst (v := (0 : Int32)) hx hb dX2_askedLine_31 (by decide) ?_
        refine lv_aload_n hx hb dX2_askedLine_32 rfl (lv_at hl 1 rfl) ?_
        refine va_get (D := D) (ci := 1) (v := .ref (za 4)) (C := RX2) (T := TX2) (N := 11) hx hb hts in_X2 hown hK.1 hP 0 rfl rfl 9 (by decide) (hts _ q235) (fun _ h9 => h9) rfl dX2_askedLine_33 ?_
        refine va_get (D := D) (ci := 6) (v := .int r19.2.2.2.2.2.2.2.2.1) (C := RX8) (T := TX8) (N := 13) hx hb hts in_X8 hown hK.1 hP 4 rfl rfl 6 (by decide) (hts _ q476) (fun _ h9 => h9) rfl dX2_askedLine_36 ?_
        obtain ⟨h25, hM⟩ := gn_inv hM
        obtain ⟨r22_, er22, hM⟩ := b_inv hM
        cases r22_ with
        | inl e9 =>
          dsimp only at hM
          cases hM
        | inr r22 =>
          dsimp only at hM
          refine k_w (va_runV (As := [.ref (ka 16), .int (0 : Int32), .int r19.2.2.2.2.2.2.2.2.1]) (rest := [.ref (u20.2.2.2.1 r19.1), .ref (za 0)]) ⟨hx, hb, hml, hown, hts⟩ (ctZ_after l D dA _ za u20 tx k9 ka kv r19.2 16 (0 : Int32) r19.2.2.2.2.2.2.2.2.1 r22 er22 (by decide)) (cwV 3 hts (lw_V q699 q701 qs9 q114 q702) rfl rfl rfl (by decide +kernel) ⟨Nat.le_of_ble_eq_true rfl, Nat.le_of_ble_eq_true rfl⟩) (preX_V ZE_ok hP hK hD (ev_at ZE_ok hE hS (w_free hD hS hA)) hP (ci := 1) (q0 := 0) rfl rfl) rfl rfl hl.1 rfl (lv_room (Nat.le_of_ble_eq_true rfl)) dX2_askedLine_39 ⟨Nat.le_of_ble_eq_true rfl, Nat.le_of_ble_eq_true rfl⟩) hD hS hA (fun u23 H locs x24 hP hD hS => ?_)
          have hl : lv_has ls 2 [(1, .ref (u23.2.2.2.1 r19.1)), (0, .ref (za 0))] := by simp only [x24.2.1 r19.1 h25]; exact hl
          refine W.widen (k := 10) (n := 60) (Nat.le_of_ble_eq_true rfl) (Nat.le_of_ble_eq_true rfl) ?_
          refine W.eq (g2 := F0 m 42 ls [.int r22.1, .ref (u23.2.2.2.1 r19.1), .ref (za 0)]) (by first | rfl | (simp only [x24.2.1 r19.1 h25]; rfl) | (simp only [x24.2.1 r19.1 h25]) | (simp only [*]; rfl) | simp only [*]) ?_
          obtain ⟨h29, hM⟩ := gn_inv hM
          obtain ⟨r26, er26, hM⟩ := b_inv hM
          refine k_w (va_runV (As := [.ref (u23.2.2.2.1 r19.1), .int r22.1]) (rest := []) ⟨hx, hb, hml, hown, hts⟩ (ctZ_lay l D dA _ za u23 tx k9 ka kv r22.2 r19.1 r22.1 r26 er26 ) (cwV 2 hts (lw_V q877 q879 qs21 q114 q880) rfl rfl rfl (by decide +kernel) ⟨Nat.le_of_ble_eq_true rfl, Nat.le_of_ble_eq_true rfl⟩) (preX_V ZE_ok hP hK hD (ev_at ZE_ok hE hS (w_free hD hS hA)) hP (ci := 1) (q0 := 0) rfl rfl) rfl rfl hl.1 rfl (lv_room (Nat.le_of_ble_eq_true rfl)) dX2_askedLine_42 ⟨Nat.le_of_ble_eq_true rfl, Nat.le_of_ble_eq_true rfl⟩) hD hS hA (fun u27 H locs x28 hP hD hS => ?_)
          have hl : lv_has ls 2 [(1, .ref (u27.2.2.2.1 r19.1)), (0, .ref (za 0))] := by simp only [x28.2.1 r19.1 h29]; exact hl
          refine W.eq (g2 := F0 m 45 ls []) (by first | rfl | (rfl; rfl) | (rfl) | (simp only [*]; rfl) | simp only [*]) ?_
          refine lv_aload_n hx hb dX2_askedLine_45 rfl (lv_at hl 1 rfl) ?_
          refine va_get (D := D) (ci := 1) (v := .ref (za 4)) (C := RX2) (T := TX2) (N := 11) hx hb hts in_X2 hown hK.1 hP 0 rfl rfl 9 (by decide) (hts _ q235) (fun _ h9 => h9) rfl dX2_askedLine_46 ?_
          refine lv_dup hx hb dX2_askedLine_49 rfl ?_
          refine va_get (D := D) (ci := 6) (v := .int r26.2.2.2.2.2.2.2.2.2.2.2.1) (C := RX8) (T := TX8) (N := 13) hx hb hts in_X8 hown hK.1 hP 4 rfl rfl 10 (by decide) (hts _ q488) (fun _ h9 => h9) rfl dX2_askedLine_50 ?_
          refine lv_iconst (v := (1 : Int32)) hx hb dX2_askedLine_53 (by decide) ?_
          refine lv_iadd hx hb dX2_askedLine_54 ?_
          obtain ⟨v1_, hv1_⟩ : ∃ v_ : Int32, v_ = (r26.2.2.2.2.2.2.2.2.2.2.2.1 + (1 : Int32)) := ⟨_, rfl⟩
          rw [← hv1_]
          try rw [← hv1_] at hM
          refine va_put (D := D) (ci := 6) (v := .int v1_) (ty := .int) (C := RX8) (T := TX8) (N := 13) hx hb hts in_X8 tyX8 tyX8_ok nmX8 hown hK.1 hP hD hS 4 rfl rfl 10 (by decide) (hts _ q488) (fun _ h9 => h9) rfl (by decide +kernel) rfl rfl (Nat.le_of_ble_eq_true rfl) dX2_askedLine_55 (fun H locs hP hD hS => ?_)
          have hP : va_P D clG (zw dA za k9 tx u27 (r26.1, r26.2.1, r26.2.2.1, r26.2.2.2.1, r26.2.2.2.2.1, r26.2.2.2.2.2.1, r26.2.2.2.2.2.2.1, r26.2.2.2.2.2.2.2.1, r26.2.2.2.2.2.2.2.2.1, r26.2.2.2.2.2.2.2.2.2.1, r26.2.2.2.2.2.2.2.2.2.2.1, v1_, r26.2.2.2.2.2.2.2.2.2.2.2.2.1, r26.2.2.2.2.2.2.2.2.2.2.2.2.2.1, r26.2.2.2.2.2.2.2.2.2.2.2.2.2.2.1, r26.2.2.2.2.2.2.2.2.2.2.2.2.2.2.2.1, r26.2.2.2.2.2.2.2.2.2.2.2.2.2.2.2.2.1, r26.2.2.2.2.2.2.2.2.2.2.2.2.2.2.2.2.2.1, r26.2.2.2.2.2.2.2.2.2.2.2.2.2.2.2.2.2.2.1, r26.2.2.2.2.2.2.2.2.2.2.2.2.2.2.2.2.2.2.2.1, r26.2.2.2.2.2.2.2.2.2.2.2.2.2.2.2.2.2.2.2.2.1, r26.2.2.2.2.2.2.2.2.2.2.2.2.2.2.2.2.2.2.2.2.2.1, r26.2.2.2.2.2.2.2.2.2.2.2.2.2.2.2.2.2.2.2.2.2.2.1, r26.2.2.2.2.2.2.2.2.2.2.2.2.2.2.2.2.2.2.2.2.2.2.2.1, r26.2.2.2.2.2.2.2.2.2.2.2.2.2.2.2.2.2.2.2.2.2.2.2.2.1, r26.2.2.2.2.2.2.2.2.2.2.2.2.2.2.2.2.2.2.2.2.2.2.2.2.2.1, r26.2.2.2.2.2.2.2.2.2.2.2.2.2.2.2.2.2.2.2.2.2.2.2.2.2.2.1, r26.2.2.2.2.2.2.2.2.2.2.2.2.2.2.2.2.2.2.2.2.2.2.2.2.2.2.2.1, r26.2.2.2.2.2.2.2.2.2.2.2.2.2.2.2.2.2.2.2.2.2.2.2.2.2.2.2.2.1, r26.2.2.2.2.2.2.2.2.2.2.2.2.2.2.2.2.2.2.2.2.2.2.2.2.2.2.2.2.2.1, r26.2.2.2.2.2.2.2.2.2.2.2.2.2.2.2.2.2.2.2.2.2.2.2.2.2.2.2.2.2.2.1, r26.2.2.2.2.2.2.2.2.2.2.2.2.2.2.2.2.2.2.2.2.2.2.2.2.2.2.2.2.2.2.2)) H := zP_set hP (Nat.le_of_ble_eq_true rfl) rfl rfl
          have hD : va_D A (zw dA za k9 tx u27 (r26.1, r26.2.1, r26.2.2.1, r26.2.2.2.1, r26.2.2.2.2.1, r26.2.2.2.2.2.1, r26.2.2.2.2.2.2.1, r26.2.2.2.2.2.2.2.1, r26.2.2.2.2.2.2.2.2.1, r26.2.2.2.2.2.2.2.2.2.1, r26.2.2.2.2.2.2.2.2.2.2.1, v1_, r26.2.2.2.2.2.2.2.2.2.2.2.2.1, r26.2.2.2.2.2.2.2.2.2.2.2.2.2.1, r26.2.2.2.2.2.2.2.2.2.2.2.2.2.2.1, r26.2.2.2.2.2.2.2.2.2.2.2.2.2.2.2.1, r26.2.2.2.2.2.2.2.2.2.2.2.2.2.2.2.2.1, r26.2.2.2.2.2.2.2.2.2.2.2.2.2.2.2.2.2.1, r26.2.2.2.2.2.2.2.2.2.2.2.2.2.2.2.2.2.2.1, r26.2.2.2.2.2.2.2.2.2.2.2.2.2.2.2.2.2.2.2.1, r26.2.2.2.2.2.2.2.2.2.2.2.2.2.2.2.2.2.2.2.2.1, r26.2.2.2.2.2.2.2.2.2.2.2.2.2.2.2.2.2.2.2.2.2.1, r26.2.2.2.2.2.2.2.2.2.2.2.2.2.2.2.2.2.2.2.2.2.2.1, r26.2.2.2.2.2.2.2.2.2.2.2.2.2.2.2.2.2.2.2.2.2.2.2.1, r26.2.2.2.2.2.2.2.2.2.2.2.2.2.2.2.2.2.2.2.2.2.2.2.2.1, r26.2.2.2.2.2.2.2.2.2.2.2.2.2.2.2.2.2.2.2.2.2.2.2.2.2.1, r26.2.2.2.2.2.2.2.2.2.2.2.2.2.2.2.2.2.2.2.2.2.2.2.2.2.2.1, r26.2.2.2.2.2.2.2.2.2.2.2.2.2.2.2.2.2.2.2.2.2.2.2.2.2.2.2.1, r26.2.2.2.2.2.2.2.2.2.2.2.2.2.2.2.2.2.2.2.2.2.2.2.2.2.2.2.2.1, r26.2.2.2.2.2.2.2.2.2.2.2.2.2.2.2.2.2.2.2.2.2.2.2.2.2.2.2.2.2.1, r26.2.2.2.2.2.2.2.2.2.2.2.2.2.2.2.2.2.2.2.2.2.2.2.2.2.2.2.2.2.2.1, r26.2.2.2.2.2.2.2.2.2.2.2.2.2.2.2.2.2.2.2.2.2.2.2.2.2.2.2.2.2.2.2)) := zD_set hD (Nat.le_of_ble_eq_true rfl) rfl rfl
          have hM := Sum.inr.inj (Option.some.inj hM)
          subst hM
          refine W.widen (k := 10) (n := 60) (Nat.le_of_ble_eq_true rfl) (Nat.le_of_ble_eq_true rfl) ?_
          exact W.vret hx hb hr (fun t ht hW => ⟨⟨u27, rfl, (zext_trans (zext_trans (zext_trans (zext_trans zext_rf x18) x21) x24) x28), by rw [ht]; exact hP, hD⟩, hS.F ht⟩) hS.2.2 dX2_askedLine_58
set_option maxHeartbeats 40000000 in
theorem ceZ_askedLine (l : Launch) (D : va_G) (dA : Nat → ClassId) (sz : Nat) (za : Nat → Nat) (h : ZH) (tx : AI) (k9 : Int32 × Int32 × Int32) (ka kv : Nat → Nat) (s : ZS) (er : Int32 × Int32) (hM : MZ_askedLine tx k9.1 s = some (.inl er)) : vy_Met l yX2_askedLine (ws_ yX2_askedLine cX2_askedLine 2 none) ({ frames := 9, cells := 10, slots := 60, locals := 371 }) (preX D dA (ZE ka kv) [.ref (za 0)] (zw dA za k9 tx h s) sz) (fun _ _ _ _ => False) (zQ D dA za tx er (va_A (zw dA za k9 tx h s) sz)) 10 60 (va_A (zw dA za k9 tx h s) sz) := by
  refine vy_ofW (cc := cX2_askedLine) (maxL := 2) (ret := none) (by decide) rfl ?_
  intro p e s0 m args below meth c s₁ B hml hout hv
  obtain ⟨rfl, hsz, hP, hK, hD0, hE⟩ := hv
  have hx := B.exec
  have hb := B.bytes
  have hr := B.returns
  have hts := atoms_spec (ws := (ws_ yX2_askedLine cX2_askedLine 2 none)) B.pre
  have hts : ∀ w ∈ lw_all, w.before _ s0 = true := fun w h => hts w (List.mem_cons_of_mem _ h)
  have hown : s0.vm.findClass RX2 = some m.cls := findClass_of_methodNamed B.named
  have hlocks := B.notSynchronized
  subst hsz
  have hD := hD0.self (sz := s0.heap.size)
  generalize hAe : va_A (zw dA za k9 tx h s) s0.heap.size = A at hD hE ⊢
  have hA : ∀ q : Nat, s0.heap.size ≤ q → A q := fun q h => by rw [← hAe]; exact Or.inr h
  have hS : va_S A s0.heap s0.heap [] := va_S.rf
  have hl := lv_entry ([.ref (za 0)]) (n := 2) (Nat.le_of_ble_eq_true rfl)
  rw [lg_entry_eq]
  generalize (lg_sl ([.ref (za 0)]) ++ List.replicate (2 - (lg_sl ([.ref (za 0)])).length) Slot.unset).toArray = ls at hl ⊢
  have hl : lv_has ls 2 [(0, .ref (za 0))] := hl
  unfold MZ_askedLine at hM
  refine lv_aload_n hx hb dX2_askedLine_0 rfl (lv_at hl 0 rfl) ?_
  refine lv_aload_n hx hb dX2_askedLine_1 rfl (lv_at hl 0 rfl) ?_
  refine va_get (D := D) (ci := 1) (v := .ref (za 4)) (C := RX2) (T := TX2) (N := 11) hx hb hts in_X2 hown hK.1 hP 0 rfl rfl 9 (by decide) (hts _ q235) (fun _ h9 => h9) rfl dX2_askedLine_2 ?_
  refine va_get (D := D) (ci := 6) (v := .int s.2.2.2.2.2.2.2.2.2.2.2.1) (C := RX8) (T := TX8) (N := 13) hx hb hts in_X8 hown hK.1 hP 4 rfl rfl 10 (by decide) (hts _ q488) (fun _ h9 => h9) rfl dX2_askedLine_5 ?_
  refine lv_bipush (v := (12 : Int32)) hx hb dX2_askedLine_8 (by decide) ?_
  refine lv_icmp_ge (tgt := 17) hx hb dX2_askedLine_10 (by decide) (fun c1 => ?_) (fun c1 => ?_)
  · rw [if_pos c1] at hM
    refine lv_iconst (v := (0 : Int32)) hx hb dX2_askedLine_17 (by decide) ?_
    obtain ⟨r2_, er2, hM⟩ := b_inv hM
    cases r2_ with
    | inl e9 =>
      dsimp only at hM
      have hM := Sum.inl.inj (Option.some.inj hM)
      subst hM
      exact z_err (vy_runV (As := [.int (0 : Int32)]) (rest := []) ⟨hx, hb, hml, hown, hts⟩ (ceZ_begins l D dA _ za h tx k9 ka kv s false e9 er2 ) (cwV 1 hts (lw_V q716 q718 qs13 q114 q719) rfl rfl rfl (by decide +kernel) ⟨Nat.le_of_ble_eq_true rfl, Nat.le_of_ble_eq_true rfl⟩) (preX_V ZE_ok hP hK hD (ev_at ZE_ok hE hS (w_free hD hS hA)) hP (ci := 1) (q0 := 0) rfl rfl) rfl rfl hl.1 rfl (lv_room (Nat.le_of_ble_eq_true rfl)) dX2_askedLine_18 ⟨Nat.le_of_ble_eq_true rfl, Nat.le_of_ble_eq_true rfl⟩) hD hS hA hout hlocks (Nat.le_of_ble_eq_true rfl) (Nat.le_of_ble_eq_true rfl)
    | inr r2 =>
      dsimp only at hM
      refine k_w (va_runV (As := [.int (0 : Int32)]) (rest := []) ⟨hx, hb, hml, hown, hts⟩ (ctZ_begins l D dA _ za h tx k9 ka kv s false r2 er2 ) (cwV 1 hts (lw_V q716 q718 qs13 q114 q719) rfl rfl rfl (by decide +kernel) ⟨Nat.le_of_ble_eq_true rfl, Nat.le_of_ble_eq_true rfl⟩) (preX_V ZE_ok hP hK hD (ev_at ZE_ok hE hS (w_free hD hS hA)) hP (ci := 1) (q0 := 0) rfl rfl) rfl rfl hl.1 rfl (lv_room (Nat.le_of_ble_eq_true rfl)) dX2_askedLine_18 ⟨Nat.le_of_ble_eq_true rfl, Nat.le_of_ble_eq_true rfl⟩) hD hS hA (fun u3 H locs x4 hP hD hS => ?_)
      refine W.widen (k := 2) (n := 12) (Nat.le_of_ble_eq_true rfl) (Nat.le_of_ble_eq_true rfl) ?_
      refine W.eq (g2 := F0 m 21 ls []) (by first | rfl | (rfl; rfl) | (rfl) | (simp only [*]; rfl) | simp only [*]) ?_
      refine lv_aload_n hx hb dX2_askedLine_21 rfl (lv_at hl 0 rfl) ?_
      obtain ⟨r5_, er5, hM⟩ := b_inv hM
      cases r5_ with
      | inl e9 =>
        dsimp only at hM
        have hM := Sum.inl.inj (Option.some.inj hM)
        subst hM
        exact z_err (vy_runV (As := []) (rest := []) ⟨hx, hb, hml, hown, hts⟩ (ceZ_asking l D dA _ za u3 tx k9 ka kv r2 e9 er5 ) (cwV 0 hts (lw_V q844 q846 qs20 q114 q847) rfl rfl rfl (by decide +kernel) ⟨Nat.le_of_ble_eq_true rfl, Nat.le_of_ble_eq_true rfl⟩) (preX_V ZE_ok hP hK hD (ev_at ZE_ok hE hS (w_free hD hS hA)) hP (ci := 1) (q0 := 0) rfl rfl) rfl rfl hl.1 rfl (lv_room (Nat.le_of_ble_eq_true rfl)) dX2_askedLine_22 ⟨Nat.le_of_ble_eq_true rfl, Nat.le_of_ble_eq_true rfl⟩) hD hS hA hout hlocks (Nat.le_of_ble_eq_true rfl) (Nat.le_of_ble_eq_true rfl)
      | inr r5 =>
        dsimp only at hM
        refine k_w (va_runV (As := []) (rest := []) ⟨hx, hb, hml, hown, hts⟩ (ctZ_asking l D dA _ za u3 tx k9 ka kv r2 r5 er5 ) (cwV 0 hts (lw_V q844 q846 qs20 q114 q847) rfl rfl rfl (by decide +kernel) ⟨Nat.le_of_ble_eq_true rfl, Nat.le_of_ble_eq_true rfl⟩) (preX_V ZE_ok hP hK hD (ev_at ZE_ok hE hS (w_free hD hS hA)) hP (ci := 1) (q0 := 0) rfl rfl) rfl rfl hl.1 rfl (lv_room (Nat.le_of_ble_eq_true rfl)) dX2_askedLine_22 ⟨Nat.le_of_ble_eq_true rfl, Nat.le_of_ble_eq_true rfl⟩) hD hS hA (fun u6 H locs x7 hP hD hS => ?_)
        refine W.widen (k := 6) (n := 36) (Nat.le_of_ble_eq_true rfl) (Nat.le_of_ble_eq_true rfl) ?_
        refine W.eq (g2 := F0 m 25 ls [.ref (u6.2.2.2.1 r5.1)]) (by first | rfl | (rfl; rfl) | (rfl) | (simp only [*]; rfl) | simp only [*]) ?_
        refine lv_astore_n (lv' := [(1, .ref (u6.2.2.2.1 r5.1)), (0, .ref (za 0))]) hx hb dX2_askedLine_25 rfl hl (by decide) rfl (fun ls hl => ?_)
        refine lv_aload_n hx hb dX2_askedLine_26 rfl (lv_at hl 1 rfl) ?_
        refine lv_aload_n hx hb dX2_askedLine_27 rfl (lv_at hl 0 rfl) ?_
        refine lv_aload_n hx hb dX2_askedLine_28 rfl (lv_at hl 1 rfl) ?_
        refine va_ldcS hx hb hown (hE.2.2.1 16 (Nat.zero_le _) (by decide)) dX2_askedLine_29 ?_
        refine lv_iconst (v := (0 : Int32)) hx hb dX2_askedLine_31 (by decide) ?_
        refine lv_aload_n hx hb dX2_askedLine_32 rfl (lv_at hl 1 rfl) ?_
        refine va_get (D := D) (ci := 1) (v := .ref (za 4)) (C := RX2) (T := TX2) (N := 11) hx hb hts in_X2 hown hK.1 hP 0 rfl rfl 9 (by decide) (hts _ q235) (fun _ h9 => h9) rfl dX2_askedLine_33 ?_
        refine va_get (D := D) (ci := 6) (v := .int r5.2.2.2.2.2.2.2.2.1) (C := RX8) (T := TX8) (N := 13) hx hb hts in_X8 hown hK.1 hP 4 rfl rfl 6 (by decide) (hts _ q476) (fun _ h9 => h9) rfl dX2_askedLine_36 ?_
        obtain ⟨h11, hM⟩ := gn_inv hM
        obtain ⟨r8_, er8, hM⟩ := b_inv hM
        cases r8_ with
        | inl e9 =>
          dsimp only at hM
          have hM := Sum.inl.inj (Option.some.inj hM)
          subst hM
          exact z_err (vy_runV (As := [.ref (ka 16), .int (0 : Int32), .int r5.2.2.2.2.2.2.2.2.1]) (rest := [.ref (u6.2.2.2.1 r5.1), .ref (za 0)]) ⟨hx, hb, hml, hown, hts⟩ (ceZ_after l D dA _ za u6 tx k9 ka kv r5.2 16 (0 : Int32) r5.2.2.2.2.2.2.2.2.1 e9 er8 (by decide)) (cwV 3 hts (lw_V q699 q701 qs9 q114 q702) rfl rfl rfl (by decide +kernel) ⟨Nat.le_of_ble_eq_true rfl, Nat.le_of_ble_eq_true rfl⟩) (preX_V ZE_ok hP hK hD (ev_at ZE_ok hE hS (w_free hD hS hA)) hP (ci := 1) (q0 := 0) rfl rfl) rfl rfl hl.1 rfl (lv_room (Nat.le_of_ble_eq_true rfl)) dX2_askedLine_39 ⟨Nat.le_of_ble_eq_true rfl, Nat.le_of_ble_eq_true rfl⟩) hD hS hA hout hlocks (Nat.le_of_ble_eq_true rfl) (Nat.le_of_ble_eq_true rfl)
        | inr r8 =>
          dsimp only at hM
          refine k_w (va_runV (As := [.ref (ka 16), .int (0 : Int32), .int r5.2.2.2.2.2.2.2.2.1]) (rest := [.ref (u6.2.2.2.1 r5.1), .ref (za 0)]) ⟨hx, hb, hml, hown, hts⟩ (ctZ_after l D dA _ za u6 tx k9 ka kv r5.2 16 (0 : Int32) r5.2.2.2.2.2.2.2.2.1 r8 er8 (by decide)) (cwV 3 hts (lw_V q699 q701 qs9 q114 q702) rfl rfl rfl (by decide +kernel) ⟨Nat.le_of_ble_eq_true rfl, Nat.le_of_ble_eq_true rfl⟩) (preX_V ZE_ok hP hK hD (ev_at ZE_ok hE hS (w_free hD hS hA)) hP (ci := 1) (q0 := 0) rfl rfl) rfl rfl hl.1 rfl (lv_room (Nat.le_of_ble_eq_true rfl)) dX2_askedLine_39 ⟨Nat.le_of_ble_eq_true rfl, Nat.le_of_ble_eq_true rfl⟩) hD hS hA (fun u9 H locs x10 hP hD hS => ?_)
          have hl : lv_has ls 2 [(1, .ref (u9.2.2.2.1 r5.1)), (0, .ref (za 0))] := by simp only [x10.2.1 r5.1 h11]; exact hl
          refine W.widen (k := 10) (n := 60) (Nat.le_of_ble_eq_true rfl) (Nat.le_of_ble_eq_true rfl) ?_
          refine W.eq (g2 := F0 m 42 ls [.int r8.1, .ref (u9.2.2.2.1 r5.1), .ref (za 0)]) (by first | rfl | (simp only [x10.2.1 r5.1 h11]; rfl) | (simp only [x10.2.1 r5.1 h11]) | (simp only [*]; rfl) | simp only [*]) ?_
          obtain ⟨h15, hM⟩ := gn_inv hM
          obtain ⟨r12, er12, hM⟩ := b_inv hM
          refine k_w (va_runV (As := [.ref (u9.2.2.2.1 r5.1), .int r8.1]) (rest := []) ⟨hx, hb, hml, hown, hts⟩ (ctZ_lay l D dA _ za u9 tx k9 ka kv r8.2 r5.1 r8.1 r12 er12 ) (cwV 2 hts (lw_V q877 q879 qs21 q114 q880) rfl rfl rfl (by decide +kernel) ⟨Nat.le_of_ble_eq_true rfl, Nat.le_of_ble_eq_true rfl⟩) (preX_V ZE_ok hP hK hD (ev_at ZE_ok hE hS (w_free hD hS hA)) hP (ci := 1) (q0 := 0) rfl rfl) rfl rfl hl.1 rfl (lv_room (Nat.le_of_ble_eq_true rfl)) dX2_askedLine_42 ⟨Nat.le_of_ble_eq_true rfl, Nat.le_of_ble_eq_true rfl⟩) hD hS hA (fun u13 H locs x14 hP hD hS => ?_)
          have hl : lv_has ls 2 [(1, .ref (u13.2.2.2.1 r5.1)), (0, .ref (za 0))] := by simp only [x14.2.1 r5.1 h15]; exact hl
          refine W.eq (g2 := F0 m 45 ls []) (by first | rfl | (rfl; rfl) | (rfl) | (simp only [*]; rfl) | simp only [*]) ?_
          refine lv_aload_n hx hb dX2_askedLine_45 rfl (lv_at hl 1 rfl) ?_
          refine va_get (D := D) (ci := 1) (v := .ref (za 4)) (C := RX2) (T := TX2) (N := 11) hx hb hts in_X2 hown hK.1 hP 0 rfl rfl 9 (by decide) (hts _ q235) (fun _ h9 => h9) rfl dX2_askedLine_46 ?_
          refine lv_dup hx hb dX2_askedLine_49 rfl ?_
          refine va_get (D := D) (ci := 6) (v := .int r12.2.2.2.2.2.2.2.2.2.2.2.1) (C := RX8) (T := TX8) (N := 13) hx hb hts in_X8 hown hK.1 hP 4 rfl rfl 10 (by decide) (hts _ q488) (fun _ h9 => h9) rfl dX2_askedLine_50 ?_
          refine lv_iconst (v := (1 : Int32)) hx hb dX2_askedLine_53 (by decide) ?_
          refine lv_iadd hx hb dX2_askedLine_54 ?_
          obtain ⟨v0_, hv0_⟩ : ∃ v_ : Int32, v_ = (r12.2.2.2.2.2.2.2.2.2.2.2.1 + (1 : Int32)) := ⟨_, rfl⟩
          rw [← hv0_]
          try rw [← hv0_] at hM
          refine va_put (D := D) (ci := 6) (v := .int v0_) (ty := .int) (C := RX8) (T := TX8) (N := 13) hx hb hts in_X8 tyX8 tyX8_ok nmX8 hown hK.1 hP hD hS 4 rfl rfl 10 (by decide) (hts _ q488) (fun _ h9 => h9) rfl (by decide +kernel) rfl rfl (Nat.le_of_ble_eq_true rfl) dX2_askedLine_55 (fun H locs hP hD hS => ?_)
          have hP : va_P D clG (zw dA za k9 tx u13 (r12.1, r12.2.1, r12.2.2.1, r12.2.2.2.1, r12.2.2.2.2.1, r12.2.2.2.2.2.1, r12.2.2.2.2.2.2.1, r12.2.2.2.2.2.2.2.1, r12.2.2.2.2.2.2.2.2.1, r12.2.2.2.2.2.2.2.2.2.1, r12.2.2.2.2.2.2.2.2.2.2.1, v0_, r12.2.2.2.2.2.2.2.2.2.2.2.2.1, r12.2.2.2.2.2.2.2.2.2.2.2.2.2.1, r12.2.2.2.2.2.2.2.2.2.2.2.2.2.2.1, r12.2.2.2.2.2.2.2.2.2.2.2.2.2.2.2.1, r12.2.2.2.2.2.2.2.2.2.2.2.2.2.2.2.2.1, r12.2.2.2.2.2.2.2.2.2.2.2.2.2.2.2.2.2.1, r12.2.2.2.2.2.2.2.2.2.2.2.2.2.2.2.2.2.2.1, r12.2.2.2.2.2.2.2.2.2.2.2.2.2.2.2.2.2.2.2.1, r12.2.2.2.2.2.2.2.2.2.2.2.2.2.2.2.2.2.2.2.2.1, r12.2.2.2.2.2.2.2.2.2.2.2.2.2.2.2.2.2.2.2.2.2.1, r12.2.2.2.2.2.2.2.2.2.2.2.2.2.2.2.2.2.2.2.2.2.2.1, r12.2.2.2.2.2.2.2.2.2.2.2.2.2.2.2.2.2.2.2.2.2.2.2.1, r12.2.2.2.2.2.2.2.2.2.2.2.2.2.2.2.2.2.2.2.2.2.2.2.2.1, r12.2.2.2.2.2.2.2.2.2.2.2.2.2.2.2.2.2.2.2.2.2.2.2.2.2.1, r12.2.2.2.2.2.2.2.2.2.2.2.2.2.2.2.2.2.2.2.2.2.2.2.2.2.2.1, r12.2.2.2.2.2.2.2.2.2.2.2.2.2.2.2.2.2.2.2.2.2.2.2.2.2.2.2.1, r12.2.2.2.2.2.2.2.2.2.2.2.2.2.2.2.2.2.2.2.2.2.2.2.2.2.2.2.2.1, r12.2.2.2.2.2.2.2.2.2.2.2.2.2.2.2.2.2.2.2.2.2.2.2.2.2.2.2.2.2.1, r12.2.2.2.2.2.2.2.2.2.2.2.2.2.2.2.2.2.2.2.2.2.2.2.2.2.2.2.2.2.2.1, r12.2.2.2.2.2.2.2.2.2.2.2.2.2.2.2.2.2.2.2.2.2.2.2.2.2.2.2.2.2.2.2)) H := zP_set hP (Nat.le_of_ble_eq_true rfl) rfl rfl
          have hD : va_D A (zw dA za k9 tx u13 (r12.1, r12.2.1, r12.2.2.1, r12.2.2.2.1, r12.2.2.2.2.1, r12.2.2.2.2.2.1, r12.2.2.2.2.2.2.1, r12.2.2.2.2.2.2.2.1, r12.2.2.2.2.2.2.2.2.1, r12.2.2.2.2.2.2.2.2.2.1, r12.2.2.2.2.2.2.2.2.2.2.1, v0_, r12.2.2.2.2.2.2.2.2.2.2.2.2.1, r12.2.2.2.2.2.2.2.2.2.2.2.2.2.1, r12.2.2.2.2.2.2.2.2.2.2.2.2.2.2.1, r12.2.2.2.2.2.2.2.2.2.2.2.2.2.2.2.1, r12.2.2.2.2.2.2.2.2.2.2.2.2.2.2.2.2.1, r12.2.2.2.2.2.2.2.2.2.2.2.2.2.2.2.2.2.1, r12.2.2.2.2.2.2.2.2.2.2.2.2.2.2.2.2.2.2.1, r12.2.2.2.2.2.2.2.2.2.2.2.2.2.2.2.2.2.2.2.1, r12.2.2.2.2.2.2.2.2.2.2.2.2.2.2.2.2.2.2.2.2.1, r12.2.2.2.2.2.2.2.2.2.2.2.2.2.2.2.2.2.2.2.2.2.1, r12.2.2.2.2.2.2.2.2.2.2.2.2.2.2.2.2.2.2.2.2.2.2.1, r12.2.2.2.2.2.2.2.2.2.2.2.2.2.2.2.2.2.2.2.2.2.2.2.1, r12.2.2.2.2.2.2.2.2.2.2.2.2.2.2.2.2.2.2.2.2.2.2.2.2.1, r12.2.2.2.2.2.2.2.2.2.2.2.2.2.2.2.2.2.2.2.2.2.2.2.2.2.1, r12.2.2.2.2.2.2.2.2.2.2.2.2.2.2.2.2.2.2.2.2.2.2.2.2.2.2.1, r12.2.2.2.2.2.2.2.2.2.2.2.2.2.2.2.2.2.2.2.2.2.2.2.2.2.2.2.1, r12.2.2.2.2.2.2.2.2.2.2.2.2.2.2.2.2.2.2.2.2.2.2.2.2.2.2.2.2.1, r12.2.2.2.2.2.2.2.2.2.2.2.2.2.2.2.2.2.2.2.2.2.2.2.2.2.2.2.2.2.1, r12.2.2.2.2.2.2.2.2.2.2.2.2.2.2.2.2.2.2.2.2.2.2.2.2.2.2.2.2.2.2.1, r12.2.2.2.2.2.2.2.2.2.2.2.2.2.2.2.2.2.2.2.2.2.2.2.2.2.2.2.2.2.2.2)) := zD_set hD (Nat.le_of_ble_eq_true rfl) rfl rfl
          cases hM
  · rw [if_neg c1] at hM
    refine lv_iconst (v := (1 : Int32)) hx hb dX2_askedLine_13 (by decide) ?_
    refine lv_goto (tgt := 18) hx hb dX2_askedLine_14 (by decide) ?_
    obtain ⟨r16_, er16, hM⟩ := b_inv hM
    cases r16_ with
    | inl e9 =>
      dsimp only at hM
      have hM := Sum.inl.inj (Option.some.inj hM)
      subst hM
      exact z_err (vy_runV (As := [.int (1 : Int32)]) (rest := []) ⟨hx, hb, hml, hown, hts⟩ (ceZ_begins l D dA _ za h tx k9 ka kv s true e9 er16 ) (cwV 1 hts (lw_V q716 q718 qs13 q114 q719) rfl rfl rfl (by decide +kernel) ⟨Nat.le_of_ble_eq_true rfl, Nat.le_of_ble_eq_true rfl⟩) (preX_V ZE_ok hP hK hD (ev_at ZE_ok hE hS (w_free hD hS hA)) hP (ci := 1) (q0 := 0) rfl rfl) rfl rfl hl.1 rfl (lv_room (Nat.le_of_ble_eq_true rfl)) dX2_askedLine_18 ⟨Nat.le_of_ble_eq_true rfl, Nat.le_of_ble_eq_true rfl⟩) hD hS hA hout hlocks (Nat.le_of_ble_eq_true rfl) (Nat.le_of_ble_eq_true rfl)
    | inr r16 =>
      dsimp only at hM
      refine k_w (va_runV (As := [.int (1 : Int32)]) (rest := []) ⟨hx, hb, hml, hown, hts⟩ (ctZ_begins l D dA _ za h tx k9 ka kv s true r16 er16 ) (cwV 1 hts (lw_V q716 q718 qs13 q114 q719) rfl rfl rfl (by decide +kernel) ⟨Nat.le_of_ble_eq_true rfl, Nat.le_of_ble_eq_true rfl⟩) (preX_V ZE_ok hP hK hD (ev_at ZE_ok hE hS (w_free hD hS hA)) hP (ci := 1) (q0 := 0) rfl rfl) rfl rfl hl.1 rfl (lv_room (Nat.le_of_ble_eq_true rfl)) dX2_askedLine_18 ⟨Nat.le_of_ble_eq_true rfl, Nat.le_of_ble_eq_true rfl⟩) hD hS hA (fun u17 H locs x18 hP hD hS => ?_)
      refine W.widen (k := 2) (n := 12) (Nat.le_of_ble_eq_true rfl) (Nat.le_of_ble_eq_true rfl) ?_
      refine W.eq (g2 := F0 m 21 ls []) (by first | rfl | (rfl; rfl) | (rfl) | (simp only [*]; rfl) | simp only [*]) ?_
      refine lv_aload_n hx hb dX2_askedLine_21 rfl (lv_at hl 0 rfl) ?_
      obtain ⟨r19_, er19, hM⟩ := b_inv hM
      cases r19_ with
      | inl e9 =>
        dsimp only at hM
        have hM := Sum.inl.inj (Option.some.inj hM)
        subst hM
        exact z_err (vy_runV (As := []) (rest := []) ⟨hx, hb, hml, hown, hts⟩ (ceZ_asking l D dA _ za u17 tx k9 ka kv r16 e9 er19 ) (cwV 0 hts (lw_V q844 q846 qs20 q114 q847) rfl rfl rfl (by decide +kernel) ⟨Nat.le_of_ble_eq_true rfl, Nat.le_of_ble_eq_true rfl⟩) (preX_V ZE_ok hP hK hD (ev_at ZE_ok hE hS (w_free hD hS hA)) hP (ci := 1) (q0 := 0) rfl rfl) rfl rfl hl.1 rfl (lv_room (Nat.le_of_ble_eq_true rfl)) dX2_askedLine_22 ⟨Nat.le_of_ble_eq_true rfl, Nat.le_of_ble_eq_true rfl⟩) hD hS hA hout hlocks (Nat.le_of_ble_eq_true rfl) (Nat.le_of_ble_eq_true rfl)
      | inr r19 =>
        dsimp only at hM
        refine k_w (va_runV (As := []) (rest := []) ⟨hx, hb, hml, hown, hts⟩ (ctZ_asking l D dA _ za u17 tx k9 ka kv r16 r19 er19 ) (cwV 0 hts (lw_V q844 q846 qs20 q114 q847) rfl rfl rfl (by decide +kernel) ⟨Nat.le_of_ble_eq_true rfl, Nat.le_of_ble_eq_true rfl⟩) (preX_V ZE_ok hP hK hD (ev_at ZE_ok hE hS (w_free hD hS hA)) hP (ci := 1) (q0 := 0) rfl rfl) rfl rfl hl.1 rfl (lv_room (Nat.le_of_ble_eq_true rfl)) dX2_askedLine_22 ⟨Nat.le_of_ble_eq_true rfl, Nat.le_of_ble_eq_true rfl⟩) hD hS hA (fun u20 H locs x21 hP hD hS => ?_)
        refine W.widen (k := 6) (n := 36) (Nat.le_of_ble_eq_true rfl) (Nat.le_of_ble_eq_true rfl) ?_
        refine W.eq (g2 := F0 m 25 ls [.ref (u20.2.2.2.1 r19.1)]) (by first | rfl | (rfl; rfl) | (rfl) | (simp only [*]; rfl) | simp only [*]) ?_
        refine lv_astore_n (lv' := [(1, .ref (u20.2.2.2.1 r19.1)), (0, .ref (za 0))]) hx hb dX2_askedLine_25 rfl hl (by decide) rfl (fun ls hl => ?_)
        refine lv_aload_n hx hb dX2_askedLine_26 rfl (lv_at hl 1 rfl) ?_
        refine lv_aload_n hx hb dX2_askedLine_27 rfl (lv_at hl 0 rfl) ?_
        refine lv_aload_n hx hb dX2_askedLine_28 rfl (lv_at hl 1 rfl) ?_
        refine va_ldcS hx hb hown (hE.2.2.1 16 (Nat.zero_le _) (by decide)) dX2_askedLine_29 ?_
        refine lv_iconst (v := (0 : Int32)) hx hb dX2_askedLine_31 (by decide) ?_
        refine lv_aload_n hx hb dX2_askedLine_32 rfl (lv_at hl 1 rfl) ?_
        refine va_get (D := D) (ci := 1) (v := .ref (za 4)) (C := RX2) (T := TX2) (N := 11) hx hb hts in_X2 hown hK.1 hP 0 rfl rfl 9 (by decide) (hts _ q235) (fun _ h9 => h9) rfl dX2_askedLine_33 ?_
        refine va_get (D := D) (ci := 6) (v := .int r19.2.2.2.2.2.2.2.2.1) (C := RX8) (T := TX8) (N := 13) hx hb hts in_X8 hown hK.1 hP 4 rfl rfl 6 (by decide) (hts _ q476) (fun _ h9 => h9) rfl dX2_askedLine_36 ?_
        obtain ⟨h25, hM⟩ := gn_inv hM
        obtain ⟨r22_, er22, hM⟩ := b_inv hM
        cases r22_ with
        | inl e9 =>
          dsimp only at hM
          have hM := Sum.inl.inj (Option.some.inj hM)
          subst hM
          exact z_err (vy_runV (As := [.ref (ka 16), .int (0 : Int32), .int r19.2.2.2.2.2.2.2.2.1]) (rest := [.ref (u20.2.2.2.1 r19.1), .ref (za 0)]) ⟨hx, hb, hml, hown, hts⟩ (ceZ_after l D dA _ za u20 tx k9 ka kv r19.2 16 (0 : Int32) r19.2.2.2.2.2.2.2.2.1 e9 er22 (by decide)) (cwV 3 hts (lw_V q699 q701 qs9 q114 q702) rfl rfl rfl (by decide +kernel) ⟨Nat.le_of_ble_eq_true rfl, Nat.le_of_ble_eq_true rfl⟩) (preX_V ZE_ok hP hK hD (ev_at ZE_ok hE hS (w_free hD hS hA)) hP (ci := 1) (q0 := 0) rfl rfl) rfl rfl hl.1 rfl (lv_room (Nat.le_of_ble_eq_true rfl)) dX2_askedLine_39 ⟨Nat.le_of_ble_eq_true rfl, Nat.le_of_ble_eq_true rfl⟩) hD hS hA hout hlocks (Nat.le_of_ble_eq_true rfl) (Nat.le_of_ble_eq_true rfl)
        | inr r22 =>
          dsimp only at hM
          refine k_w (va_runV (As := [.ref (ka 16), .int (0 : Int32), .int r19.2.2.2.2.2.2.2.2.1]) (rest := [.ref (u20.2.2.2.1 r19.1), .ref (za 0)]) ⟨hx, hb, hml, hown, hts⟩ (ctZ_after l D dA _ za u20 tx k9 ka kv r19.2 16 (0 : Int32) r19.2.2.2.2.2.2.2.2.1 r22 er22 (by decide)) (cwV 3 hts (lw_V q699 q701 qs9 q114 q702) rfl rfl rfl (by decide +kernel) ⟨Nat.le_of_ble_eq_true rfl, Nat.le_of_ble_eq_true rfl⟩) (preX_V ZE_ok hP hK hD (ev_at ZE_ok hE hS (w_free hD hS hA)) hP (ci := 1) (q0 := 0) rfl rfl) rfl rfl hl.1 rfl (lv_room (Nat.le_of_ble_eq_true rfl)) dX2_askedLine_39 ⟨Nat.le_of_ble_eq_true rfl, Nat.le_of_ble_eq_true rfl⟩) hD hS hA (fun u23 H locs x24 hP hD hS => ?_)
          have hl : lv_has ls 2 [(1, .ref (u23.2.2.2.1 r19.1)), (0, .ref (za 0))] := by simp only [x24.2.1 r19.1 h25]; exact hl
          refine W.widen (k := 10) (n := 60) (Nat.le_of_ble_eq_true rfl) (Nat.le_of_ble_eq_true rfl) ?_
          refine W.eq (g2 := F0 m 42 ls [.int r22.1, .ref (u23.2.2.2.1 r19.1), .ref (za 0)]) (by first | rfl | (simp only [x24.2.1 r19.1 h25]; rfl) | (simp only [x24.2.1 r19.1 h25]) | (simp only [*]; rfl) | simp only [*]) ?_
          obtain ⟨h29, hM⟩ := gn_inv hM
          obtain ⟨r26, er26, hM⟩ := b_inv hM
          refine k_w (va_runV (As := [.ref (u23.2.2.2.1 r19.1), .int r22.1]) (rest := []) ⟨hx, hb, hml, hown, hts⟩ (ctZ_lay l D dA _ za u23 tx k9 ka kv r22.2 r19.1 r22.1 r26 er26 ) (cwV 2 hts (lw_V q877 q879 qs21 q114 q880) rfl rfl rfl (by decide +kernel) ⟨Nat.le_of_ble_eq_true rfl, Nat.le_of_ble_eq_true rfl⟩) (preX_V ZE_ok hP hK hD (ev_at ZE_ok hE hS (w_free hD hS hA)) hP (ci := 1) (q0 := 0) rfl rfl) rfl rfl hl.1 rfl (lv_room (Nat.le_of_ble_eq_true rfl)) dX2_askedLine_42 ⟨Nat.le_of_ble_eq_true rfl, Nat.le_of_ble_eq_true rfl⟩) hD hS hA (fun u27 H locs x28 hP hD hS => ?_)
          have hl : lv_has ls 2 [(1, .ref (u27.2.2.2.1 r19.1)), (0, .ref (za 0))] := by simp only [x28.2.1 r19.1 h29]; exact hl
          refine W.eq (g2 := F0 m 45 ls []) (by first | rfl | (rfl; rfl) | (rfl) | (simp only [*]; rfl) | simp only [*]) ?_
          refine lv_aload_n hx hb dX2_askedLine_45 rfl (lv_at hl 1 rfl) ?_
          refine va_get (D := D) (ci := 1) (v := .ref (za 4)) (C := RX2) (T := TX2) (N := 11) hx hb hts in_X2 hown hK.1 hP 0 rfl rfl 9 (by decide) (hts _ q235) (fun _ h9 => h9) rfl dX2_askedLine_46 ?_
          refine lv_dup hx hb dX2_askedLine_49 rfl ?_
          refine va_get (D := D) (ci := 6) (v := .int r26.2.2.2.2.2.2.2.2.2.2.2.1) (C := RX8) (T := TX8) (N := 13) hx hb hts in_X8 hown hK.1 hP 4 rfl rfl 10 (by decide) (hts _ q488) (fun _ h9 => h9) rfl dX2_askedLine_50 ?_
          refine lv_iconst (v := (1 : Int32)) hx hb dX2_askedLine_53 (by decide) ?_
          refine lv_iadd hx hb dX2_askedLine_54 ?_
          obtain ⟨v1_, hv1_⟩ : ∃ v_ : Int32, v_ = (r26.2.2.2.2.2.2.2.2.2.2.2.1 + (1 : Int32)) := ⟨_, rfl⟩
          rw [← hv1_]
          try rw [← hv1_] at hM
          refine va_put (D := D) (ci := 6) (v := .int v1_) (ty := .int) (C := RX8) (T := TX8) (N := 13) hx hb hts in_X8 tyX8 tyX8_ok nmX8 hown hK.1 hP hD hS 4 rfl rfl 10 (by decide) (hts _ q488) (fun _ h9 => h9) rfl (by decide +kernel) rfl rfl (Nat.le_of_ble_eq_true rfl) dX2_askedLine_55 (fun H locs hP hD hS => ?_)
          have hP : va_P D clG (zw dA za k9 tx u27 (r26.1, r26.2.1, r26.2.2.1, r26.2.2.2.1, r26.2.2.2.2.1, r26.2.2.2.2.2.1, r26.2.2.2.2.2.2.1, r26.2.2.2.2.2.2.2.1, r26.2.2.2.2.2.2.2.2.1, r26.2.2.2.2.2.2.2.2.2.1, r26.2.2.2.2.2.2.2.2.2.2.1, v1_, r26.2.2.2.2.2.2.2.2.2.2.2.2.1, r26.2.2.2.2.2.2.2.2.2.2.2.2.2.1, r26.2.2.2.2.2.2.2.2.2.2.2.2.2.2.1, r26.2.2.2.2.2.2.2.2.2.2.2.2.2.2.2.1, r26.2.2.2.2.2.2.2.2.2.2.2.2.2.2.2.2.1, r26.2.2.2.2.2.2.2.2.2.2.2.2.2.2.2.2.2.1, r26.2.2.2.2.2.2.2.2.2.2.2.2.2.2.2.2.2.2.1, r26.2.2.2.2.2.2.2.2.2.2.2.2.2.2.2.2.2.2.2.1, r26.2.2.2.2.2.2.2.2.2.2.2.2.2.2.2.2.2.2.2.2.1, r26.2.2.2.2.2.2.2.2.2.2.2.2.2.2.2.2.2.2.2.2.2.1, r26.2.2.2.2.2.2.2.2.2.2.2.2.2.2.2.2.2.2.2.2.2.2.1, r26.2.2.2.2.2.2.2.2.2.2.2.2.2.2.2.2.2.2.2.2.2.2.2.1, r26.2.2.2.2.2.2.2.2.2.2.2.2.2.2.2.2.2.2.2.2.2.2.2.2.1, r26.2.2.2.2.2.2.2.2.2.2.2.2.2.2.2.2.2.2.2.2.2.2.2.2.2.1, r26.2.2.2.2.2.2.2.2.2.2.2.2.2.2.2.2.2.2.2.2.2.2.2.2.2.2.1, r26.2.2.2.2.2.2.2.2.2.2.2.2.2.2.2.2.2.2.2.2.2.2.2.2.2.2.2.1, r26.2.2.2.2.2.2.2.2.2.2.2.2.2.2.2.2.2.2.2.2.2.2.2.2.2.2.2.2.1, r26.2.2.2.2.2.2.2.2.2.2.2.2.2.2.2.2.2.2.2.2.2.2.2.2.2.2.2.2.2.1, r26.2.2.2.2.2.2.2.2.2.2.2.2.2.2.2.2.2.2.2.2.2.2.2.2.2.2.2.2.2.2.1, r26.2.2.2.2.2.2.2.2.2.2.2.2.2.2.2.2.2.2.2.2.2.2.2.2.2.2.2.2.2.2.2)) H := zP_set hP (Nat.le_of_ble_eq_true rfl) rfl rfl
          have hD : va_D A (zw dA za k9 tx u27 (r26.1, r26.2.1, r26.2.2.1, r26.2.2.2.1, r26.2.2.2.2.1, r26.2.2.2.2.2.1, r26.2.2.2.2.2.2.1, r26.2.2.2.2.2.2.2.1, r26.2.2.2.2.2.2.2.2.1, r26.2.2.2.2.2.2.2.2.2.1, r26.2.2.2.2.2.2.2.2.2.2.1, v1_, r26.2.2.2.2.2.2.2.2.2.2.2.2.1, r26.2.2.2.2.2.2.2.2.2.2.2.2.2.1, r26.2.2.2.2.2.2.2.2.2.2.2.2.2.2.1, r26.2.2.2.2.2.2.2.2.2.2.2.2.2.2.2.1, r26.2.2.2.2.2.2.2.2.2.2.2.2.2.2.2.2.1, r26.2.2.2.2.2.2.2.2.2.2.2.2.2.2.2.2.2.1, r26.2.2.2.2.2.2.2.2.2.2.2.2.2.2.2.2.2.2.1, r26.2.2.2.2.2.2.2.2.2.2.2.2.2.2.2.2.2.2.2.1, r26.2.2.2.2.2.2.2.2.2.2.2.2.2.2.2.2.2.2.2.2.1, r26.2.2.2.2.2.2.2.2.2.2.2.2.2.2.2.2.2.2.2.2.2.1, r26.2.2.2.2.2.2.2.2.2.2.2.2.2.2.2.2.2.2.2.2.2.2.1, r26.2.2.2.2.2.2.2.2.2.2.2.2.2.2.2.2.2.2.2.2.2.2.2.1, r26.2.2.2.2.2.2.2.2.2.2.2.2.2.2.2.2.2.2.2.2.2.2.2.2.1, r26.2.2.2.2.2.2.2.2.2.2.2.2.2.2.2.2.2.2.2.2.2.2.2.2.2.1, r26.2.2.2.2.2.2.2.2.2.2.2.2.2.2.2.2.2.2.2.2.2.2.2.2.2.2.1, r26.2.2.2.2.2.2.2.2.2.2.2.2.2.2.2.2.2.2.2.2.2.2.2.2.2.2.2.1, r26.2.2.2.2.2.2.2.2.2.2.2.2.2.2.2.2.2.2.2.2.2.2.2.2.2.2.2.2.1, r26.2.2.2.2.2.2.2.2.2.2.2.2.2.2.2.2.2.2.2.2.2.2.2.2.2.2.2.2.2.1, r26.2.2.2.2.2.2.2.2.2.2.2.2.2.2.2.2.2.2.2.2.2.2.2.2.2.2.2.2.2.2.1, r26.2.2.2.2.2.2.2.2.2.2.2.2.2.2.2.2.2.2.2.2.2.2.2.2.2.2.2.2.2.2.2)) := zD_set hD (Nat.le_of_ble_eq_true rfl) rfl rfl
          cases hM
