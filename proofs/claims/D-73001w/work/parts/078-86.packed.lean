set_option maxRecDepth 100000
theorem j_cut {p : Program} {l : Launch} {e : Env} {R : Room} {s : State} {m : MethodId} {args : Array Value} {below : List Frame} {meth : Method} {c : Code} {H : Heap} {locs : List Loc} {cells slots : Nat} {Q : State → Prop} {pc : Nat} {ls : Array Slot} {stk : List Value} {D : va_G} {A : Nat → Prop} {H0 : Heap} (hS : va_S A H0 H locs) (w : va_W) (N : Nat) (lv : List (Nat × Value)) (tgt : Nat) (st' : List Value)
    (k1 : ∀ (H : Heap) (locs : List Loc) (ls : Array Slot), va_P D clG w H → va_D A w → va_S A H0 H locs → lv_has ls N lv → W p l e R s m args below meth c H locs cells slots Q (F0 m tgt ls st'))
    (k2 : (∀ (H : Heap) (locs : List Loc) (ls : Array Slot), va_P D clG w H → va_D A w → va_S A H0 H locs → lv_has ls N lv → W p l e R s m args below meth c H locs cells slots Q (F0 m tgt ls st')) → W p l e R s m args below meth c H locs cells slots Q (F0 m pc ls stk)) : W p l e R s m args below meth c H locs cells slots Q (F0 m pc ls stk) := k2 k1
set_option maxHeartbeats 4000000 in
theorem ctX7_packed (l : Launch) (D : va_G) (dA : Nat → ClassId) (sz : Nat) (w : Nat) (ka kv : Nat → Nat) (hw : w < 18) (res : Int64) (hM : MX7_packed w = some res) : Met l yX7_packed (ws_ yX7_packed cX7_packed 4 (some .long)) ({ frames := 5, cells := 0, slots := 0, locals := 201 }) (preX D dA (ME ka kv) [.ref (ka w)] [] sz) (ql_ D res (fun (u : Unit) => []) (va_A [] sz)) 0 0 (va_A [] sz) := by
  refine Met.ofW (cc := cX7_packed) (maxL := 4) (ret := (some .long)) (by decide) rfl ?_
  intro p e s m args below meth c s₁ B hml hv
  obtain ⟨rfl, hsz, hP, hK, hD0, hE⟩ := hv
  have hx := B.exec
  have hb := B.bytes
  have hr := B.returns
  have hts := atoms_spec (ws := (ws_ yX7_packed cX7_packed 4 (some .long))) B.pre
  have hts : ∀ w ∈ lw_all, w.before _ s = true := fun w h => hts w (List.mem_cons_of_mem _ h)
  have hown : s.vm.findClass RX7 = some m.cls := findClass_of_methodNamed B.named
  have hlocks := B.notSynchronized
  subst hsz
  have hD := hD0.self (sz := s.heap.size)
  generalize hAe : va_A [] s.heap.size = A at hD hE ⊢
  have hA : ∀ q : Nat, s.heap.size ≤ q → A q := fun q h => by rw [← hAe]; exact Or.inr h
  have hS : va_S A s.heap s.heap [] := va_S.rf
  have hP : va_P D clG [] s.heap := hP
  have hl := lv_entry ([.ref (ka w)]) (n := 4) (Nat.le_of_ble_eq_true rfl)
  rw [lg_entry_eq]
  generalize (lg_sl ([.ref (ka w)]) ++ List.replicate (4 - (lg_sl ([.ref (ka w)])).length) Slot.unset).toArray = ls at hl ⊢
  have hl : lv_has ls 4 [(0, .ref (ka w))] := hl
  have hM := Option.some.inj hM
  subst hM
  have kl : klen w < 2 ^ 31 := klen_lt w
  refine lv_lconst (v := 0) hx hb dX7_packed_0 (by decide) ?_
  refine lv_lstore_n (lv' := [(1, .long 0), (0, .ref (ka w))]) hx hb dX7_packed_1 rfl hl (by decide) rfl (fun ls hl => ?_)
  refine lv_iconst (v := 0) hx hb dX7_packed_2 (by decide) ?_
  refine lv_istore_n (lv' := [(3, .int 0), (1, .long 0), (0, .ref (ka w))]) hx hb dX7_packed_3 rfl hl (by decide) rfl (fun ls hl => ?_)
  have loop : ∀ (r k : Nat) (ls : Array Slot) (H : Heap) (locs : List Loc), k + r = klen w → va_P D clG [] H → va_D A [] → va_S A s.heap H locs → lv_has ls 4 [(3, .int (nI k)), (1, .long (packG w k)), (0, .ref (ka w))] → W p l e (headSpec (ws_ yX7_packed cX7_packed 4 (some .long)) ({ frames := 5, cells := 0, slots := 0, locals := 201 })).room s m ([.ref (ka w)] : List Value).toArray below meth c H locs 0 0 (MQ below (ql_ D (packG w (klen w)) (fun (u : Unit) => []) A) ([.ref (ka w)] : List Value).toArray s 0 0 A) (F0 m 4 ls []) := by
    intro r
    induction r with
    | zero =>
      intro k ls H locs hi hP hD hS hl
      have ok_ := ev_at OK_ok hE.1 hS (ev_nil hA hS)
      have sk_ := ev_at sv_ok (hE.2.1 w hw) hS (ev_nil hA hS)
      refine lv_iload_n hx hb dX7_packed_4 rfl (lv_at hl 0 rfl) ?_
      refine lv_aload_n hx hb dX7_packed_5 rfl (lv_at hl 2 rfl) ?_
      refine k_i0 [] (va_runV (As := []) (rest := [.int (nI k)]) ⟨hx, hb, hml, hown, hts⟩ (ctJ3_length l D dA _ (ka w) (kv w) (klen w) (kby w) (ka w) (kv w) (klen w) (kby w)) (cwV 0 hts (lw_V q1602 q1603 q1604 q124 q1605) rfl rfl rfl (by decide +kernel) ⟨Nat.le_of_ble_eq_true rfl, Nat.le_of_ble_eq_true rfl⟩) (preX_O (ev2_ok OK_ok (ev2_ok sv_ok sv_ok)) p_nil hK (A := A) d_nil ⟨ok_, sk_, sk_⟩ sk_.1) rfl rfl hl.1 rfl (lv_room (Nat.le_of_ble_eq_true rfl)) dX7_packed_6 ⟨Nat.le_of_ble_eq_true rfl, Nat.le_of_ble_eq_true rfl⟩) hP hD hS hA rfl (fun _ => rfl) (fun u1 H locs hP hD hS => ?_)
      have hP : va_P D clG [] H := hP
      have hD : va_D A [] := hD
      refine lv_icmp_ge (tgt := 36) hx hb dX7_packed_9 (by decide) (fun _ => ?_) (fun h9 => absurd (nI_le (by omega) (by omega)) h9)
      refine lv_lload_n hx hb dX7_packed_36 rfl (lv_at hl 1 rfl) ?_
      have e : k = klen w := by omega
      rw [← e]
      exact W.lret (v := packG w k) hx hb hr (fun t ht hW => ⟨⟨packG w k, (), rfl, rfl, by rw [ht]; exact hP, hD⟩, hS.F ht⟩) hS.2.2 dX7_packed_37
    | succ r ih =>
      intro k ls H locs hi hP hD hS hl
      have ok_ := ev_at OK_ok hE.1 hS (ev_nil hA hS)
      have sk_ := ev_at sv_ok (hE.2.1 w hw) hS (ev_nil hA hS)
      refine lv_iload_n hx hb dX7_packed_4 rfl (lv_at hl 0 rfl) ?_
      refine lv_aload_n hx hb dX7_packed_5 rfl (lv_at hl 2 rfl) ?_
      refine k_i0 [] (va_runV (As := []) (rest := [.int (nI k)]) ⟨hx, hb, hml, hown, hts⟩ (ctJ3_length l D dA _ (ka w) (kv w) (klen w) (kby w) (ka w) (kv w) (klen w) (kby w)) (cwV 0 hts (lw_V q1602 q1603 q1604 q124 q1605) rfl rfl rfl (by decide +kernel) ⟨Nat.le_of_ble_eq_true rfl, Nat.le_of_ble_eq_true rfl⟩) (preX_O (ev2_ok OK_ok (ev2_ok sv_ok sv_ok)) p_nil hK (A := A) d_nil ⟨ok_, sk_, sk_⟩ sk_.1) rfl rfl hl.1 rfl (lv_room (Nat.le_of_ble_eq_true rfl)) dX7_packed_6 ⟨Nat.le_of_ble_eq_true rfl, Nat.le_of_ble_eq_true rfl⟩) hP hD hS hA rfl (fun _ => rfl) (fun u1 H locs hP hD hS => ?_)
      have hP : va_P D clG [] H := hP
      have hD : va_D A [] := hD
      refine lv_icmp_ge (tgt := 36) hx hb dX7_packed_9 (by decide) (fun h9 => absurd h9 (nI_ge (by omega) kl)) (fun _ => ?_)
      refine lv_ldc2 (v := 32) hx hb hown (hts _ q1582) dX7_packed_12 ?_
      refine lv_lload_n hx hb dX7_packed_15 rfl (lv_at hl 1 rfl) ?_
      refine lv_lmul hx hb dX7_packed_16 ?_
      refine lv_aload_n hx hb dX7_packed_17 rfl (lv_at hl 2 rfl) ?_
      refine lv_iload_n hx hb dX7_packed_18 rfl (lv_at hl 0 rfl) ?_
      have ok_ := ev_at OK_ok hE.1 hS (ev_nil hA hS)
      have sk_ := ev_at sv_ok (hE.2.1 w hw) hS (ev_nil hA hS)
      refine k_i0 [] (va_runV (As := [.int (nI k)]) (rest := [.long (32 * packG w k)]) ⟨hx, hb, hml, hown, hts⟩ (ctJ3_charAt l D dA _ (ka w) (kv w) (klen w) (kby w) (ka w) (kv w) (klen w) (kby w) k (by omega) kl) (cwV 1 hts (lw_V q1610 q1611 q1612 q124 q1613) rfl rfl rfl (by decide +kernel) ⟨Nat.le_of_ble_eq_true rfl, Nat.le_of_ble_eq_true rfl⟩) (preX_O (ev2_ok OK_ok (ev2_ok sv_ok sv_ok)) p_nil hK (A := A) d_nil ⟨ok_, sk_, sk_⟩ sk_.1) rfl rfl hl.1 rfl (lv_room (Nat.le_of_ble_eq_true rfl)) dX7_packed_19 ⟨Nat.le_of_ble_eq_true rfl, Nat.le_of_ble_eq_true rfl⟩) hP hD hS hA rfl (fun _ => rfl) (fun u1 H locs hP hD hS => ?_)
      have hP : va_P D clG [] H := hP
      have hD : va_D A [] := hD
      refine lv_bipush (v := 97) hx hb dX7_packed_22 (by decide) ?_
      refine lv_isub hx hb dX7_packed_24 ?_
      refine lv_iconst (v := 1) hx hb dX7_packed_25 (by decide) ?_
      refine lv_iadd hx hb dX7_packed_26 ?_
      refine lv_i2l (v := Int32.toInt64 (chr8 (kby w k) - 97 + 1)) hx hb dX7_packed_27 rfl ?_
      refine lv_ladd hx hb dX7_packed_28 ?_
      refine lv_lstore_n (lv' := [(1, .long (packG w (k + 1))), (3, .int (nI k)), (0, .ref (ka w))]) hx hb dX7_packed_29 rfl hl (by decide) rfl (fun ls hl => ?_)
      refine lv_iinc (v := nI (k + 1)) (lv' := [(3, .int (nI (k + 1))), (1, .long (packG w (k + 1))), (0, .ref (ka w))]) hx hb dX7_packed_30 hl (k := 1) rfl (nI_succ k).symm (by decide) rfl (fun ls hl => ?_)
      refine lv_goto (tgt := 4) hx hb dX7_packed_33 (by decide) ?_
      exact ih (k + 1) ls H locs (by omega) hP hD hS hl
  exact loop (klen w) 0 ls s.heap [] (by omega) hP hD hS hl

