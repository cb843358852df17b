set_option maxRecDepth 100000
def findF (s : ZS) (w : Nat) : Nat → Nat → Option Nat
  | 0, _ => none
  | r + 1, k => if eqC (s.2.2.2.2.2.2.2.2.2.2.2.2.2.2.2.2.2.2.2.2.2.2.2.2.2.2.2.2.2.1 (s.2.2.2.2.2.2.2.2.2.2.2.2.2.2.2.2.2.2.2.2.2.1 k)) (s.2.2.2.2.2.2.2.2.2.2.2.2.2.2.2.2.2.2.2.2.2.2.2.2.2.2.2.2.2.2.1 (s.2.2.2.2.2.2.2.2.2.2.2.2.2.2.2.2.2.2.2.2.2.1 k)) (s.2.2.2.2.2.2.2.2.2.2.2.2.2.2.2.2.2.2.2.2.2.2.2.2.2.2.2.2.2.1 w) (s.2.2.2.2.2.2.2.2.2.2.2.2.2.2.2.2.2.2.2.2.2.2.2.2.2.2.2.2.2.2.1 w) = 0 then findF s w r (k + 1) else some k
def MZ_find (tx : AI) (size : Int32) (s : ZS) (w : Nat) : Option (Option Nat × ZS) :=
  gall (s.2.2.2.2.2.2.2.2.2.1 = nI s.2.2.2.2.2.2.2.2.2.2.2.2.2.2.2.2.2.2.2.2.2.2.2.2.2.2.2.2.2.2.2 ∧ s.2.2.2.2.2.2.2.2.2.2.2.2.2.2.2.2.2.2.2.2.2.2.2.2.2.2.2.2.2.2.2 ≤ 6 ∧ s.2.2.2.2.2.2.2.2.2.2.2.2.2.2.2.2.2.2.2.2.2.2.2.2.2.2.2.2.2.2.2 ≤ s.2.2.2.2.2.2.2.2.2.2.2.2.2.2.2.2.2.2.2.1 ∧ w < s.2.2.2.2.2.2.2.2.2.2.2.2.2.2.2.2.2.2.2.2.2.2.2.2.2.2.2.2.1 ∧ s.2.2.2.2.2.2.2.2.2.2.2.2.2.2.2.2.2.2.2.2.2.2.2.2.2.2.2.2.2.1 w < 9 ∧ ∀ k, k < s.2.2.2.2.2.2.2.2.2.2.2.2.2.2.2.2.2.2.2.2.2.2.2.2.2.2.2.2.2.2.2 → s.2.2.2.2.2.2.2.2.2.2.2.2.2.2.2.2.2.2.2.2.2.1 k < s.2.2.2.2.2.2.2.2.2.2.2.2.2.2.2.2.2.2.2.2.2.2.2.2.2.2.2.2.1 ∧ s.2.2.2.2.2.2.2.2.2.2.2.2.2.2.2.2.2.2.2.2.2.2.2.2.2.2.2.2.2.1 (s.2.2.2.2.2.2.2.2.2.2.2.2.2.2.2.2.2.2.2.2.2.1 k) < 9 ∧ s.2.2.2.2.2.2.2.2.2.2.2.2.2.2.2.2.2.2.2.2.1 k < 4) (some (findF s w s.2.2.2.2.2.2.2.2.2.2.2.2.2.2.2.2.2.2.2.2.2.2.2.2.2.2.2.2.2.2.2 0, s))
set_option maxHeartbeats 4000000 in
theorem ctZ_find (l : Launch) (D : va_G) (dA : Nat → ClassId) (sz : Nat) (za : Nat → Nat) (h : ZH) (tx : AI) (k9 : Int32 × Int32 × Int32) (ka kv : Nat → Nat) (s : ZS) (w : Nat) (r : Option Nat × ZS) (hM : MZ_find tx k9.1 s w = some r) : Met l yX8_find (ws_ yX8_find cX8_find 3 (some (.object "LastAsked$Person"))) ({ frames := 3, cells := 0, slots := 0, locals := 102 }) (preX D dA (ZE ka kv) [.ref (za 4), .ref (h.1 w)] (zw dA za k9 tx h s) sz) (qz_ D (fun (u : ZH) => some (match r.1 with | some k => .ref (u.2.2.2.1 k) | none => .null)) (fun u => zext h u s r.2) (fun u => zw dA za k9 tx u r.2) (va_A (zw dA za k9 tx h s) sz)) 0 0 (va_A (zw dA za k9 tx h s) sz) := by
  refine Met.ofW (cc := cX8_find) (maxL := 3) (ret := (some (.object "LastAsked$Person"))) (by decide) rfl ?_
  intro p e s0 m args below meth c s₁ B hml hv
  obtain ⟨rfl, hsz, hP, hK, hD0, hE⟩ := hv
  have hx := B.exec
  have hb := B.bytes
  have hr := B.returns
  have hts := atoms_spec (ws := (ws_ yX8_find cX8_find 3 (some (.object "LastAsked$Person")))) B.pre
  have hts : ∀ w ∈ lw_all, w.before _ s0 = true := fun w h => hts w (List.mem_cons_of_mem _ h)
  have hown : s0.vm.findClass RX8 = some m.cls := findClass_of_methodNamed B.named
  have hlocks := B.notSynchronized
  subst hsz
  have hD := hD0.self (sz := s0.heap.size)
  generalize hAe : va_A (zw dA za k9 tx h s) s0.heap.size = A at hD hE ⊢
  have hA : ∀ q : Nat, s0.heap.size ≤ q → A q := fun q h => by rw [← hAe]; exact Or.inr h
  have hS : va_S A s0.heap s0.heap [] := va_S.rf
  have hl := lv_entry ([.ref (za 4), .ref (h.1 w)]) (n := 3) (Nat.le_of_ble_eq_true rfl)
  rw [lg_entry_eq]
  generalize (lg_sl ([.ref (za 4), .ref (h.1 w)]) ++ List.replicate (3 - (lg_sl ([.ref (za 4), .ref (h.1 w)])).length) Slot.unset).toArray = ls at hl ⊢
  have hl : lv_has ls 3 [(0, .ref (za 4)), (1, .ref (h.1 w))] := hl
  unfold MZ_find at hM
  obtain ⟨⟨g1, g2, g3, g4, g5, g6⟩, hM⟩ := gall_inv hM
  have hM := Option.some.inj hM
  subst hM
  refine lv_iconst (v := 0) hx hb dX8_find_0 (by decide) ?_
  refine lv_istore_n (lv' := [(2, .int 0), (0, .ref (za 4)), (1, .ref (h.1 w))]) hx hb dX8_find_1 rfl hl (by decide) rfl (fun ls hl => ?_)
  have loop : ∀ (r k : Nat) (ls : Array Slot) (H : Heap) (locs : List Loc), k + r = s.2.2.2.2.2.2.2.2.2.2.2.2.2.2.2.2.2.2.2.2.2.2.2.2.2.2.2.2.2.2.2 → va_P D clG (zw dA za k9 tx h s) H → va_D A (zw dA za k9 tx h s) → va_S A s0.heap H locs → lv_has ls 3 [(2, .int (nI k)), (0, .ref (za 4)), (1, .ref (h.1 w))] → W p l e (headSpec (ws_ yX8_find cX8_find 3 (some (.object "LastAsked$Person"))) ({ frames := 3, cells := 0, slots := 0, locals := 102 })).room s0 m ([.ref (za 4), .ref (h.1 w)] : List Value).toArray below meth c H locs 0 0 (MQ below (qz_ D (fun (u : ZH) => some (match findF s w r k with | some k => .ref (u.2.2.2.1 k) | none => .null)) (fun u => zext h u s s) (fun u => zw dA za k9 tx u s) A) ([.ref (za 4), .ref (h.1 w)] : List Value).toArray s0 0 0 A) (F0 m 2 ls []) := by
    intro r
    induction r with
    | zero =>
      intro k ls H locs hi hP hD hS hl
      refine lv_iload_n hx hb dX8_find_2 rfl (lv_at hl 0 rfl) ?_
      refine lv_aload_n hx hb dX8_find_3 rfl (lv_at hl 1 rfl) ?_
      refine va_get (D := D) (ci := 6) (v := .int s.2.2.2.2.2.2.2.2.2.1) (C := RX8) (T := TX8) (N := 13) hx hb hts in_X8 hown hK.1 hP 4 rfl rfl 8 (by decide) (hts _ q480) (fun _ h9 => h9) rfl dX8_find_4 ?_
      refine lv_toi (v := nI s.2.2.2.2.2.2.2.2.2.2.2.2.2.2.2.2.2.2.2.2.2.2.2.2.2.2.2.2.2.2.2) g1 ?_
      refine lv_icmp_ge (tgt := 39) hx hb dX8_find_7 (by decide) (fun _ => ?_) (fun h9 => absurd (nI_le (by omega) (by omega)) h9)
      refine lv_null hx hb dX8_find_39 ?_
      exact W.aret (v := .null) hx hb hr (Or.inl ⟨_, rfl⟩) (Or.inl rfl) (fun t ht hW => ⟨⟨h, rfl, zext_rf, by rw [ht]; exact hP, hD⟩, hS.F ht⟩) hS.2.2 dX8_find_40
    | succ r ih =>
      intro k ls H locs hi hP hD hS hl
      obtain ⟨n1, n2, n3⟩ := g6 k (by omega)
      refine lv_iload_n hx hb dX8_find_2 rfl (lv_at hl 0 rfl) ?_
      refine lv_aload_n hx hb dX8_find_3 rfl (lv_at hl 1 rfl) ?_
      refine va_get (D := D) (ci := 6) (v := .int s.2.2.2.2.2.2.2.2.2.1) (C := RX8) (T := TX8) (N := 13) hx hb hts in_X8 hown hK.1 hP 4 rfl rfl 8 (by decide) (hts _ q480) (fun _ h9 => h9) rfl dX8_find_4 ?_
      refine lv_toi (v := nI s.2.2.2.2.2.2.2.2.2.2.2.2.2.2.2.2.2.2.2.2.2.2.2.2.2.2.2.2.2.2.2) g1 ?_
      refine lv_icmp_ge (tgt := 39) hx hb dX8_find_7 (by decide) (fun h9 => absurd h9 (nI_ge (by omega) (by omega))) (fun _ => ?_)
      refine lv_aload_n hx hb dX8_find_10 rfl (lv_at hl 1 rfl) ?_
      refine va_get (D := D) (ci := 6) (v := .ref (za 5)) (C := RX8) (T := TX8) (N := 13) hx hb hts in_X8 hown hK.1 hP 4 rfl rfl 0 (by decide) (hts _ q455) (fun _ h9 => h9) rfl dX8_find_11 ?_
      refine lv_iload_n hx hb dX8_find_14 rfl (lv_at hl 0 rfl) ?_
      refine va_aldq hx hb hK.1 hP 5 4 rfl rfl (vp_in_nI (by omega) (by omega)) dX8_find_15 ?_
      refine lv_tor (v := .ref (h.2.2.2.1 k)) (by rw [nI_clamp (by omega)]; exact pp_ref (by omega)) ?_
      refine pp_getf hx hb hts hown hK hP zX_len (K := k) (by omega) n3 0 (by decide) (hts _ q749) (fun _ h9 => h9) (v := .ref (h.1 (s.2.2.2.2.2.2.2.2.2.2.2.2.2.2.2.2.2.2.2.2.2.1 k))) rfl dX8_find_16 ?_
      refine lv_aload_n hx hb dX8_find_19 rfl (lv_at hl 2 rfl) ?_
      have sa_ := sv_world hts hK hP (zw_so n1) (zw_sb n1) rfl rfl (lt_nil (hP _ _ (zw_so n1)).lt) (lt_nil (hP _ _ (zw_sb n1)).lt)
      have sw_ := sv_world hts hK hP (zw_so g4) (zw_sb g4) rfl rfl (lt_nil (hP _ _ (zw_so g4)).lt) (lt_nil (hP _ _ (zw_sb g4)).lt)
      have ok_ := ev_at OK_ok hE.1 hS (ev_nil hA hS)
      have ab_ : h.1 (s.2.2.2.2.2.2.2.2.2.2.2.2.2.2.2.2.2.2.2.2.2.1 k) = h.1 w → eqC (s.2.2.2.2.2.2.2.2.2.2.2.2.2.2.2.2.2.2.2.2.2.2.2.2.2.2.2.2.2.1 (s.2.2.2.2.2.2.2.2.2.2.2.2.2.2.2.2.2.2.2.2.2.1 k)) (s.2.2.2.2.2.2.2.2.2.2.2.2.2.2.2.2.2.2.2.2.2.2.2.2.2.2.2.2.2.2.1 (s.2.2.2.2.2.2.2.2.2.2.2.2.2.2.2.2.2.2.2.2.2.1 k)) (s.2.2.2.2.2.2.2.2.2.2.2.2.2.2.2.2.2.2.2.2.2.2.2.2.2.2.2.2.2.1 w) (s.2.2.2.2.2.2.2.2.2.2.2.2.2.2.2.2.2.2.2.2.2.2.2.2.2.2.2.2.2.2.1 w) = 1 := by
        intro h9
        have h8 := hD.1 _ _ _ _ (zw_so n1) (zw_so g4) h9
        have h7 : s.2.2.2.2.2.2.2.2.2.2.2.2.2.2.2.2.2.2.2.2.2.1 k = w := by omega
        rw [h7]
        exact eqC_yes (fun _ _ => rfl)
      refine k_i0 [] (va_runV (As := [.ref (h.1 w)]) (rest := []) ⟨hx, hb, hml, hown, hts⟩ (ctJ3_equals l D dA _ _ _ _ _ _ _ _ _ (by omega) (by omega) ab_) (cwV 1 hts (lw_V q733 q682 q683 q124 q684) rfl rfl rfl (by decide +kernel) ⟨Nat.le_of_ble_eq_true rfl, Nat.le_of_ble_eq_true rfl⟩) (preX_O (ev2_ok OK_ok (ev2_ok sv_ok sv_ok)) p_nil hK (A := A) d_nil ⟨ok_, sa_, sw_⟩ sa_.1) rfl rfl hl.1 rfl (lv_room (Nat.le_of_ble_eq_true rfl)) dX8_find_20 ⟨Nat.le_of_ble_eq_true rfl, Nat.le_of_ble_eq_true rfl⟩) hP hD hS hA rfl (fun _ => rfl) (fun u_ H locs hP hD hS => ?_)
      have hP : va_P D clG (zw dA za k9 tx h s) H := hP
      have hD : va_D A (zw dA za k9 tx h s) := hD
      refine lv_if_eq (tgt := 33) hx hb dX8_find_23 (by decide) (fun c1 => ?_) (fun c1 => ?_)
      · have e : findF s w (r + 1) k = findF s w r (k + 1) := by
          show (if _ then _ else _) = _
          rw [if_pos c1]
        rw [e]
        refine lv_iinc (v := nI (k + 1)) (lv' := [(2, .int (nI (k + 1))), (0, .ref (za 4)), (1, .ref (h.1 w))]) hx hb dX8_find_33 hl (k := 0) rfl (nI_succ k).symm (by decide) rfl (fun ls hl => ?_)
        refine lv_goto (tgt := 2) hx hb dX8_find_36 (by decide) ?_
        exact ih (k + 1) ls H locs (by omega) hP hD hS hl
      · have e : findF s w (r + 1) k = some k := by
          show (if _ then _ else _) = _
          rw [if_neg c1]
        rw [e]
        refine lv_aload_n hx hb dX8_find_26 rfl (lv_at hl 1 rfl) ?_
        refine va_get (D := D) (ci := 6) (v := .ref (za 5)) (C := RX8) (T := TX8) (N := 13) hx hb hts in_X8 hown hK.1 hP 4 rfl rfl 0 (by decide) (hts _ q455) (fun _ h9 => h9) rfl dX8_find_27 ?_
        refine lv_iload_n hx hb dX8_find_30 rfl (lv_at hl 0 rfl) ?_
        refine va_aldq hx hb hK.1 hP 5 4 rfl rfl (vp_in_nI (by omega) (by omega)) dX8_find_31 ?_
        refine lv_tor (v := .ref (h.2.2.2.1 k)) (by rw [nI_clamp (by omega)]; exact pp_ref (by omega)) ?_
        exact W.aret (v := .ref (h.2.2.2.1 k)) hx hb hr (Or.inl ⟨_, rfl⟩) (Or.inr ⟨_, rfl⟩) (fun t ht hW => ⟨⟨h, rfl, zext_rf, by rw [ht]; exact hP, hD⟩, hS.F ht⟩) hS.2.2 dX8_find_32
  exact loop s.2.2.2.2.2.2.2.2.2.2.2.2.2.2.2.2.2.2.2.2.2.2.2.2.2.2.2.2.2.2.2 0 ls s0.heap [] (by omega) hP hD hS hl
