set_option maxRecDepth 100000
/-! reading a city -/
def rs0 (z_token z_at z_whole : Int32) (le f : AI) : ZS := (0, z_token, z_at, z_whole, none, none, le, (-1), 0, 0, 0, 0, 0, 0, f, (fun _ => 0), (fun _ => 0), (fun _ => 0), (fun _ => 0), 0, (fun _ => 0), (fun _ => 0), (fun _ => 0), (fun _ => 0), (fun _ => 0), (fun _ => 0), (fun _ => 0), (fun _ => 0), 0, (fun _ => 0), (fun _ _ => 0), 0)
def hs0 (z_word z_asker : Value) : ZH := (fun _ => 0, fun _ => 0, fun _ => false, fun _ => 0, z_word, z_asker)
def zaN (za : Nat → Nat) (q1 q2 q3 q4 q5 q6 q7 : Nat) : Nat → Nat := fun i => ([za 0, za 1, za 2, za 3, q1, q2, q3, q4, q5, q6, q7] : List Nat).getD i 0
def hsF (f : AI) : Nat → AI
  | 0 => f
  | i + 1 => upd (hsF f i) i (-2)
theorem hsF_lt {f : AI} : ∀ (i j : Nat), j < i → hsF f i j = -2
  | 0, j, h => by omega
  | i + 1, j, h => by
    by_cases q : j = i
    · rw [q, hsF]; exact upd_eq
    · rw [hsF, upd_ne q]; exact hsF_lt i j (by omega)
theorem hsF_ge {f : AI} : ∀ (i j : Nat), i ≤ j → hsF f i j = f j
  | 0, j, h => rfl
  | i + 1, j, h => by rw [hsF, upd_ne (by omega)]; exact hsF_ge i j (by omega)
set_option maxHeartbeats 40000000 in
theorem rd_new {dA : Nat → ClassId} {za : Nat → Nat} {tx le : AI} {n f0 p0 z_token z_at z_whole : Int32} {z_word z_asker : Value} {q1 q2 q3 q4 q5 q6 q7 : Nat} : zw dA (zaN za q1 q2 q3 q4 q5 q6 q7) (n, f0, p0) tx (hs0 z_word z_asker) (rs0 z_token z_at z_whole le (fun _ => 0)) = [(za 0, .inr (1, [.ref (za 1), .ref (za 2), .ref (za 3), .int n, .int 0, .int z_token, .int z_at, .int z_whole, z_word, .ref q1, z_asker])), (za 1, .inr (2, [.null, .null, .null, .null, .null, .int 0, .int f0, .int p0])), (za 2, .inl (dA 2, 900, .inl tx)), (za 3, .inl (dA 3, 8, .inl le)), (q1, .inr (6, [.ref q2, .ref q3, .ref q4, .ref q5, .ref q6, .ref q7, .int (-1), .int 0, .int 0, .int 0, .int 0, .int 0, .int 0])), (q2, .inl (dA 4, 6, .inr (.inr (.inr (.inr (fun _ => none)))))), (q3, .inl (dA 0, 36, .inl (fun _ => 0))), (q4, .inl (dA 0, 3, .inl (fun _ => 0))), (q5, .inl (dA 0, 3, .inl (fun _ => 0))), (q6, .inl (dA 0, 3, .inl (fun _ => 0))), (q7, .inl (dA 0, 3, .inl (fun _ => 0)))] := by
  have e : pref 0 (hs0 z_word z_asker).2.2.2.1 = fun _ => none := by funext j; unfold pref; rw [if_neg (Nat.not_lt_zero j)]
  rw [← e]
  rfl
set_option maxHeartbeats 40000000 in
theorem wZ_readH {p : Program} {l : Launch} {e : Env} {s0 : State} {m : MethodId} {args : Array Value} {below : List Frame} {meth : Method} {c : Code} {D : va_G} {dA : Nat → ClassId} {A : Nat → Prop} {Q : State → Prop} (hx : p.tables.exec = Jvm.exec) (hb : c.code = cX2_read) (hml : c.maxLocals = 3) (hown : s0.vm.findClass RX2 = some m.cls) (hts : ∀ w ∈ lw_all, w.before args s0 = true) (hK : KK D dA s0) (hA : ∀ q : Nat, s0.heap.size ≤ q → A q) (za : Nat → Nat) (tx : AI) (k9 : Int32 × Int32 × Int32) (z_token z_at z_whole : Int32) (le : AI) (z_word z_asker : Value) (f : AI) (av : Value) {cells slots : Nat} :
    ∀ (k_ i : Nat), i + k_ = 36 → ∀ (H : Heap) (locs : List Loc) (ls : Array Slot), va_P D clG (zw dA za k9 tx (hs0 z_word z_asker) (0, z_token, z_at, z_whole, none, none, le, (-1), 0, 0, 0, 0, 0, 0, (hsF f i), (fun _ => 0), (fun _ => 0), (fun _ => 0), (fun _ => 0), 0, (fun _ => 0), (fun _ => 0), (fun _ => 0), (fun _ => 0), (fun _ => 0), (fun _ => 0), (fun _ => 0), (fun _ => 0), 0, (fun _ => 0), (fun _ _ => 0), 0)) H → va_D A (zw dA za k9 tx (hs0 z_word z_asker) (0, z_token, z_at, z_whole, none, none, le, (-1), 0, 0, 0, 0, 0, 0, (hsF f i), (fun _ => 0), (fun _ => 0), (fun _ => 0), (fun _ => 0), 0, (fun _ => 0), (fun _ => 0), (fun _ => 0), (fun _ => 0), (fun _ => 0), (fun _ => 0), (fun _ => 0), (fun _ => 0), 0, (fun _ => 0), (fun _ _ => 0), 0)) → va_S A s0.heap H locs → lv_has ls 3 [(2, .int (nI i)), (0, .ref (za 0)), (1, av)] →
    (∀ (H1 : Heap) (locs1 : List Loc) (ls1 : Array Slot), va_P D clG (zw dA za k9 tx (hs0 z_word z_asker) (0, z_token, z_at, z_whole, none, none, le, (-1), 0, 0, 0, 0, 0, 0, (hsF f 36), (fun _ => 0), (fun _ => 0), (fun _ => 0), (fun _ => 0), 0, (fun _ => 0), (fun _ => 0), (fun _ => 0), (fun _ => 0), (fun _ => 0), (fun _ => 0), (fun _ => 0), (fun _ => 0), 0, (fun _ => 0), (fun _ _ => 0), 0)) H1 → va_D A (zw dA za k9 tx (hs0 z_word z_asker) (0, z_token, z_at, z_whole, none, none, le, (-1), 0, 0, 0, 0, 0, 0, (hsF f 36), (fun _ => 0), (fun _ => 0), (fun _ => 0), (fun _ => 0), 0, (fun _ => 0), (fun _ => 0), (fun _ => 0), (fun _ => 0), (fun _ => 0), (fun _ => 0), (fun _ => 0), (fun _ => 0), 0, (fun _ => 0), (fun _ _ => 0), 0)) → va_S A s0.heap H1 locs1 → lv_has ls1 3 [(0, .ref (za 0))] → W p l e (headSpec (ws_ yX2_read cX2_read 3 (some (.object "LastAsked$City"))) ({ frames := 11, cells := 20753, slots := 125445, locals := 415 })).room s0 m args below meth c H1 locs1 cells slots Q (F0 m 46 ls1 [])) →
    W p l e (headSpec (ws_ yX2_read cX2_read 3 (some (.object "LastAsked$City"))) ({ frames := 11, cells := 20753, slots := 125445, locals := 415 })).room s0 m args below meth c H locs cells slots Q (F0 m 23 ls []) := by
  intro k_
  induction k_ with
  | zero =>
    intro i hi H locs ls hP hD hS hl kx
    have hi : i = 36 := by omega
    subst hi
    refine lv_iload_n hx hb dX2_read_23 rfl (lv_at hl 0 rfl) ?_
    refine lv_bipush (v := (36 : Int32)) hx hb dX2_read_24 (by decide) ?_
    refine lv_icmp_ge (tgt := 46) hx hb dX2_read_26 (by decide) (fun _ => ?_) (fun h9 => absurd (by decide) h9)
    exact kx _ _ _ hP hD hS (lv_sub hl [1] rfl)
  | succ k_ ih =>
    intro i hi H locs ls hP hD hS hl kx
    refine lv_iload_n hx hb dX2_read_23 rfl (lv_at hl 0 rfl) ?_
    refine lv_bipush (v := (36 : Int32)) hx hb dX2_read_24 (by decide) ?_
    refine lv_icmp_ge (tgt := 46) hx hb dX2_read_26 (by decide) (fun h9 => absurd (show nI 36 ≤ nI i from h9) (nI_ge (by omega) (by decide))) (fun _ => ?_)
    refine lv_aload_n hx hb dX2_read_29 rfl (lv_at hl 1 rfl) ?_
    refine va_get (D := D) (ci := 1) (v := .ref (za 4)) (C := RX2) (T := TX2) (N := 11) hx hb hts in_X2 hown hK.1 hP 0 rfl rfl 9 (by decide) (hts _ q235) (fun _ h9 => h9) rfl dX2_read_30 ?_
    refine va_get (D := D) (ci := 6) (v := .ref (za 6)) (C := RX8) (T := TX8) (N := 13) hx hb hts in_X8 hown hK.1 hP 4 rfl rfl 1 (by decide) (hts _ q463) (fun _ h9 => h9) rfl dX2_read_33 ?_
    refine lv_iload_n hx hb dX2_read_36 rfl (lv_at hl 0 rfl) ?_
    refine lv_bipush (v := (-2 : Int32)) hx hb dX2_read_37 (by decide) ?_
    refine va_iast hx hb hK.1 hP hD hS 6 0 rfl rfl (vp_in_nI (show i < 36 by omega) (by decide)) dX2_read_39 (fun H locs hP hD hS => ?_)
    rw [nIc (show i < 2 ^ 31 by omega)] at hP hD
    have hP : va_P D clG (zw dA za k9 tx (hs0 z_word z_asker) (0, z_token, z_at, z_whole, none, none, le, (-1), 0, 0, 0, 0, 0, 0, (upd (hsF f i) i (-2)), (fun _ => 0), (fun _ => 0), (fun _ => 0), (fun _ => 0), 0, (fun _ => 0), (fun _ => 0), (fun _ => 0), (fun _ => 0), (fun _ => 0), (fun _ => 0), (fun _ => 0), (fun _ => 0), 0, (fun _ => 0), (fun _ _ => 0), 0)) H := zP_set hP (Nat.le_of_ble_eq_true rfl) rfl rfl
    have hD : va_D A (zw dA za k9 tx (hs0 z_word z_asker) (0, z_token, z_at, z_whole, none, none, le, (-1), 0, 0, 0, 0, 0, 0, (upd (hsF f i) i (-2)), (fun _ => 0), (fun _ => 0), (fun _ => 0), (fun _ => 0), 0, (fun _ => 0), (fun _ => 0), (fun _ => 0), (fun _ => 0), (fun _ => 0), (fun _ => 0), (fun _ => 0), (fun _ => 0), 0, (fun _ => 0), (fun _ _ => 0), 0)) := zD_set hD (Nat.le_of_ble_eq_true rfl) rfl rfl
    refine lv_iinc (v := nI (i + 1)) (lv' := [(2, .int (nI (i + 1))), (0, .ref (za 0)), (1, av)]) hx hb dX2_read_40 hl (k := 0) rfl (nI_succ i).symm (by decide) rfl (fun ls hl => ?_)
    refine lv_goto (tgt := 23) hx hb dX2_read_43 (by decide) ?_
    exact ih (i + 1) (by omega) H locs ls hP hD hS hl kx
set_option maxHeartbeats 40000000 in
theorem wZ_readL {p : Program} {l : Launch} {e : Env} {s0 : State} {m : MethodId} {args : Array Value} {below : List Frame} {meth : Method} {c : Code} {D : va_G} {dA : Nat → ClassId} {A : Nat → Prop} {Q : State → Prop} (hx : p.tables.exec = Jvm.exec) (hb : c.code = cX2_read) (hml : c.maxLocals = 3) (hown : s0.vm.findClass RX2 = some m.cls) (hts : ∀ w ∈ lw_all, w.before args s0 = true) (hK : KK D dA s0) (hA : ∀ q : Nat, s0.heap.size ≤ q → A q) (ka kv : Nat → Nat) (hE : ZE ka kv A s0 s0.heap) (za : Nat → Nat) (tx : AI) (k9 : Int32 × Int32 × Int32) :
    ∀ (k_ : Nat) (v rx : ZS) (h : ZH) (H : Heap) (locs : List Loc) (ls : Array Slot) (cells slots : Nat), cells + 23 * k_ ≤ 20753 → slots + 139 * k_ ≤ 125445 → loopN k_ (fun v_ => BZ_read tx k9.1 v_) v = some (.inr rx) → va_P D clG (zw dA za k9 tx h v) H → va_D A (zw dA za k9 tx h v) → va_S A s0.heap H locs → lv_has ls 3 [(0, .ref (za 0))] →
    (∀ (u : ZH) (H1 : Heap) (locs1 : List Loc) (ls1 : Array Slot), va_P D clG (zw dA za k9 tx u rx) H1 → va_D A (zw dA za k9 tx u rx) → va_S A s0.heap H1 locs1 → lv_has ls1 3 [(0, .ref (za 0))] → W p l e (headSpec (ws_ yX2_read cX2_read 3 (some (.object "LastAsked$City"))) ({ frames := 11, cells := 20753, slots := 125445, locals := 415 })).room s0 m args below meth c H1 locs1 20753 125445 Q (F0 m 74 ls1 [])) →
    W p l e (headSpec (ws_ yX2_read cX2_read 3 (some (.object "LastAsked$City"))) ({ frames := 11, cells := 20753, slots := 125445, locals := 415 })).room s0 m args below meth c H locs cells slots Q (F0 m 54 ls []) := by
  intro k_
  induction k_ with
  | zero =>
    intro v rx h H locs ls cells slots hc hs hN
    cases hN
  | succ k_ ih =>
    intro v rx h H locs ls cells slots hc hs hN hP hD hS hl kx
    obtain ⟨r_, hM, hN⟩ := b_inv hN
    replace hM : BZ_read tx k9.1 v = some r_ := hM
    unfold BZ_read at hM
    refine lv_aload_n hx hb dX2_read_54 rfl (lv_at hl 0 rfl) ?_
    refine va_get (D := D) (ci := 1) (v := .int v.2.1) (C := RX2) (T := TX2) (N := 11) hx hb hts in_X2 hown hK.1 hP 0 rfl rfl 5 (by decide) (hts _ q231) (fun _ h9 => h9) rfl dX2_read_55 ?_
    refine lv_bipush (v := (59 : Int32)) hx hb dX2_read_58 (by decide) ?_
    refine lv_icmp_ne (tgt := 74) hx hb dX2_read_60 (by decide) (fun c1 => ?_) (fun c1 => ?_)
    · rw [if_neg c1] at hM
      have hM := Option.some.inj hM
      subst hM
      have hN := Sum.inr.inj (Option.some.inj hN)
      subst hN
      refine W.widen (k := 20753) (n := 125445) (by omega) (by omega) ?_
      exact kx h _ _ _ hP hD hS hl
    · rw [if_pos c1] at hM
      obtain ⟨r1, er1, hM⟩ := b_inv hM
      refine lv_aload_n hx hb dX2_read_63 rfl (lv_at hl 0 rfl) ?_
      refine k_w (va_runV (As := []) (rest := []) ⟨hx, hb, hml, hown, hts⟩ (ctZ_step l D dA _ za h tx k9 ka kv v r1 er1 ) (cwV 0 hts (lw_V q521 q523 qs4 q114 q524) rfl rfl rfl (by decide +kernel) ⟨Nat.le_trans (show cells + 2 ≤ 20753 by omega) (Nat.le_refl 20753), Nat.le_trans (show slots + 12 ≤ 125445 by omega) (Nat.le_refl 125445)⟩) (preX_V ZE_ok hP hK hD (ev_at ZE_ok hE hS (w_free hD hS hA)) hP (ci := 1) (q0 := 0) rfl rfl) rfl rfl hl.1 rfl (lv_room (Nat.le_of_ble_eq_true rfl)) dX2_read_64 ⟨Nat.le_trans (show cells + 2 ≤ 20753 by omega) (Nat.le_refl 20753), Nat.le_trans (show slots + 12 ≤ 125445 by omega) (Nat.le_refl 125445)⟩) hD hS hA (fun u1 H locs x1 hP hD hS => ?_)
      refine W.eq (g2 := F0 m 67 ls []) rfl ?_
      refine lv_aload_n hx hb dX2_read_67 rfl (lv_at hl 0 rfl) ?_
      obtain ⟨r2_, er2, hM⟩ := b_inv hM
      cases r2_ with
      | inl e9 =>
        dsimp only at hM
        have hM := Option.some.inj hM
        subst hM
        cases hN
      | inr r2 =>
        dsimp only at hM
        have hM := Option.some.inj hM
        subst hM
        replace hN : loopN k_ (fun v_ => BZ_read tx k9.1 v_) r2 = some (.inr rx) := hN
        refine k_w (va_runV (As := []) (rest := []) ⟨hx, hb, hml, hown, hts⟩ (ctZ_line l D dA _ za u1 tx k9 ka kv r1 r2 er2 ) (cwV 0 hts (lw_V q615 q617 qs6 q114 q618) rfl rfl rfl (by decide +kernel) ⟨Nat.le_trans (show cells + 2 + 21 ≤ 20753 by omega) (Nat.le_refl 20753), Nat.le_trans (show slots + 12 + 127 ≤ 125445 by omega) (Nat.le_refl 125445)⟩) (preX_V ZE_ok hP hK hD (ev_at ZE_ok hE hS (w_free hD hS hA)) hP (ci := 1) (q0 := 0) rfl rfl) rfl rfl hl.1 rfl (lv_room (Nat.le_of_ble_eq_true rfl)) dX2_read_68 ⟨Nat.le_trans (show cells + 2 + 21 ≤ 20753 by omega) (Nat.le_refl 20753), Nat.le_trans (show slots + 12 + 127 ≤ 125445 by omega) (Nat.le_refl 125445)⟩) hD hS hA (fun u2 H locs x2 hP hD hS => ?_)
        refine W.eq (g2 := F0 m 71 ls []) rfl ?_
        refine lv_goto (tgt := 54) hx hb dX2_read_71 (by decide) ?_
        exact ih r2 rx u2 _ _ _ _ _ (by omega) (by omega) hN hP hD hS hl kx
set_option maxHeartbeats 40000000 in
theorem weZ_readL {p : Program} {l : Launch} {e : Env} {s0 : State} {m : MethodId} {args : Array Value} {below : List Frame} {meth : Method} {c : Code} {D : va_G} {dA : Nat → ClassId} {A : Nat → Prop} {Qc : Array Value → State → Outcome → State → Prop} {er : Int32 × Int32} (hx : p.tables.exec = Jvm.exec) (hb : c.code = cX2_read) (hml : c.maxLocals = 3) (hown : s0.vm.findClass RX2 = some m.cls) (hts : ∀ w ∈ lw_all, w.before args s0 = true) (hK : KK D dA s0) (hA : ∀ q : Nat, s0.heap.size ≤ q → A q) (hout : ∀ x ∈ c.exceptionTable.toList, False) (hlocks : meth.locks = false) (ka kv : Nat → Nat) (hE : ZE ka kv A s0 s0.heap) (za : Nat → Nat) (tx : AI) (k9 : Int32 × Int32 × Int32) :
    ∀ (k_ : Nat) (v : ZS) (h : ZH) (H : Heap) (locs : List Loc) (ls : Array Slot) (cells slots : Nat), cells + 23 * k_ ≤ 20753 → slots + 139 * k_ ≤ 125445 → loopN k_ (fun v_ => BZ_read tx k9.1 v_) v = some (.inl er) → va_P D clG (zw dA za k9 tx h v) H → va_D A (zw dA za k9 tx h v) → va_S A s0.heap H locs → lv_has ls 3 [(0, .ref (za 0))] →
    W p l e (headSpec (ws_ yX2_read cX2_read 3 (some (.object "LastAsked$City"))) ({ frames := 11, cells := 20753, slots := 125445, locals := 415 })).room s0 m args below meth c H locs cells slots (vy_MQ below Qc (zQ D dA za tx er A) args s0 20753 125445 A) (F0 m 54 ls []) := by
  intro k_
  induction k_ with
  | zero =>
    intro v h H locs ls cells slots hc hs hN
    cases hN
  | succ k_ ih =>
    intro v h H locs ls cells slots hc hs hN hP hD hS hl
    obtain ⟨r_, hM, hN⟩ := b_inv hN
    replace hM : BZ_read tx k9.1 v = some r_ := hM
    unfold BZ_read at hM
    refine lv_aload_n hx hb dX2_read_54 rfl (lv_at hl 0 rfl) ?_
    refine va_get (D := D) (ci := 1) (v := .int v.2.1) (C := RX2) (T := TX2) (N := 11) hx hb hts in_X2 hown hK.1 hP 0 rfl rfl 5 (by decide) (hts _ q231) (fun _ h9 => h9) rfl dX2_read_55 ?_
    refine lv_bipush (v := (59 : Int32)) hx hb dX2_read_58 (by decide) ?_
    refine lv_icmp_ne (tgt := 74) hx hb dX2_read_60 (by decide) (fun c1 => ?_) (fun c1 => ?_)
    · rw [if_neg c1] at hM
      have hM := Option.some.inj hM
      subst hM
      cases hN
    · rw [if_pos c1] at hM
      obtain ⟨r1, er1, hM⟩ := b_inv hM
      refine lv_aload_n hx hb dX2_read_63 rfl (lv_at hl 0 rfl) ?_
      refine k_w (va_runV (As := []) (rest := []) ⟨hx, hb, hml, hown, hts⟩ (ctZ_step l D dA _ za h tx k9 ka kv v r1 er1 ) (cwV 0 hts (lw_V q521 q523 qs4 q114 q524) rfl rfl rfl (by decide +kernel) ⟨Nat.le_trans (show cells + 2 ≤ 20753 by omega) (Nat.le_refl 20753), Nat.le_trans (show slots + 12 ≤ 125445 by omega) (Nat.le_refl 125445)⟩) (preX_V ZE_ok hP hK hD (ev_at ZE_ok hE hS (w_free hD hS hA)) hP (ci := 1) (q0 := 0) rfl rfl) rfl rfl hl.1 rfl (lv_room (Nat.le_of_ble_eq_true rfl)) dX2_read_64 ⟨Nat.le_trans (show cells + 2 ≤ 20753 by omega) (Nat.le_refl 20753), Nat.le_trans (show slots + 12 ≤ 125445 by omega) (Nat.le_refl 125445)⟩) hD hS hA (fun u1 H locs x1 hP hD hS => ?_)
      refine W.eq (g2 := F0 m 67 ls []) rfl ?_
      refine lv_aload_n hx hb dX2_read_67 rfl (lv_at hl 0 rfl) ?_
      obtain ⟨r2_, er2, hM⟩ := b_inv hM
      cases r2_ with
      | inl e9 =>
        dsimp only at hM
        have hM := Option.some.inj hM
        subst hM
        have hN := Sum.inl.inj (Option.some.inj hN)
        subst hN
        exact z_err (vy_runV (As := []) (rest := []) ⟨hx, hb, hml, hown, hts⟩ (ceZ_line l D dA _ za u1 tx k9 ka kv r1 e9 er2 ) (cwV 0 hts (lw_V q615 q617 qs6 q114 q618) rfl rfl rfl (by decide +kernel) ⟨Nat.le_trans (show cells + 2 + 21 ≤ 20753 by omega) (Nat.le_refl 20753), Nat.le_trans (show slots + 12 + 127 ≤ 125445 by omega) (Nat.le_refl 125445)⟩) (preX_V ZE_ok hP hK hD (ev_at ZE_ok hE hS (w_free hD hS hA)) hP (ci := 1) (q0 := 0) rfl rfl) rfl rfl hl.1 rfl (lv_room (Nat.le_of_ble_eq_true rfl)) dX2_read_68 ⟨Nat.le_trans (show cells + 2 + 21 ≤ 20753 by omega) (Nat.le_refl 20753), Nat.le_trans (show slots + 12 + 127 ≤ 125445 by omega) (Nat.le_refl 125445)⟩) hD hS hA hout hlocks (by omega) (by omega)
      | inr r2 =>
        dsimp only at hM
        have hM := Option.some.inj hM
        subst hM
        replace hN : loopN k_ (fun v_ => BZ_read tx k9.1 v_) r2 = some (.inl er) := hN
        refine k_w (va_runV (As := []) (rest := []) ⟨hx, hb, hml, hown, hts⟩ (ctZ_line l D dA _ za u1 tx k9 ka kv r1 r2 er2 ) (cwV 0 hts (lw_V q615 q617 qs6 q114 q618) rfl rfl rfl (by decide +kernel) ⟨Nat.le_trans (show cells + 2 + 21 ≤ 20753 by omega) (Nat.le_refl 20753), Nat.le_trans (show slots + 12 + 127 ≤ 125445 by omega) (Nat.le_refl 125445)⟩) (preX_V ZE_ok hP hK hD (ev_at ZE_ok hE hS (w_free hD hS hA)) hP (ci := 1) (q0 := 0) rfl rfl) rfl rfl hl.1 rfl (lv_room (Nat.le_of_ble_eq_true rfl)) dX2_read_68 ⟨Nat.le_trans (show cells + 2 + 21 ≤ 20753 by omega) (Nat.le_refl 20753), Nat.le_trans (show slots + 12 + 127 ≤ 125445 by omega) (Nat.le_refl 125445)⟩) hD hS hA (fun u2 H locs x2 hP hD hS => ?_)
        refine W.eq (g2 := F0 m 71 ls []) rfl ?_
        refine lv_goto (tgt := 54) hx hb dX2_read_71 (by decide) ?_
        exact ih r2 u2 _ _ _ _ _ (by omega) (by omega) hN hP hD hS hl
set_option maxHeartbeats 40000000 in
theorem ctZ_read (l : Launch) (D : va_G) (dA : Nat → ClassId) (sz : Nat) (za : Nat → Nat) (tx le : AI) (n f0 p0 z_size z_end z_token z_at z_whole : Int32) (z_word z_city z_asker : Value) (ka kv : Nat → Nat) (r : ZS) (hM : MZ_read tx n (rs0 z_token z_at z_whole le (hsF (fun _ => 0) 36)) = some (.inr r)) : Met l yX2_read (ws_ yX2_read cX2_read 3 (some (.object "LastAsked$City"))) ({ frames := 11, cells := 20753, slots := 125445, locals := 415 }) (preX D dA (ZE ka kv) [.ref (za 0), .int n] [(za 0, .inr (1, [.ref (za 1), .ref (za 2), .ref (za 3), .int z_size, .int z_end, .int z_token, .int z_at, .int z_whole, z_word, z_city, z_asker])), (za 1, .inr (2, [.null, .null, .null, .null, .null, .int 0, .int f0, .int p0])), (za 2, .inl (dA 2, 900, .inl tx)), (za 3, .inl (dA 3, 8, .inl le))] sz) (qz_ D (fun (u : (Nat → Nat) × ZH) => some (.ref (u.1 4))) (fun u => u.1 0 = za 0 ∧ u.1 1 = za 1 ∧ u.1 2 = za 2 ∧ u.1 3 = za 3) (fun u => zw dA u.1 (n, f0, p0) tx u.2 r) (va_A [(za 0, .inr (1, [.ref (za 1), .ref (za 2), .ref (za 3), .int z_size, .int z_end, .int z_token, .int z_at, .int z_whole, z_word, z_city, z_asker])), (za 1, .inr (2, [.null, .null, .null, .null, .null, .int 0, .int f0, .int p0])), (za 2, .inl (dA 2, 900, .inl tx)), (za 3, .inl (dA 3, 8, .inl le))] sz)) 20753 125445 (va_A [(za 0, .inr (1, [.ref (za 1), .ref (za 2), .ref (za 3), .int z_size, .int z_end, .int z_token, .int z_at, .int z_whole, z_word, z_city, z_asker])), (za 1, .inr (2, [.null, .null, .null, .null, .null, .int 0, .int f0, .int p0])), (za 2, .inl (dA 2, 900, .inl tx)), (za 3, .inl (dA 3, 8, .inl le))] sz) := by
  refine Met.ofW (cc := cX2_read) (maxL := 3) (ret := (some (.object "LastAsked$City"))) (by decide) rfl ?_
  intro p e s0 m args below meth c s₁ B hml hv
  obtain ⟨rfl, hsz, hP, hK, hD0, hE⟩ := hv
  have hx := B.exec
  have hb := B.bytes
  have hr := B.returns
  have hts := atoms_spec (ws := (ws_ yX2_read cX2_read 3 (some (.object "LastAsked$City")))) B.pre
  have hts : ∀ w ∈ lw_all, w.before _ s0 = true := fun w h => hts w (List.mem_cons_of_mem _ h)
  have hown : s0.vm.findClass RX2 = some m.cls := findClass_of_methodNamed B.named
  have hlocks := B.notSynchronized
  subst hsz
  have hD := hD0.self (sz := s0.heap.size)
  generalize hAe : va_A [(za 0, .inr (1, [.ref (za 1), .ref (za 2), .ref (za 3), .int z_size, .int z_end, .int z_token, .int z_at, .int z_whole, z_word, z_city, z_asker])), (za 1, .inr (2, [.null, .null, .null, .null, .null, .int 0, .int f0, .int p0])), (za 2, .inl (dA 2, 900, .inl tx)), (za 3, .inl (dA 3, 8, .inl le))] s0.heap.size = A at hD hE ⊢
  have hA : ∀ q : Nat, s0.heap.size ≤ q → A q := fun q h => by rw [← hAe]; exact Or.inr h
  have hS : va_S A s0.heap s0.heap [] := va_S.rf
  have hl := lv_entry ([.ref (za 0), .int n]) (n := 3) (Nat.le_of_ble_eq_true rfl)
  rw [lg_entry_eq]
  generalize (lg_sl ([.ref (za 0), .int n]) ++ List.replicate (3 - (lg_sl ([.ref (za 0), .int n])).length) Slot.unset).toArray = ls at hl ⊢
  have hl : lv_has ls 3 [(0, .ref (za 0)), (1, .int n)] := hl
  refine lv_aload_n hx hb dX2_read_0 rfl (lv_at hl 0 rfl) ?_
  refine lv_iload_n hx hb dX2_read_1 rfl (lv_at hl 1 rfl) ?_
  refine va_put (D := D) (ci := 1) (v := .int n) (ty := .int) (C := RX2) (T := TX2) (N := 11) hx hb hts in_X2 tyX2 tyX2_ok nmX2 hown hK.1 hP hD hS 0 rfl rfl 3 (by decide) (hts _ q229) (fun _ h9 => h9) rfl (by decide +kernel) rfl rfl (Nat.le_of_ble_eq_true rfl) dX2_read_2 (fun H locs hP hD hS => ?_)
  have hP : va_P D clG [(za 0, .inr (1, [.ref (za 1), .ref (za 2), .ref (za 3), .int n, .int z_end, .int z_token, .int z_at, .int z_whole, z_word, z_city, z_asker])), (za 1, .inr (2, [.null, .null, .null, .null, .null, .int 0, .int f0, .int p0])), (za 2, .inl (dA 2, 900, .inl tx)), (za 3, .inl (dA 3, 8, .inl le))] H := hP
  have hD : va_D A [(za 0, .inr (1, [.ref (za 1), .ref (za 2), .ref (za 3), .int n, .int z_end, .int z_token, .int z_at, .int z_whole, z_word, z_city, z_asker])), (za 1, .inr (2, [.null, .null, .null, .null, .null, .int 0, .int f0, .int p0])), (za 2, .inl (dA 2, 900, .inl tx)), (za 3, .inl (dA 3, 8, .inl le))] := hD
  refine lv_aload_n hx hb dX2_read_5 rfl (lv_at hl 0 rfl) ?_
  refine lv_iconst (v := (0 : Int32)) hx hb dX2_read_6 (by decide) ?_
  refine va_put (D := D) (ci := 1) (v := .int 0) (ty := .int) (C := RX2) (T := TX2) (N := 11) hx hb hts in_X2 tyX2 tyX2_ok nmX2 hown hK.1 hP hD hS 0 rfl rfl 4 (by decide) (hts _ q230) (fun _ h9 => h9) rfl (by decide +kernel) rfl rfl (Nat.le_of_ble_eq_true rfl) dX2_read_7 (fun H locs hP hD hS => ?_)
  have hP : va_P D clG [(za 0, .inr (1, [.ref (za 1), .ref (za 2), .ref (za 3), .int n, .int 0, .int z_token, .int z_at, .int z_whole, z_word, z_city, z_asker])), (za 1, .inr (2, [.null, .null, .null, .null, .null, .int 0, .int f0, .int p0])), (za 2, .inl (dA 2, 900, .inl tx)), (za 3, .inl (dA 3, 8, .inl le))] H := hP
  have hD : va_D A [(za 0, .inr (1, [.ref (za 1), .ref (za 2), .ref (za 3), .int n, .int 0, .int z_token, .int z_at, .int z_whole, z_word, z_city, z_asker])), (za 1, .inr (2, [.null, .null, .null, .null, .null, .int 0, .int f0, .int p0])), (za 2, .inl (dA 2, 900, .inl tx)), (za 3, .inl (dA 3, 8, .inl le))] := hD
  refine lv_aload_n hx hb dX2_read_10 rfl (lv_at hl 0 rfl) ?_
  refine va_new (ci := 6) (fs := [.null, .null, .null, .null, .null, .null, .int 0, .int 0, .int 0, .int 0, .int 0, .int 0, .int 0]) (C := RX8) (T := TX8) (N := 13) hx hb hts in_X8 tyX8 tyX8_ok hown (hts _ q447) (hts _ q448) (hts _ q123) hK.1 hP hD hS hA rfl (fs_of rfl) (Nat.le_of_ble_eq_true rfl) (Nat.le_of_ble_eq_true rfl) dX2_read_11 (fun q1 H hP hD hS => ?_)
  have hP : va_P D clG [(za 0, .inr (1, [.ref (za 1), .ref (za 2), .ref (za 3), .int n, .int 0, .int z_token, .int z_at, .int z_whole, z_word, z_city, z_asker])), (za 1, .inr (2, [.null, .null, .null, .null, .null, .int 0, .int f0, .int p0])), (za 2, .inl (dA 2, 900, .inl tx)), (za 3, .inl (dA 3, 8, .inl le)), (q1, .inr (6, [.null, .null, .null, .null, .null, .null, .int 0, .int 0, .int 0, .int 0, .int 0, .int 0, .int 0]))] H := hP
  have hD : va_D A [(za 0, .inr (1, [.ref (za 1), .ref (za 2), .ref (za 3), .int n, .int 0, .int z_token, .int z_at, .int z_whole, z_word, z_city, z_asker])), (za 1, .inr (2, [.null, .null, .null, .null, .null, .int 0, .int f0, .int p0])), (za 2, .inl (dA 2, 900, .inl tx)), (za 3, .inl (dA 3, 8, .inl le)), (q1, .inr (6, [.null, .null, .null, .null, .null, .null, .int 0, .int 0, .int 0, .int 0, .int 0, .int 0, .int 0]))] := hD
  refine W.widen (k := 1) (n := 13) (Nat.le_of_ble_eq_true rfl) (Nat.le_of_ble_eq_true rfl) ?_
  refine lv_dup hx hb dX2_read_14 rfl ?_
  refine k_v [4] (va_runIN (As := []) (rest := [.ref q1, .ref (za 0)]) ⟨hx, hb, hml, hown, hts⟩ (ctX8_init l D dA _ q1 0 0 0 0 0 0 0 .null .null .null .null .null .null (-1) rfl) ⟨va_cnB 0 hts (lw_meth q451) rfl rfl rfl (hK.nw 11 rfl) (hts _ q123) (by decide +kernel) ⟨Nat.le_of_ble_eq_true rfl, Nat.le_of_ble_eq_true rfl⟩, rfl, hts _ q450⟩ (pre_S (hP.sub [4] rfl) hK (hD.sub [4] (by decide) rfl)) rfl rfl hl.1 rfl (lv_room (Nat.le_of_ble_eq_true rfl)) dX2_read_15 ⟨Nat.le_of_ble_eq_true rfl, Nat.le_of_ble_eq_true rfl⟩) hP hD hS hA rfl (fun _ => rfl) (fun u5 H locs hP hD hS => ?_)
  have hP : va_P D clG [(za 0, .inr (1, [.ref (za 1), .ref (za 2), .ref (za 3), .int n, .int 0, .int z_token, .int z_at, .int z_whole, z_word, z_city, z_asker])), (za 1, .inr (2, [.null, .null, .null, .null, .null, .int 0, .int f0, .int p0])), (za 2, .inl (dA 2, 900, .inl tx)), (za 3, .inl (dA 3, 8, .inl le)), (q1, .inr (6, [.ref u5.1, .ref u5.2.1, .ref u5.2.2.1, .ref u5.2.2.2.1, .ref u5.2.2.2.2.1, .ref u5.2.2.2.2.2, .int (-1), .int 0, .int 0, .int 0, .int 0, .int 0, .int 0])), (u5.1, .inl (dA 4, 6, .inr (.inr (.inr (.inr (fun _ => none)))))), (u5.2.1, .inl (dA 0, 36, .inl (fun _ => 0))), (u5.2.2.1, .inl (dA 0, 3, .inl (fun _ => 0))), (u5.2.2.2.1, .inl (dA 0, 3, .inl (fun _ => 0))), (u5.2.2.2.2.1, .inl (dA 0, 3, .inl (fun _ => 0))), (u5.2.2.2.2.2, .inl (dA 0, 3, .inl (fun _ => 0)))] H := hP
  have hD : va_D A [(za 0, .inr (1, [.ref (za 1), .ref (za 2), .ref (za 3), .int n, .int 0, .int z_token, .int z_at, .int z_whole, z_word, z_city, z_asker])), (za 1, .inr (2, [.null, .null, .null, .null, .null, .int 0, .int f0, .int p0])), (za 2, .inl (dA 2, 900, .inl tx)), (za 3, .inl (dA 3, 8, .inl le)), (q1, .inr (6, [.ref u5.1, .ref u5.2.1, .ref u5.2.2.1, .ref u5.2.2.2.1, .ref u5.2.2.2.2.1, .ref u5.2.2.2.2.2, .int (-1), .int 0, .int 0, .int 0, .int 0, .int 0, .int 0])), (u5.1, .inl (dA 4, 6, .inr (.inr (.inr (.inr (fun _ => none)))))), (u5.2.1, .inl (dA 0, 36, .inl (fun _ => 0))), (u5.2.2.1, .inl (dA 0, 3, .inl (fun _ => 0))), (u5.2.2.2.1, .inl (dA 0, 3, .inl (fun _ => 0))), (u5.2.2.2.2.1, .inl (dA 0, 3, .inl (fun _ => 0))), (u5.2.2.2.2.2, .inl (dA 0, 3, .inl (fun _ => 0)))] := hD
  refine W.widen (k := 7) (n := 67) (Nat.le_of_ble_eq_true rfl) (Nat.le_of_ble_eq_true rfl) ?_
  refine va_put (D := D) (ci := 1) (v := .ref q1) (ty := (.object "LastAsked$City")) (C := RX2) (T := TX2) (N := 11) hx hb hts in_X2 tyX2 tyX2_ok nmX2 hown hK.1 hP hD hS 0 rfl rfl 9 (by decide) (hts _ q235) (fun _ h9 => h9) rfl (by decide +kernel) rfl rfl (Nat.le_of_ble_eq_true rfl) dX2_read_18 (fun H locs hP hD hS => ?_)
  have hP : va_P D clG (zw dA (zaN za q1 u5.1 u5.2.1 u5.2.2.1 u5.2.2.2.1 u5.2.2.2.2.1 u5.2.2.2.2.2) (n, f0, p0) tx (hs0 z_word z_asker) (rs0 z_token z_at z_whole le (fun _ => 0))) H := by rw [rd_new]; exact hP
  have hD : va_D A (zw dA (zaN za q1 u5.1 u5.2.1 u5.2.2.1 u5.2.2.2.1 u5.2.2.2.2.1 u5.2.2.2.2.2) (n, f0, p0) tx (hs0 z_word z_asker) (rs0 z_token z_at z_whole le (fun _ => 0))) := by rw [rd_new]; exact hD
  have hl : lv_has ls 3 [(0, .ref ((zaN za q1 u5.1 u5.2.1 u5.2.2.1 u5.2.2.2.1 u5.2.2.2.2.1 u5.2.2.2.2.2) 0)), (1, .int n)] := hl
  refine lv_iconst (v := (0 : Int32)) hx hb dX2_read_21 (by decide) ?_
  refine lv_istore_n (lv' := [(2, .int (nI 0)), (0, .ref ((zaN za q1 u5.1 u5.2.1 u5.2.2.1 u5.2.2.2.1 u5.2.2.2.2.1 u5.2.2.2.2.2) 0)), (1, .int n)]) hx hb dX2_read_22 rfl hl (by decide) rfl (fun ls hl => ?_)
  refine wZ_readH hx hb hml hown hts hK hA (zaN za q1 u5.1 u5.2.1 u5.2.2.1 u5.2.2.2.1 u5.2.2.2.2.1 u5.2.2.2.2.2) tx (n, f0, p0) z_token z_at z_whole le z_word z_asker (fun _ => 0) (.int n) 36 0 rfl _ _ _ hP hD hS hl (fun H locs ls hP hD hS hl => ?_)
  have hP : va_P D clG (zw dA (zaN za q1 u5.1 u5.2.1 u5.2.2.1 u5.2.2.2.1 u5.2.2.2.2.1 u5.2.2.2.2.2) (n, f0, p0) tx (hs0 z_word z_asker) (rs0 z_token z_at z_whole le (hsF (fun _ => 0) 36))) H := hP
  have hD : va_D A (zw dA (zaN za q1 u5.1 u5.2.1 u5.2.2.1 u5.2.2.2.1 u5.2.2.2.2.1 u5.2.2.2.2.2) (n, f0, p0) tx (hs0 z_word z_asker) (rs0 z_token z_at z_whole le (hsF (fun _ => 0) 36))) := hD
  obtain ⟨zb, hzb⟩ : ∃ zb, zb = (zaN za q1 u5.1 u5.2.1 u5.2.2.1 u5.2.2.2.1 u5.2.2.2.2.1 u5.2.2.2.2.2) := ⟨_, rfl⟩
  rw [← hzb] at hP hD hl
  have hz0 : zb 0 = za 0 := by rw [hzb]; rfl
  have hz1 : zb 1 = za 1 := by rw [hzb]; rfl
  have hz2 : zb 2 = za 2 := by rw [hzb]; rfl
  have hz3 : zb 3 = za 3 := by rw [hzb]; rfl
  clear hzb
  obtain ⟨s_, hs_⟩ : ∃ s_, s_ = (rs0 z_token z_at z_whole le (hsF (fun _ => 0) 36)) := ⟨_, rfl⟩
  rw [← hs_] at hP hD hM
  generalize hs0 z_word z_asker = h at hP hD
  obtain ⟨k9, hk9⟩ : ∃ k9 : Int32 × Int32 × Int32, k9 = (n, f0, p0) := ⟨_, rfl⟩
  rw [← hk9] at hP hD
  have hkn : n = k9.1 := by rw [hk9]
  rw [hkn] at hM
  unfold MZ_read at hM
  refine lv_aload_n hx hb dX2_read_46 rfl (lv_at hl 0 rfl) ?_
  obtain ⟨r1, er1, hM⟩ := b_inv hM
  refine k_w (va_runV (As := []) (rest := []) ⟨hx, hb, hml, hown, hts⟩ (ctZ_step l D dA _ zb h tx k9 ka kv s_ r1 er1 ) (cwV 0 hts (lw_V q521 q523 qs4 q114 q524) rfl rfl rfl (by decide +kernel) ⟨Nat.le_of_ble_eq_true rfl, Nat.le_of_ble_eq_true rfl⟩) (preX_V ZE_ok hP hK hD (ev_at ZE_ok hE hS (w_free hD hS hA)) hP (ci := 1) (q0 := 0) rfl rfl) rfl rfl hl.1 rfl (lv_room (Nat.le_of_ble_eq_true rfl)) dX2_read_47 ⟨Nat.le_of_ble_eq_true rfl, Nat.le_of_ble_eq_true rfl⟩) hD hS hA (fun u1 H locs x1 hP hD hS => ?_)
  refine W.eq (g2 := F0 m 50 ls []) rfl ?_
  refine lv_aload_n hx hb dX2_read_50 rfl (lv_at hl 0 rfl) ?_
  obtain ⟨r2_, er2, hM⟩ := b_inv hM
  cases r2_ with
  | inl e9 =>
    dsimp only at hM
    cases hM
  | inr r2 =>
    dsimp only at hM
    refine k_w (va_runV (As := []) (rest := []) ⟨hx, hb, hml, hown, hts⟩ (ctZ_line l D dA _ zb u1 tx k9 ka kv r1 r2 er2 ) (cwV 0 hts (lw_V q615 q617 qs6 q114 q618) rfl rfl rfl (by decide +kernel) ⟨Nat.le_of_ble_eq_true rfl, Nat.le_of_ble_eq_true rfl⟩) (preX_V ZE_ok hP hK hD (ev_at ZE_ok hE hS (w_free hD hS hA)) hP (ci := 1) (q0 := 0) rfl rfl) rfl rfl hl.1 rfl (lv_room (Nat.le_of_ble_eq_true rfl)) dX2_read_51 ⟨Nat.le_of_ble_eq_true rfl, Nat.le_of_ble_eq_true rfl⟩) hD hS hA (fun u2 H locs x2 hP hD hS => ?_)
    refine W.eq (g2 := F0 m 54 ls []) rfl ?_
    obtain ⟨y, ey, hM⟩ := b_inv hM
    cases y with
    | inl e9 =>
      dsimp only at hM
      cases hM
    | inr rx =>
      dsimp only at hM
      refine wZ_readL hx hb hml hown hts hK hA ka kv hE zb tx k9 901 r2 rx u2 _ _ _ _ _ (Nat.le_of_ble_eq_true rfl) (Nat.le_of_ble_eq_true rfl) ey hP hD hS hl (fun u3 H locs ls hP hD hS hl => ?_)
      have hM := Option.some.inj hM
      unfold endR at hM
      refine lv_aload_n hx hb dX2_read_74 rfl (lv_at hl 0 rfl) ?_
      refine va_get (D := D) (ci := 1) (v := .int rx.2.1) (C := RX2) (T := TX2) (N := 11) hx hb hts in_X2 hown hK.1 hP 0 rfl rfl 5 (by decide) (hts _ q231) (fun _ h9 => h9) rfl dX2_read_75 ?_
      refine lv_if_eq (tgt := 87) hx hb dX2_read_78 (by decide) (fun c1 => ?_) (fun c1 => ?_)
      · rw [if_pos c1] at hM
        refine lv_aload_n hx hb dX2_read_87 rfl (lv_at hl 0 rfl) ?_
        refine va_get (D := D) (ci := 1) (v := .ref (zb 4)) (C := RX2) (T := TX2) (N := 11) hx hb hts in_X2 hown hK.1 hP 0 rfl rfl 9 (by decide) (hts _ q235) (fun _ h9 => h9) rfl dX2_read_88 ?_
        refine va_get (D := D) (ci := 6) (v := .int rx.2.2.2.2.2.2.2.1) (C := RX8) (T := TX8) (N := 13) hx hb hts in_X8 hown hK.1 hP 4 rfl rfl 6 (by decide) (hts _ q476) (fun _ h9 => h9) rfl dX2_read_91 ?_
        refine lv_if_lt (tgt := 107) hx hb dX2_read_94 (by decide) (fun c2 => ?_) (fun c2 => ?_)
        · rw [if_pos c2] at hM
          cases hM
        · rw [if_neg c2] at hM
          refine lv_aload_n hx hb dX2_read_97 rfl (lv_at hl 0 rfl) ?_
          refine va_get (D := D) (ci := 1) (v := .ref (zb 4)) (C := RX2) (T := TX2) (N := 11) hx hb hts in_X2 hown hK.1 hP 0 rfl rfl 9 (by decide) (hts _ q235) (fun _ h9 => h9) rfl dX2_read_98 ?_
          refine va_get (D := D) (ci := 6) (v := .int rx.2.2.2.2.2.2.2.2.2.1) (C := RX8) (T := TX8) (N := 13) hx hb hts in_X8 hown hK.1 hP 4 rfl rfl 8 (by decide) (hts _ q485) (fun _ h9 => h9) rfl dX2_read_101 ?_
          refine lv_if_ne (tgt := 114) hx hb dX2_read_104 (by decide) (fun c3 => ?_) (fun c3 => ?_)
          · rw [if_neg c3] at hM
            have hM := Sum.inr.inj hM
            subst hM
            refine lv_aload_n hx hb dX2_read_114 rfl (lv_at hl 0 rfl) ?_
            refine va_get (D := D) (ci := 1) (v := .ref (zb 4)) (C := RX2) (T := TX2) (N := 11) hx hb hts in_X2 hown hK.1 hP 0 rfl rfl 9 (by decide) (hts _ q235) (fun _ h9 => h9) rfl dX2_read_115 ?_
            exact W.aret (v := .ref (zb 4)) hx hb hr (Or.inl ⟨_, rfl⟩) (Or.inr ⟨_, rfl⟩) (fun t ht hW => ⟨⟨(zb, u3), rfl, ⟨hz0, hz1, hz2, hz3⟩, by rw [ht, ← hk9]; exact hP, by rw [← hk9]; exact hD⟩, hS.F ht⟩) hS.2.2 dX2_read_118
          · rw [if_pos c3] at hM
            cases hM
      · rw [if_neg c1] at hM
        cases hM
set_option maxHeartbeats 40000000 in
theorem ceZ_read (l : Launch) (D : va_G) (dA : Nat → ClassId) (sz : Nat) (za : Nat → Nat) (tx le : AI) (n f0 p0 z_size z_end z_token z_at z_whole : Int32) (z_word z_city z_asker : Value) (ka kv : Nat → Nat) (er : Int32 × Int32) (hM : MZ_read tx n (rs0 z_token z_at z_whole le (hsF (fun _ => 0) 36)) = some (.inl er)) : vy_Met l yX2_read (ws_ yX2_read cX2_read 3 (some (.object "LastAsked$City"))) ({ frames := 11, cells := 20753, slots := 125445, locals := 415 }) (preX D dA (ZE ka kv) [.ref (za 0), .int n] [(za 0, .inr (1, [.ref (za 1), .ref (za 2), .ref (za 3), .int z_size, .int z_end, .int z_token, .int z_at, .int z_whole, z_word, z_city, z_asker])), (za 1, .inr (2, [.null, .null, .null, .null, .null, .int 0, .int f0, .int p0])), (za 2, .inl (dA 2, 900, .inl tx)), (za 3, .inl (dA 3, 8, .inl le))] sz) (fun _ _ _ _ => False) (zQ D dA za tx er (va_A [(za 0, .inr (1, [.ref (za 1), .ref (za 2), .ref (za 3), .int z_size, .int z_end, .int z_token, .int z_at, .int z_whole, z_word, z_city, z_asker])), (za 1, .inr (2, [.null, .null, .null, .null, .null, .int 0, .int f0, .int p0])), (za 2, .inl (dA 2, 900, .inl tx)), (za 3, .inl (dA 3, 8, .inl le))] sz)) 20753 125445 (va_A [(za 0, .inr (1, [.ref (za 1), .ref (za 2), .ref (za 3), .int z_size, .int z_end, .int z_token, .int z_at, .int z_whole, z_word, z_city, z_asker])), (za 1, .inr (2, [.null, .null, .null, .null, .null, .int 0, .int f0, .int p0])), (za 2, .inl (dA 2, 900, .inl tx)), (za 3, .inl (dA 3, 8, .inl le))] sz) := by
  refine vy_ofW (cc := cX2_read) (maxL := 3) (ret := (some (.object "LastAsked$City"))) (by decide) rfl ?_
  intro p e s0 m args below meth c s₁ B hml hout hv
  obtain ⟨rfl, hsz, hP, hK, hD0, hE⟩ := hv
  have hx := B.exec
  have hb := B.bytes
  have hr := B.returns
  have hts := atoms_spec (ws := (ws_ yX2_read cX2_read 3 (some (.object "LastAsked$City")))) B.pre
  have hts : ∀ w ∈ lw_all, w.before _ s0 = true := fun w h => hts w (List.mem_cons_of_mem _ h)
  have hown : s0.vm.findClass RX2 = some m.cls := findClass_of_methodNamed B.named
  have hlocks := B.notSynchronized
  subst hsz
  have hD := hD0.self (sz := s0.heap.size)
  generalize hAe : va_A [(za 0, .inr (1, [.ref (za 1), .ref (za 2), .ref (za 3), .int z_size, .int z_end, .int z_token, .int z_at, .int z_whole, z_word, z_city, z_asker])), (za 1, .inr (2, [.null, .null, .null, .null, .null, .int 0, .int f0, .int p0])), (za 2, .inl (dA 2, 900, .inl tx)), (za 3, .inl (dA 3, 8, .inl le))] s0.heap.size = A at hD hE ⊢
  have hA : ∀ q : Nat, s0.heap.size ≤ q → A q := fun q h => by rw [← hAe]; exact Or.inr h
  have hS : va_S A s0.heap s0.heap [] := va_S.rf
  have hl := lv_entry ([.ref (za 0), .int n]) (n := 3) (Nat.le_of_ble_eq_true rfl)
  rw [lg_entry_eq]
  generalize (lg_sl ([.ref (za 0), .int n]) ++ List.replicate (3 - (lg_sl ([.ref (za 0), .int n])).length) Slot.unset).toArray = ls at hl ⊢
  have hl : lv_has ls 3 [(0, .ref (za 0)), (1, .int n)] := hl
  refine lv_aload_n hx hb dX2_read_0 rfl (lv_at hl 0 rfl) ?_
  refine lv_iload_n hx hb dX2_read_1 rfl (lv_at hl 1 rfl) ?_
  refine va_put (D := D) (ci := 1) (v := .int n) (ty := .int) (C := RX2) (T := TX2) (N := 11) hx hb hts in_X2 tyX2 tyX2_ok nmX2 hown hK.1 hP hD hS 0 rfl rfl 3 (by decide) (hts _ q229) (fun _ h9 => h9) rfl (by decide +kernel) rfl rfl (Nat.le_of_ble_eq_true rfl) dX2_read_2 (fun H locs hP hD hS => ?_)
  have hP : va_P D clG [(za 0, .inr (1, [.ref (za 1), .ref (za 2), .ref (za 3), .int n, .int z_end, .int z_token, .int z_at, .int z_whole, z_word, z_city, z_asker])), (za 1, .inr (2, [.null, .null, .null, .null, .null, .int 0, .int f0, .int p0])), (za 2, .inl (dA 2, 900, .inl tx)), (za 3, .inl (dA 3, 8, .inl le))] H := hP
  have hD : va_D A [(za 0, .inr (1, [.ref (za 1), .ref (za 2), .ref (za 3), .int n, .int z_end, .int z_token, .int z_at, .int z_whole, z_word, z_city, z_asker])), (za 1, .inr (2, [.null, .null, .null, .null, .null, .int 0, .int f0, .int p0])), (za 2, .inl (dA 2, 900, .inl tx)), (za 3, .inl (dA 3, 8, .inl le))] := hD
  refine lv_aload_n hx hb dX2_read_5 rfl (lv_at hl 0 rfl) ?_
  refine lv_iconst (v := (0 : Int32)) hx hb dX2_read_6 (by decide) ?_
  refine va_put (D := D) (ci := 1) (v := .int 0) (ty := .int) (C := RX2) (T := TX2) (N := 11) hx hb hts in_X2 tyX2 tyX2_ok nmX2 hown hK.1 hP hD hS 0 rfl rfl 4 (by decide) (hts _ q230) (fun _ h9 => h9) rfl (by decide +kernel) rfl rfl (Nat.le_of_ble_eq_true rfl) dX2_read_7 (fun H locs hP hD hS => ?_)
  have hP : va_P D clG [(za 0, .inr (1, [.ref (za 1), .ref (za 2), .ref (za 3), .int n, .int 0, .int z_token, .int z_at, .int z_whole, z_word, z_city, z_asker])), (za 1, .inr (2, [.null, .null, .null, .null, .null, .int 0, .int f0, .int p0])), (za 2, .inl (dA 2, 900, .inl tx)), (za 3, .inl (dA 3, 8, .inl le))] H := hP
  have hD : va_D A [(za 0, .inr (1, [.ref (za 1), .ref (za 2), .ref (za 3), .int n, .int 0, .int z_token, .int z_at, .int z_whole, z_word, z_city, z_asker])), (za 1, .inr (2, [.null, .null, .null, .null, .null, .int 0, .int f0, .int p0])), (za 2, .inl (dA 2, 900, .inl tx)), (za 3, .inl (dA 3, 8, .inl le))] := hD
  refine lv_aload_n hx hb dX2_read_10 rfl (lv_at hl 0 rfl) ?_
  refine va_new (ci := 6) (fs := [.null, .null, .null, .null, .null, .null, .int 0, .int 0, .int 0, .int 0, .int 0, .int 0, .int 0]) (C := RX8) (T := TX8) (N := 13) hx hb hts in_X8 tyX8 tyX8_ok hown (hts _ q447) (hts _ q448) (hts _ q123) hK.1 hP hD hS hA rfl (fs_of rfl) (Nat.le_of_ble_eq_true rfl) (Nat.le_of_ble_eq_true rfl) dX2_read_11 (fun q1 H hP hD hS => ?_)
  have hP : va_P D clG [(za 0, .inr (1, [.ref (za 1), .ref (za 2), .ref (za 3), .int n, .int 0, .int z_token, .int z_at, .int z_whole, z_word, z_city, z_asker])), (za 1, .inr (2, [.null, .null, .null, .null, .null, .int 0, .int f0, .int p0])), (za 2, .inl (dA 2, 900, .inl tx)), (za 3, .inl (dA 3, 8, .inl le)), (q1, .inr (6, [.null, .null, .null, .null, .null, .null, .int 0, .int 0, .int 0, .int 0, .int 0, .int 0, .int 0]))] H := hP
  have hD : va_D A [(za 0, .inr (1, [.ref (za 1), .ref (za 2), .ref (za 3), .int n, .int 0, .int z_token, .int z_at, .int z_whole, z_word, z_city, z_asker])), (za 1, .inr (2, [.null, .null, .null, .null, .null, .int 0, .int f0, .int p0])), (za 2, .inl (dA 2, 900, .inl tx)), (za 3, .inl (dA 3, 8, .inl le)), (q1, .inr (6, [.null, .null, .null, .null, .null, .null, .int 0, .int 0, .int 0, .int 0, .int 0, .int 0, .int 0]))] := hD
  refine W.widen (k := 1) (n := 13) (Nat.le_of_ble_eq_true rfl) (Nat.le_of_ble_eq_true rfl) ?_
  refine lv_dup hx hb dX2_read_14 rfl ?_
  refine k_v [4] (va_runIN (As := []) (rest := [.ref q1, .ref (za 0)]) ⟨hx, hb, hml, hown, hts⟩ (ctX8_init l D dA _ q1 0 0 0 0 0 0 0 .null .null .null .null .null .null (-1) rfl) ⟨va_cnB 0 hts (lw_meth q451) rfl rfl rfl (hK.nw 11 rfl) (hts _ q123) (by decide +kernel) ⟨Nat.le_of_ble_eq_true rfl, Nat.le_of_ble_eq_true rfl⟩, rfl, hts _ q450⟩ (pre_S (hP.sub [4] rfl) hK (hD.sub [4] (by decide) rfl)) rfl rfl hl.1 rfl (lv_room (Nat.le_of_ble_eq_true rfl)) dX2_read_15 ⟨Nat.le_of_ble_eq_true rfl, Nat.le_of_ble_eq_true rfl⟩) hP hD hS hA rfl (fun _ => rfl) (fun u5 H locs hP hD hS => ?_)
  have hP : va_P D clG [(za 0, .inr (1, [.ref (za 1), .ref (za 2), .ref (za 3), .int n, .int 0, .int z_token, .int z_at, .int z_whole, z_word, z_city, z_asker])), (za 1, .inr (2, [.null, .null, .null, .null, .null, .int 0, .int f0, .int p0])), (za 2, .inl (dA 2, 900, .inl tx)), (za 3, .inl (dA 3, 8, .inl le)), (q1, .inr (6, [.ref u5.1, .ref u5.2.1, .ref u5.2.2.1, .ref u5.2.2.2.1, .ref u5.2.2.2.2.1, .ref u5.2.2.2.2.2, .int (-1), .int 0, .int 0, .int 0, .int 0, .int 0, .int 0])), (u5.1, .inl (dA 4, 6, .inr (.inr (.inr (.inr (fun _ => none)))))), (u5.2.1, .inl (dA 0, 36, .inl (fun _ => 0))), (u5.2.2.1, .inl (dA 0, 3, .inl (fun _ => 0))), (u5.2.2.2.1, .inl (dA 0, 3, .inl (fun _ => 0))), (u5.2.2.2.2.1, .inl (dA 0, 3, .inl (fun _ => 0))), (u5.2.2.2.2.2, .inl (dA 0, 3, .inl (fun _ => 0)))] H := hP
  have hD : va_D A [(za 0, .inr (1, [.ref (za 1), .ref (za 2), .ref (za 3), .int n, .int 0, .int z_token, .int z_at, .int z_whole, z_word, z_city, z_asker])), (za 1, .inr (2, [.null, .null, .null, .null, .null, .int 0, .int f0, .int p0])), (za 2, .inl (dA 2, 900, .inl tx)), (za 3, .inl (dA 3, 8, .inl le)), (q1, .inr (6, [.ref u5.1, .ref u5.2.1, .ref u5.2.2.1, .ref u5.2.2.2.1, .ref u5.2.2.2.2.1, .ref u5.2.2.2.2.2, .int (-1), .int 0, .int 0, .int 0, .int 0, .int 0, .int 0])), (u5.1, .inl (dA 4, 6, .inr (.inr (.inr (.inr (fun _ => none)))))), (u5.2.1, .inl (dA 0, 36, .inl (fun _ => 0))), (u5.2.2.1, .inl (dA 0, 3, .inl (fun _ => 0))), (u5.2.2.2.1, .inl (dA 0, 3, .inl (fun _ => 0))), (u5.2.2.2.2.1, .inl (dA 0, 3, .inl (fun _ => 0))), (u5.2.2.2.2.2, .inl (dA 0, 3, .inl (fun _ => 0)))] := hD
  refine W.widen (k := 7) (n := 67) (Nat.le_of_ble_eq_true rfl) (Nat.le_of_ble_eq_true rfl) ?_
  refine va_put (D := D) (ci := 1) (v := .ref q1) (ty := (.object "LastAsked$City")) (C := RX2) (T := TX2) (N := 11) hx hb hts in_X2 tyX2 tyX2_ok nmX2 hown hK.1 hP hD hS 0 rfl rfl 9 (by decide) (hts _ q235) (fun _ h9 => h9) rfl (by decide +kernel) rfl rfl (Nat.le_of_ble_eq_true rfl) dX2_read_18 (fun H locs hP hD hS => ?_)
  have hP : va_P D clG (zw dA (zaN za q1 u5.1 u5.2.1 u5.2.2.1 u5.2.2.2.1 u5.2.2.2.2.1 u5.2.2.2.2.2) (n, f0, p0) tx (hs0 z_word z_asker) (rs0 z_token z_at z_whole le (fun _ => 0))) H := by rw [rd_new]; exact hP
  have hD : va_D A (zw dA (zaN za q1 u5.1 u5.2.1 u5.2.2.1 u5.2.2.2.1 u5.2.2.2.2.1 u5.2.2.2.2.2) (n, f0, p0) tx (hs0 z_word z_asker) (rs0 z_token z_at z_whole le (fun _ => 0))) := by rw [rd_new]; exact hD
  have hl : lv_has ls 3 [(0, .ref ((zaN za q1 u5.1 u5.2.1 u5.2.2.1 u5.2.2.2.1 u5.2.2.2.2.1 u5.2.2.2.2.2) 0)), (1, .int n)] := hl
  refine lv_iconst (v := (0 : Int32)) hx hb dX2_read_21 (by decide) ?_
  refine lv_istore_n (lv' := [(2, .int (nI 0)), (0, .ref ((zaN za q1 u5.1 u5.2.1 u5.2.2.1 u5.2.2.2.1 u5.2.2.2.2.1 u5.2.2.2.2.2) 0)), (1, .int n)]) hx hb dX2_read_22 rfl hl (by decide) rfl (fun ls hl => ?_)
  refine wZ_readH hx hb hml hown hts hK hA (zaN za q1 u5.1 u5.2.1 u5.2.2.1 u5.2.2.2.1 u5.2.2.2.2.1 u5.2.2.2.2.2) tx (n, f0, p0) z_token z_at z_whole le z_word z_asker (fun _ => 0) (.int n) 36 0 rfl _ _ _ hP hD hS hl (fun H locs ls hP hD hS hl => ?_)
  have hP : va_P D clG (zw dA (zaN za q1 u5.1 u5.2.1 u5.2.2.1 u5.2.2.2.1 u5.2.2.2.2.1 u5.2.2.2.2.2) (n, f0, p0) tx (hs0 z_word z_asker) (rs0 z_token z_at z_whole le (hsF (fun _ => 0) 36))) H := hP
  have hD : va_D A (zw dA (zaN za q1 u5.1 u5.2.1 u5.2.2.1 u5.2.2.2.1 u5.2.2.2.2.1 u5.2.2.2.2.2) (n, f0, p0) tx (hs0 z_word z_asker) (rs0 z_token z_at z_whole le (hsF (fun _ => 0) 36))) := hD
  obtain ⟨zb, hzb⟩ : ∃ zb, zb = (zaN za q1 u5.1 u5.2.1 u5.2.2.1 u5.2.2.2.1 u5.2.2.2.2.1 u5.2.2.2.2.2) := ⟨_, rfl⟩
  rw [← hzb] at hP hD hl
  have hz0 : zb 0 = za 0 := by rw [hzb]; rfl
  have hz1 : zb 1 = za 1 := by rw [hzb]; rfl
  have hz2 : zb 2 = za 2 := by rw [hzb]; rfl
  have hz3 : zb 3 = za 3 := by rw [hzb]; rfl
  clear hzb
  obtain ⟨s_, hs_⟩ : ∃ s_, s_ = (rs0 z_token z_at z_whole le (hsF (fun _ => 0) 36)) := ⟨_, rfl⟩
  rw [← hs_] at hP hD hM
  generalize hs0 z_word z_asker = h at hP hD
  obtain ⟨k9, hk9⟩ : ∃ k9 : Int32 × Int32 × Int32, k9 = (n, f0, p0) := ⟨_, rfl⟩
  rw [← hk9] at hP hD
  have hkn : n = k9.1 := by rw [hk9]
  rw [hkn] at hM
  unfold MZ_read at hM
  have hzq : zQ D dA za tx er A = zQ D dA zb tx er A := by unfold zQ tw; rw [hz0, hz1, hz2, hz3]
  rw [hzq]
  refine lv_aload_n hx hb dX2_read_46 rfl (lv_at hl 0 rfl) ?_
  obtain ⟨r1, er1, hM⟩ := b_inv hM
  refine k_w (va_runV (As := []) (rest := []) ⟨hx, hb, hml, hown, hts⟩ (ctZ_step l D dA _ zb h tx k9 ka kv s_ r1 er1 ) (cwV 0 hts (lw_V q521 q523 qs4 q114 q524) rfl rfl rfl (by decide +kernel) ⟨Nat.le_of_ble_eq_true rfl, Nat.le_of_ble_eq_true rfl⟩) (preX_V ZE_ok hP hK hD (ev_at ZE_ok hE hS (w_free hD hS hA)) hP (ci := 1) (q0 := 0) rfl rfl) rfl rfl hl.1 rfl (lv_room (Nat.le_of_ble_eq_true rfl)) dX2_read_47 ⟨Nat.le_of_ble_eq_true rfl, Nat.le_of_ble_eq_true rfl⟩) hD hS hA (fun u1 H locs x1 hP hD hS => ?_)
  refine W.eq (g2 := F0 m 50 ls []) rfl ?_
  refine lv_aload_n hx hb dX2_read_50 rfl (lv_at hl 0 rfl) ?_
  obtain ⟨r2_, er2, hM⟩ := b_inv hM
  cases r2_ with
  | inl e9 =>
    dsimp only at hM
    have hM := Sum.inl.inj (Option.some.inj hM)
    subst hM
    exact z_err (vy_runV (As := []) (rest := []) ⟨hx, hb, hml, hown, hts⟩ (ceZ_line l D dA _ zb u1 tx k9 ka kv r1 e9 er2 ) (cwV 0 hts (lw_V q615 q617 qs6 q114 q618) rfl rfl rfl (by decide +kernel) ⟨Nat.le_of_ble_eq_true rfl, Nat.le_of_ble_eq_true rfl⟩) (preX_V ZE_ok hP hK hD (ev_at ZE_ok hE hS (w_free hD hS hA)) hP (ci := 1) (q0 := 0) rfl rfl) rfl rfl hl.1 rfl (lv_room (Nat.le_of_ble_eq_true rfl)) dX2_read_51 ⟨Nat.le_of_ble_eq_true rfl, Nat.le_of_ble_eq_true rfl⟩) hD hS hA hout hlocks (Nat.le_of_ble_eq_true rfl) (Nat.le_of_ble_eq_true rfl)
  | inr r2 =>
    dsimp only at hM
    refine k_w (va_runV (As := []) (rest := []) ⟨hx, hb, hml, hown, hts⟩ (ctZ_line l D dA _ zb u1 tx k9 ka kv r1 r2 er2 ) (cwV 0 hts (lw_V q615 q617 qs6 q114 q618) rfl rfl rfl (by decide +kernel) ⟨Nat.le_of_ble_eq_true rfl, Nat.le_of_ble_eq_true rfl⟩) (preX_V ZE_ok hP hK hD (ev_at ZE_ok hE hS (w_free hD hS hA)) hP (ci := 1) (q0 := 0) rfl rfl) rfl rfl hl.1 rfl (lv_room (Nat.le_of_ble_eq_true rfl)) dX2_read_51 ⟨Nat.le_of_ble_eq_true rfl, Nat.le_of_ble_eq_true rfl⟩) hD hS hA (fun u2 H locs x2 hP hD hS => ?_)
    refine W.eq (g2 := F0 m 54 ls []) rfl ?_
    obtain ⟨y, ey, hM⟩ := b_inv hM
    cases y with
    | inl e9 =>
      dsimp only at hM
      have hM := Sum.inl.inj (Option.some.inj hM)
      subst hM
      exact weZ_readL hx hb hml hown hts hK hA hout hlocks ka kv hE zb tx k9 901 r2 u2 _ _ _ _ _ (Nat.le_of_ble_eq_true rfl) (Nat.le_of_ble_eq_true rfl) ey hP hD hS hl
    | inr rx =>
      dsimp only at hM
      refine wZ_readL hx hb hml hown hts hK hA ka kv hE zb tx k9 901 r2 rx u2 _ _ _ _ _ (Nat.le_of_ble_eq_true rfl) (Nat.le_of_ble_eq_true rfl) ey hP hD hS hl (fun u3 H locs ls hP hD hS hl => ?_)
      have hM := Option.some.inj hM
      unfold endR at hM
      refine lv_aload_n hx hb dX2_read_74 rfl (lv_at hl 0 rfl) ?_
      refine va_get (D := D) (ci := 1) (v := .int rx.2.1) (C := RX2) (T := TX2) (N := 11) hx hb hts in_X2 hown hK.1 hP 0 rfl rfl 5 (by decide) (hts _ q231) (fun _ h9 => h9) rfl dX2_read_75 ?_
      refine lv_if_eq (tgt := 87) hx hb dX2_read_78 (by decide) (fun c1 => ?_) (fun c1 => ?_)
      · rw [if_pos c1] at hM
        refine lv_aload_n hx hb dX2_read_87 rfl (lv_at hl 0 rfl) ?_
        refine va_get (D := D) (ci := 1) (v := .ref (zb 4)) (C := RX2) (T := TX2) (N := 11) hx hb hts in_X2 hown hK.1 hP 0 rfl rfl 9 (by decide) (hts _ q235) (fun _ h9 => h9) rfl dX2_read_88 ?_
        refine va_get (D := D) (ci := 6) (v := .int rx.2.2.2.2.2.2.2.1) (C := RX8) (T := TX8) (N := 13) hx hb hts in_X8 hown hK.1 hP 4 rfl rfl 6 (by decide) (hts _ q476) (fun _ h9 => h9) rfl dX2_read_91 ?_
        refine lv_if_lt (tgt := 107) hx hb dX2_read_94 (by decide) (fun c2 => ?_) (fun c2 => ?_)
        · rw [if_pos c2] at hM
          refine lv_aload_n hx hb dX2_read_107 rfl (lv_at hl 0 rfl) ?_
          refine lv_bipush (v := (6 : Int32)) hx hb dX2_read_108 (by decide) ?_
          have er1 : MX2_fail (6 : Int32) rx.2.2.1 = some ((6 : Int32), rx.2.2.1) := rfl
          refine k_r0 [0, 1] (va_runV (As := [.int (6 : Int32)]) (rest := []) ⟨hx, hb, hml, hown, hts⟩ (ctX2_fail l D dA _ (zb 0) (zb 1) (6 : Int32) k9.1 rx.1 rx.2.1 rx.2.2.1 rx.2.2.2.1 0 k9.2.1 k9.2.2 (.ref (zb 2)) (.ref (zb 3)) (zwv u3 rx.2.2.2.2.1) (.ref (zb 4)) (zav u3 rx.2.2.2.2.2.1) .null .null .null .null .null _ er1) (cwV 1 hts (lw_V q619 q621 qs7 q114 q622) rfl rfl rfl (by decide +kernel) ⟨Nat.le_of_ble_eq_true rfl, Nat.le_of_ble_eq_true rfl⟩) (pre_V (hP.sub [0, 1] rfl) hK (hD.sub [0, 1] (by decide) rfl) (ci := 1) (q0 := 0) rfl rfl) rfl rfl hl.1 rfl (lv_room (Nat.le_of_ble_eq_true rfl)) dX2_read_110 ⟨Nat.le_of_ble_eq_true rfl, Nat.le_of_ble_eq_true rfl⟩) hP hD hS hA rfl (fun _ => rfl) (fun u2 H locs hP hD hS => ?_)
          have hP : va_P D clG (zw dA zb (k9.1, (6 : Int32), rx.2.2.1) tx u3 rx) H := hP
          have hD : va_D A (zw dA zb (k9.1, (6 : Int32), rx.2.2.1) tx u3 rx) := hD
          have hM := Sum.inl.inj hM
          subst hM
          exact z_throw hx hb dX2_read_113 hK hP hD hS hout hlocks rfl (Nat.le_of_ble_eq_true rfl) (Nat.le_of_ble_eq_true rfl)
        · rw [if_neg c2] at hM
          refine lv_aload_n hx hb dX2_read_97 rfl (lv_at hl 0 rfl) ?_
          refine va_get (D := D) (ci := 1) (v := .ref (zb 4)) (C := RX2) (T := TX2) (N := 11) hx hb hts in_X2 hown hK.1 hP 0 rfl rfl 9 (by decide) (hts _ q235) (fun _ h9 => h9) rfl dX2_read_98 ?_
          refine va_get (D := D) (ci := 6) (v := .int rx.2.2.2.2.2.2.2.2.2.1) (C := RX8) (T := TX8) (N := 13) hx hb hts in_X8 hown hK.1 hP 4 rfl rfl 8 (by decide) (hts _ q485) (fun _ h9 => h9) rfl dX2_read_101 ?_
          refine lv_if_ne (tgt := 114) hx hb dX2_read_104 (by decide) (fun c3 => ?_) (fun c3 => ?_)
          · rw [if_neg c3] at hM
            cases hM
          · rw [if_pos c3] at hM
            refine lv_aload_n hx hb dX2_read_107 rfl (lv_at hl 0 rfl) ?_
            refine lv_bipush (v := (6 : Int32)) hx hb dX2_read_108 (by decide) ?_
            have er3 : MX2_fail (6 : Int32) rx.2.2.1 = some ((6 : Int32), rx.2.2.1) := rfl
            refine k_r0 [0, 1] (va_runV (As := [.int (6 : Int32)]) (rest := []) ⟨hx, hb, hml, hown, hts⟩ (ctX2_fail l D dA _ (zb 0) (zb 1) (6 : Int32) k9.1 rx.1 rx.2.1 rx.2.2.1 rx.2.2.2.1 0 k9.2.1 k9.2.2 (.ref (zb 2)) (.ref (zb 3)) (zwv u3 rx.2.2.2.2.1) (.ref (zb 4)) (zav u3 rx.2.2.2.2.2.1) .null .null .null .null .null _ er3) (cwV 1 hts (lw_V q619 q621 qs7 q114 q622) rfl rfl rfl (by decide +kernel) ⟨Nat.le_of_ble_eq_true rfl, Nat.le_of_ble_eq_true rfl⟩) (pre_V (hP.sub [0, 1] rfl) hK (hD.sub [0, 1] (by decide) rfl) (ci := 1) (q0 := 0) rfl rfl) rfl rfl hl.1 rfl (lv_room (Nat.le_of_ble_eq_true rfl)) dX2_read_110 ⟨Nat.le_of_ble_eq_true rfl, Nat.le_of_ble_eq_true rfl⟩) hP hD hS hA rfl (fun _ => rfl) (fun u4 H locs hP hD hS => ?_)
            have hP : va_P D clG (zw dA zb (k9.1, (6 : Int32), rx.2.2.1) tx u3 rx) H := hP
            have hD : va_D A (zw dA zb (k9.1, (6 : Int32), rx.2.2.1) tx u3 rx) := hD
            have hM := Sum.inl.inj hM
            subst hM
            exact z_throw hx hb dX2_read_113 hK hP hD hS hout hlocks rfl (Nat.le_of_ble_eq_true rfl) (Nat.le_of_ble_eq_true rfl)
      · rw [if_neg c1] at hM
        refine lv_aload_n hx hb dX2_read_81 rfl (lv_at hl 0 rfl) ?_
        refine lv_iconst (v := (1 : Int32)) hx hb dX2_read_82 (by decide) ?_
        have er5 : MX2_fail (1 : Int32) rx.2.2.1 = some ((1 : Int32), rx.2.2.1) := rfl
        refine k_r0 [0, 1] (va_runV (As := [.int (1 : Int32)]) (rest := []) ⟨hx, hb, hml, hown, hts⟩ (ctX2_fail l D dA _ (zb 0) (zb 1) (1 : Int32) k9.1 rx.1 rx.2.1 rx.2.2.1 rx.2.2.2.1 0 k9.2.1 k9.2.2 (.ref (zb 2)) (.ref (zb 3)) (zwv u3 rx.2.2.2.2.1) (.ref (zb 4)) (zav u3 rx.2.2.2.2.2.1) .null .null .null .null .null _ er5) (cwV 1 hts (lw_V q619 q621 qs7 q114 q622) rfl rfl rfl (by decide +kernel) ⟨Nat.le_of_ble_eq_true rfl, Nat.le_of_ble_eq_true rfl⟩) (pre_V (hP.sub [0, 1] rfl) hK (hD.sub [0, 1] (by decide) rfl) (ci := 1) (q0 := 0) rfl rfl) rfl rfl hl.1 rfl (lv_room (Nat.le_of_ble_eq_true rfl)) dX2_read_83 ⟨Nat.le_of_ble_eq_true rfl, Nat.le_of_ble_eq_true rfl⟩) hP hD hS hA rfl (fun _ => rfl) (fun u6 H locs hP hD hS => ?_)
        have hP : va_P D clG (zw dA zb (k9.1, (1 : Int32), rx.2.2.1) tx u3 rx) H := hP
        have hD : va_D A (zw dA zb (k9.1, (1 : Int32), rx.2.2.1) tx u3 rx) := hD
        have hM := Sum.inl.inj hM
        subst hM
        exact z_throw hx hb dX2_read_86 hK hP hD hS hout hlocks rfl (Nat.le_of_ble_eq_true rfl) (Nat.le_of_ble_eq_true rfl)
