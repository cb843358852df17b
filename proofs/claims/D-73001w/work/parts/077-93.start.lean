set_option maxRecDepth 100000
/-! what the start gives: the constants, the statics, the classes -/
def SFL : List Cond := flatC (Jvm.Cond.and given_1 narrow_1)
theorem s_ex : ∀ i, i < 18 → (Cond.exactly (.string "LastAsked$Scanner" (kixZ i)) "java/lang/String") ∈ SFL := by decide +kernel
theorem s_co : ∀ i, i < 18 → (Cond.eq (.field (.string "LastAsked$Scanner" (kixZ i)) "java/lang/String" "coder" "B") (.int 0)) ∈ SFL := by decide +kernel
theorem s_ar : ∀ i, i < 18 → (Cond.arrayOf (.field (.string "LastAsked$Scanner" (kixZ i)) "java/lang/String" "value" "[B") .byte) ∈ SFL := by decide +kernel
theorem s_le : ∀ i, i < 18 → (Cond.eq (.length (.field (.string "LastAsked$Scanner" (kixZ i)) "java/lang/String" "value" "[B")) (.int (Int32.ofNat (klen i)))) ∈ SFL := by decide +kernel
theorem s_el : ∀ i, i < 18 → ∀ j, j < klen i → (Cond.eq (.elem (.field (.string "LastAsked$Scanner" (kixZ i)) "java/lang/String" "value" "[B") (.int (Int32.ofNat j))) (.int (kby i j))) ∈ SFL := by decide +kernel
theorem s_eq : ∀ i, i < 18 → (1 ≤ i → (Cond.eq (.string "LastAsked$Scanner" (kixZ i)) (.string "LastAskedModel" (kixM i))) ∈ SFL) := by decide +kernel
theorem s_rZ : ∀ i, i < 18 → (Cond.stringRef "LastAsked$Scanner" (kixZ i) (ktx i)) ∈ lw_tbl := by decide +kernel
theorem s_rM : ∀ i, i < 18 → (1 ≤ i → (Cond.stringRef "LastAskedModel" (kixM i) (ktx i)) ∈ lw_tbl) := by decide +kernel
theorem kE_start {args : Array Value} {s : State} {A : Nat → Prop} (h : (Jvm.Cond.and given_1 narrow_1).before args s = true) (hA : ∀ a : Nat, a < s.heap.size → ¬ A a) : ∃ ka kv : Nat → Nat, kE ka kv A s s.heap ∧ ∀ i, i < 18 → (Term.string "LastAsked$Scanner" (kixZ i)).eval args s none [] s = some (.ref (ka i)) := by
  have hs : ∀ w ∈ SFL, w.before args s = true := flat_of_before _ h
  have h0 : ∀ i : Nat, ∃ q : Nat × Nat, i < 18 → (Term.string "LastAsked$Scanner" (kixZ i)).eval args s none [] s = some (.ref q.1) ∧ sv_ q.1 q.2 (klen i) (kby i) A s s.heap := by
    intro i
    by_cases hi : i < 18
    · obtain ⟨a, c, cA, kA, q1, q2, q3, q4, q5, q6, -⟩ := Cond.exactly_spec (args := args) (first := s) (o := none) (s := s) (idx := []) (t := .string "LastAsked$Scanner" (kixZ i)) (cls := "java/lang/String") (hs _ (s_ex i hi))
      obtain ⟨t, ht, hT⟩ := va_Tof (f := fun j => .int (kby i j)) (A := A) (klen_lt i) (hs _ (s_ar i hi)) (va_eqt (hs _ (s_le i hi))) (fun j hj => va_eqt (hs _ (s_el i hi j hj))) hA
      exact ⟨(a, t), fun _ => ⟨q1, ⟨cA, q3, q5, by rw [q6]; exact q2, hA a (Array.getElem?_eq_some_iff.mp q3).1⟩, vk_OFof q1 (va_eqt (hs _ (s_co i hi))) hA, vk_OFof q1 ht hA, hT⟩⟩
    · exact ⟨(0, 0), fun h => absurd h hi⟩
  obtain ⟨ad, had⟩ := Classical.axiomOfChoice h0
  exact ⟨fun i => (ad i).1, fun i => (ad i).2, fun i hi => (had i hi).2, fun i hi => (had i hi).1⟩
def LE (ka kv : Nat → Nat) : EV := ev2 (ZE ka kv) (ev2 (ME ka kv) (ev2 TE (ev2 (CR "LastAsked$Refused") (CR "java/util/NoSuchElementException"))))
theorem LE_start {args : Array Value} {s : State} {A : Nat → Prop} (hts : ∀ w ∈ lw_tbl, w.before args s = true) (h : (Jvm.Cond.and given_1 narrow_1).before args s = true) (hA : ∀ a : Nat, a < s.heap.size → ¬ A a) : ∃ ka kv : Nat → Nat, LE ka kv A s s.heap := by
  have hs : ∀ w ∈ SFL, w.before args s = true := flat_of_before _ h
  obtain ⟨ka, kv, hk, hev⟩ := kE_start h hA
  have hok : OK_ A s s.heap := ⟨va_Zof (hts _ q555) (hts _ (lw_all_tbl q124)) (va_eqt (hs (Cond.eq (.static "java/lang/String" "COMPACT_STRINGS" "Z") (.int 1)) (by decide +kernel))) hA, va_Zqof (hts _ q545) (hts _ (lw_all_tbl q125)) (hs (Cond.isRef (.static "jdk/internal/util/Preconditions" "SIOOBE_FORMATTER" "Ljava/util/function/BiFunction;")) (by decide +kernel)) hA⟩
  have hC : kC A s s.heap := by
    intro i hi
    rcases (show i = 0 ∨ i = 1 ∨ i = 2 ∨ i = 3 by omega) with q | q | q | q
    · subst q; exact va_Nw.of rfl (hts _ q2117)
    · subst q; exact va_Nw.of rfl (hts _ q2118)
    · subst q; exact va_Nw.of rfl (hts _ q2119)
    · subst q; exact va_Nw.of rfl (hts _ q2120)
  refine ⟨ka, kv, ⟨hok, hk, fun i _ hi => vk_R.of (hts _ (s_rZ i hi)) (hev i hi), hC⟩, ⟨hok, hk, fun i h1 hi => vk_R.of (hts _ (s_rM i hi h1)) (va_eqR (hs _ (s_eq i hi h1)) (hev i hi))⟩, ⟨?_, ?_⟩, va_Nw.of rfl (hts _ q154), va_Nw.of rfl (hts _ q1347)⟩
  · exact vx_Zqof (hts _ q179) (hts _ (lw_all_tbl q115)) (hs (Cond.isRef (.static Bundle.tN "UNASSIGNED_STACK" Bundle.steD)) (by decide +kernel)) hA
  · exact vx_Zqof (hts _ q181) (hts _ (lw_all_tbl q115)) (hs (Cond.isRef (.static Bundle.tN "SUPPRESSED_SENTINEL" Bundle.listD)) (by decide +kernel)) hA
theorem k_prim {args : Array Value} {s : State} {ty : FieldType} (h : (Cond.arrayClass ty).before args s = true) : ∃ cA : ClassId, ArrOfT s cA ty ∧ s.vm.findClass ("[" ++ ty.toString) = some cA := by
  obtain ⟨c, k, comp, h1, h2, h3⟩ := Cond.arrayClass_spec (args := args) (first := s) (o := none) (s := s) (idx := []) h
  exact ⟨c, fun n z => ⟨fun k h => (by cases h), k, h2, comp, h3⟩, h1⟩
theorem k_refa {args : Array Value} {s : State} {C : String} (h : (Cond.arrayOver (.object C)).before args s = true) : ∃ cA : ClassId, ArrOfT s cA (.object C) ∧ va_RA s cA (.object C) := by
  obtain ⟨comp, c, k, h1, h2, h3, h4, h5⟩ := Cond.arrayOver_spec (args := args) (first := s) (o := none) (s := s) (idx := []) h
  exact ⟨c, fun n z => ⟨fun k h => (by cases h), k, h3, comp, h4⟩, k, comp, h3, h4, h1, h5⟩
set_option maxHeartbeats 4000000 in
theorem KK_start {args : Array Value} {s : State} (hts : ∀ w ∈ lw_tbl, w.before args s = true) : ∃ (D : va_G) (dA : Nat → ClassId), KK D dA s := by
  obtain ⟨c0, iS0, hK0⟩ := u_known (C := RX1) (T := TX1) (N := 20) (n := 20) hts (fun w h => lw_all_tbl (in_X1 w h)) (hts _ (lw_all_tbl q139))
  obtain ⟨c1, iS1, hK1⟩ := u_known (C := RX2) (T := TX2) (N := 11) (n := 11) hts (fun w h => lw_all_tbl (in_X2 w h)) (hts _ (lw_all_tbl q147))
  obtain ⟨c2, iS2, hK2⟩ := u_known (C := RX3) (T := TX3) (N := 8) (n := 8) hts (fun w h => lw_all_tbl (in_X3 w h)) (hts _ (lw_all_tbl q153))
  obtain ⟨c3, iS3, hK3⟩ := u_known (C := RX4) (T := TX4) (N := 8) (n := 8) hts (fun w h => lw_all_tbl (in_X4 w h)) (hts _ (lw_all_tbl q262))
  obtain ⟨c4, iS4, hK4⟩ := u_known (C := RX5) (T := TX5) (N := 2) (n := 2) hts (fun w h => lw_all_tbl (in_X5 w h)) (hts _ (lw_all_tbl q306))
  obtain ⟨c5, iS5, hK5⟩ := u_known (C := RX6) (T := TX6) (N := 8) (n := 8) hts (fun w h => lw_all_tbl (in_X6 w h)) (hts _ (lw_all_tbl q322))
  obtain ⟨c6, iS6, hK6⟩ := u_known (C := RX8) (T := TX8) (N := 13) (n := 13) hts (fun w h => lw_all_tbl (in_X8 w h)) (hts _ (lw_all_tbl q448))
  obtain ⟨c7, iS7, hK7⟩ := u_known (C := RX10) (T := TX10) (N := 7) (n := 7) hts (fun w h => lw_all_tbl (in_X10 w h)) (hts _ (lw_all_tbl q740))
  obtain ⟨c8, iS8, hK8⟩ := u_known (C := RX11) (T := TX11) (N := 7) (n := 7) hts (fun w h => lw_all_tbl (in_X11 w h)) (hts _ (lw_all_tbl q784))
  obtain ⟨c9, iS9, hK9⟩ := u_known (C := RX12) (T := TX12) (N := 7) (n := 7) hts (fun w h => lw_all_tbl (in_X12 w h)) (hts _ (lw_all_tbl q799))
  obtain ⟨c10, iS10, hK10⟩ := u_known (C := RX13) (T := TX13) (N := 7) (n := 7) hts (fun w h => lw_all_tbl (in_X13 w h)) (hts _ (lw_all_tbl q814))
  obtain ⟨c11, iS11, hK11⟩ := u_known (C := RX7) (T := TX7) (N := 37) (n := 37) hts (fun w h => lw_all_tbl (in_X7 w h)) (hts _ (lw_all_tbl q1367))
  obtain ⟨c12, iS12, hK12⟩ := u_known (C := RX14) (T := TX14) (N := 17) (n := 17) hts (fun w h => lw_all_tbl (in_X14 w h)) (hts _ (lw_all_tbl q1501))
  obtain ⟨c13, iS13, hK13⟩ := u_known (C := RJ3) (T := TJ3) (N := 4) (n := 4) hts (fun w h => lw_all_tbl (in_J3 w h)) (hts _ (lw_all_tbl q534))
  obtain ⟨a0, hA0, hB0⟩ := k_prim (ty := .int) (hts _ (lw_all_tbl q304))
  obtain ⟨a1, hA1, hB1⟩ := k_prim (ty := .long) (hts _ (lw_all_tbl q1570))
  obtain ⟨a2, hA2, hB2⟩ := k_prim (ty := .byte) (hts _ (lw_all_tbl q225))
  obtain ⟨a3, hA3, hB3⟩ := k_prim (ty := .char) (hts _ (lw_all_tbl q260))
  obtain ⟨a4, hA4, hB4⟩ := k_refa (C := "LastAsked$Person") (hts _ q454)
  obtain ⟨a5, hA5, hB5⟩ := k_refa (C := "LastAsked$Town") (hts _ q328)
  refine ⟨(fun k => match k with | 0 => c0 | 1 => c1 | 2 => c2 | 3 => c3 | 4 => c4 | 5 => c5 | 6 => c6 | 7 => c7 | 8 => c8 | 9 => c9 | 10 => c10 | 11 => c11 | 12 => c12 | _ => c13, fun k => match k with | 0 => iS0 | 1 => iS1 | 2 => iS2 | 3 => iS3 | 4 => iS4 | 5 => iS5 | 6 => iS6 | 7 => iS7 | 8 => iS8 | 9 => iS9 | 10 => iS10 | 11 => iS11 | 12 => iS12 | _ => iS13), fun k => match k with | 0 => a0 | 1 => a1 | 2 => a2 | 3 => a3 | 4 => a4 | _ => a5, ⟨fun k q hq => ?_, fun k q hq => ?_⟩, fun w hw => ?_⟩
  · match k, hq with
    | 0, hq => cases hq; exact hK0
    | 1, hq => cases hq; exact hK1
    | 2, hq => cases hq; exact hK2
    | 3, hq => cases hq; exact hK3
    | 4, hq => cases hq; exact hK4
    | 5, hq => cases hq; exact hK5
    | 6, hq => cases hq; exact hK6
    | 7, hq => cases hq; exact hK7
    | 8, hq => cases hq; exact hK8
    | 9, hq => cases hq; exact hK9
    | 10, hq => cases hq; exact hK10
    | 11, hq => cases hq; exact hK11
    | 12, hq => cases hq; exact hK12
    | 13, hq => cases hq; exact hK13
    | k + 14, hq => simp [clG] at hq
  · match k, hq with
    | 0, hq => cases hq; exact ⟨hA0, hB0⟩
    | 1, hq => cases hq; exact ⟨hA1, hB1⟩
    | 2, hq => cases hq; exact ⟨hA2, hB2⟩
    | 3, hq => cases hq; exact ⟨hA3, hB3⟩
    | 4, hq => cases hq; exact ⟨hA4, hB4⟩
    | 5, hq => cases hq; exact ⟨hA5, hB5⟩
    | k + 6, hq => simp [tyG] at hq
  · simp only [nwG, List.mem_cons, List.not_mem_nil, or_false] at hw
    rcases hw with rfl | rfl | rfl | rfl | rfl | rfl | rfl | rfl | rfl | rfl | rfl | rfl | rfl | rfl | rfl | rfl | rfl | rfl | rfl | rfl | rfl | rfl | rfl | rfl | rfl | rfl | rfl | rfl | rfl | rfl | rfl | rfl | rfl | rfl | rfl | rfl | rfl | rfl | rfl | rfl | rfl
    · exact va_Nw.of rfl (hts _ q155)
    · exact va_Nw.of rfl (hts _ q156)
    · exact va_Nw.of rfl (hts _ q157)
    · exact va_Nw.of rfl (hts _ q158)
    · exact va_Nw.of rfl (hts _ q159)
    · exact va_Nw.of rfl (hts _ q160)
    · exact va_Nw.of rfl (hts _ q263)
    · exact va_Nw.of rfl (hts _ q307)
    · exact va_Nw.of rfl (hts _ q312)
    · exact va_AO.of (hts _ q328)
    · exact va_Nw.of rfl (hts _ q329)
    · exact va_Nw.of rfl (hts _ q449)
    · exact va_AO.of (hts _ q454)
    · exact va_Nw.of rfl (hts _ q532)
    · exact va_Nw.of rfl (hts _ q653)
    · exact va_Nw.of rfl (hts _ q837)
    · exact va_Nw.of rfl (hts _ q869)
    · exact va_Nw.of rfl (hts _ q875)
    · exact va_Nw.of rfl (hts _ q918)
    · exact va_Nw.of rfl (hts _ q938)
    · exact va_Nw.of rfl (hts _ q1071)
    · exact va_Nw.of rfl (hts _ q1147)
    · exact va_Nw.of rfl (hts _ q1165)
    · exact va_Nw.of rfl (hts _ q1507)
    · exact va_Nw.of rfl (hts _ q1508)
    · exact va_Nw.of rfl (hts _ q1510)
    · exact va_Nw.of rfl (hts _ q1511)
    · exact va_Nw.of rfl (hts _ q1512)
    · exact va_Nw.of rfl (hts _ q1513)
    · exact va_Nw.of rfl (hts _ q1514)
    · exact va_Nw.of rfl (hts _ q1516)
    · exact va_Nw.of rfl (hts _ q1518)
    · exact va_Nw.of rfl (hts _ q1520)
    · exact va_Nw.of rfl (hts _ q1522)
    · exact va_Nw.of rfl (hts _ q1524)
    · exact va_Nw.of rfl (hts _ q1526)
    · exact va_Nw.of rfl (hts _ q1528)
    · exact va_Nw.of rfl (hts _ q1530)
    · exact va_Nw.of rfl (hts _ q1532)
    · exact va_Nw.of rfl (hts _ q1534)
    · exact va_Nw.of rfl (hts _ q1698)
