set_option maxRecDepth 100000
/-! LastAsked.led: it answers, or throws; the law catches -/
theorem hat_eq : (vx_at0 "LastAsked" 354 "java/util/NoSuchElementException" ["java/lang/RuntimeException", "java/lang/Exception"]).filter goodWord = [Jvm.Cond.initialized "java/lang/Throwable", Jvm.Cond.superclass "java/lang/Throwable" "java/lang/Object", Jvm.Cond.instanceMethod ({ cls := "java/lang/Throwable", name := "fillInStackTrace", desc := "()Ljava/lang/Throwable;" } : Jvm.MethodName), Jvm.Cond.codeSync ({ cls := "java/lang/Throwable", name := "fillInStackTrace", desc := "()Ljava/lang/Throwable;" } : Jvm.MethodName) prog_27_method_18_code (1 : Nat) (Option.some (Jvm.ClassFile.FieldType.object "java/lang/Throwable")), Jvm.Cond.instanceMethod ({ cls := "java/lang/Throwable", name := "fillInStackTrace", desc := "(I)Ljava/lang/Throwable;" } : Jvm.MethodName), Jvm.Cond.native ({ cls := "java/lang/Throwable", name := "fillInStackTrace", desc := "(I)Ljava/lang/Throwable;" } : Jvm.MethodName), Jvm.Cond.instanceMethod ({ cls := "java/lang/Throwable", name := "<init>", desc := "()V" } : Jvm.MethodName), Jvm.Cond.code ({ cls := "java/lang/Throwable", name := "<init>", desc := "()V" } : Jvm.MethodName) prog_27_method_1_code (1 : Nat) (Option.none : Option Jvm.ClassFile.FieldType), Jvm.Cond.instanceMethod ({ cls := "java/lang/Object", name := "<init>", desc := "()V" } : Jvm.MethodName), Jvm.Cond.code ({ cls := "java/lang/Object", name := "<init>", desc := "()V" } : Jvm.MethodName) object_method_1_code (1 : Nat) (Option.none : Option Jvm.ClassFile.FieldType), Jvm.Cond.methodLink "java/lang/Throwable" (1 : Nat) ({ cls := "java/lang/Object", name := "<init>", desc := "()V" } : Jvm.MethodName), Jvm.Cond.methodLink "java/lang/Throwable" (27 : Nat) ({ cls := "java/lang/Throwable", name := "fillInStackTrace", desc := "()Ljava/lang/Throwable;" } : Jvm.MethodName), Jvm.Cond.methodLink "java/lang/Throwable" (202 : Nat) ({ cls := "java/lang/Throwable", name := "fillInStackTrace", desc := "(I)Ljava/lang/Throwable;" } : Jvm.MethodName), Jvm.Cond.fieldLink "java/lang/Throwable" (7 : Nat) "java/lang/Throwable" "cause" "Ljava/lang/Throwable;", Jvm.Cond.lays "java/lang/Throwable" "java/lang/Throwable" "cause" "Ljava/lang/Throwable;", Jvm.Cond.fieldLink "java/lang/Throwable" (17 : Nat) "java/lang/Throwable" "stackTrace" "[Ljava/lang/StackTraceElement;", Jvm.Cond.lays "java/lang/Throwable" "java/lang/Throwable" "stackTrace" "[Ljava/lang/StackTraceElement;", Jvm.Cond.fieldLink "java/lang/Throwable" (24 : Nat) "java/lang/Throwable" "suppressedExceptions" "Ljava/util/List;", Jvm.Cond.lays "java/lang/Throwable" "java/lang/Throwable" "suppressedExceptions" "Ljava/util/List;", Jvm.Cond.fieldLink "java/lang/Throwable" (13 : Nat) "java/lang/Throwable" "UNASSIGNED_STACK" "[Ljava/lang/StackTraceElement;", Jvm.Cond.fieldLink "java/lang/Throwable" (20 : Nat) "java/lang/Throwable" "SUPPRESSED_SENTINEL" "Ljava/util/List;", Jvm.Cond.lays "java/lang/Throwable" "java/lang/Throwable" "detailMessage" "Ljava/lang/String;", Jvm.Cond.instanceMethod ({ cls := "java/util/NoSuchElementException", name := "<init>", desc := "()V" } : Jvm.MethodName), Jvm.Cond.code ({ cls := "java/util/NoSuchElementException", name := "<init>", desc := "()V" } : Jvm.MethodName) prog_30_method_1_code (1 : Nat) (Option.none : Option Jvm.ClassFile.FieldType), Jvm.Cond.methodLink "java/util/NoSuchElementException" (1 : Nat) ({ cls := "java/lang/RuntimeException", name := "<init>", desc := "()V" } : Jvm.MethodName), Jvm.Cond.instanceMethod ({ cls := "java/lang/RuntimeException", name := "<init>", desc := "()V" } : Jvm.MethodName), Jvm.Cond.instanceMethod ({ cls := "java/lang/RuntimeException", name := "<init>", desc := "()V" } : Jvm.MethodName), Jvm.Cond.code ({ cls := "java/lang/RuntimeException", name := "<init>", desc := "()V" } : Jvm.MethodName) prog_21_method_1_code (1 : Nat) (Option.none : Option Jvm.ClassFile.FieldType), Jvm.Cond.methodLink "java/lang/RuntimeException" (1 : Nat) ({ cls := "java/lang/Exception", name := "<init>", desc := "()V" } : Jvm.MethodName), Jvm.Cond.instanceMethod ({ cls := "java/lang/Exception", name := "<init>", desc := "()V" } : Jvm.MethodName), Jvm.Cond.instanceMethod ({ cls := "java/lang/Exception", name := "<init>", desc := "()V" } : Jvm.MethodName), Jvm.Cond.code ({ cls := "java/lang/Exception", name := "<init>", desc := "()V" } : Jvm.MethodName) prog_19_method_1_code (1 : Nat) (Option.none : Option Jvm.ClassFile.FieldType), Jvm.Cond.methodLink "java/lang/Exception" (1 : Nat) ({ cls := "java/lang/Throwable", name := "<init>", desc := "()V" } : Jvm.MethodName), Jvm.Cond.instanceMethod ({ cls := "java/lang/Throwable", name := "<init>", desc := "()V" } : Jvm.MethodName), Jvm.Cond.methodLink "LastAsked" (354 : Nat) ({ cls := "java/util/NoSuchElementException", name := "<init>", desc := "()V" } : Jvm.MethodName), Jvm.Cond.instantiable "java/util/NoSuchElementException" (6 : Nat), Jvm.Cond.selects "java/util/NoSuchElementException" ({ cls := "java/lang/Throwable", name := "fillInStackTrace", desc := "(I)Ljava/lang/Throwable;" } : Jvm.MethodName) ({ cls := "java/lang/Throwable", name := "fillInStackTrace", desc := "(I)Ljava/lang/Throwable;" } : Jvm.MethodName), Jvm.Cond.selects "java/util/NoSuchElementException" ({ cls := "java/lang/Throwable", name := "fillInStackTrace", desc := "()Ljava/lang/Throwable;" } : Jvm.MethodName) ({ cls := "java/lang/Throwable", name := "fillInStackTrace", desc := "()Ljava/lang/Throwable;" } : Jvm.MethodName), Jvm.Cond.lays "java/util/NoSuchElementException" "java/lang/Throwable" "cause" "Ljava/lang/Throwable;", Jvm.Cond.lays "java/util/NoSuchElementException" "java/lang/Throwable" "stackTrace" "[Ljava/lang/StackTraceElement;", Jvm.Cond.lays "java/util/NoSuchElementException" "java/lang/Throwable" "suppressedExceptions" "Ljava/util/List;", Jvm.Cond.lays "java/util/NoSuchElementException" "java/lang/Throwable" "detailMessage" "Ljava/lang/String;", Jvm.Cond.fieldLink "java/lang/Throwable" (198 : Nat) "java/lang/Throwable" "backtrace" "Ljava/lang/Object;", Jvm.Cond.lays "java/lang/Throwable" "java/lang/Throwable" "backtrace" "Ljava/lang/Object;", Jvm.Cond.lays "java/util/NoSuchElementException" "java/lang/Throwable" "backtrace" "Ljava/lang/Object;"] := by decide +kernel
theorem hat_in : ∀ w ∈ (vx_at0 "LastAsked" 354 "java/util/NoSuchElementException" ["java/lang/RuntimeException", "java/lang/Exception"]).filter goodWord, w ∈ lw_all := by
  rw [hat_eq]
  exact List.forall_mem_cons.mpr ⟨q115, List.forall_mem_cons.mpr ⟨q174, List.forall_mem_cons.mpr ⟨q183, List.forall_mem_cons.mpr ⟨q186, List.forall_mem_cons.mpr ⟨q189, List.forall_mem_cons.mpr ⟨q191, List.forall_mem_cons.mpr ⟨q175, List.forall_mem_cons.mpr ⟨q176, List.forall_mem_cons.mpr ⟨q144, List.forall_mem_cons.mpr ⟨q145, List.forall_mem_cons.mpr ⟨q177, List.forall_mem_cons.mpr ⟨q182, List.forall_mem_cons.mpr ⟨q187, List.forall_mem_cons.mpr ⟨q210, List.forall_mem_cons.mpr ⟨q164, List.forall_mem_cons.mpr ⟨q211, List.forall_mem_cons.mpr ⟨q166, List.forall_mem_cons.mpr ⟨q212, List.forall_mem_cons.mpr ⟨q168, List.forall_mem_cons.mpr ⟨q178, List.forall_mem_cons.mpr ⟨q180, List.forall_mem_cons.mpr ⟨q170, List.forall_mem_cons.mpr ⟨q1355, List.forall_mem_cons.mpr ⟨q1356, List.forall_mem_cons.mpr ⟨q1357, List.forall_mem_cons.mpr ⟨q1358, List.forall_mem_cons.mpr ⟨q1358, List.forall_mem_cons.mpr ⟨q1359, List.forall_mem_cons.mpr ⟨q1360, List.forall_mem_cons.mpr ⟨q1361, List.forall_mem_cons.mpr ⟨q1361, List.forall_mem_cons.mpr ⟨q1362, List.forall_mem_cons.mpr ⟨q1363, List.forall_mem_cons.mpr ⟨q175, List.forall_mem_cons.mpr ⟨q1354, List.forall_mem_cons.mpr ⟨q1346, List.forall_mem_cons.mpr ⟨q1348, List.forall_mem_cons.mpr ⟨q185, List.forall_mem_cons.mpr ⟨q1349, List.forall_mem_cons.mpr ⟨q1350, List.forall_mem_cons.mpr ⟨q1351, List.forall_mem_cons.mpr ⟨q1352, List.forall_mem_cons.mpr ⟨q208, List.forall_mem_cons.mpr ⟨q172, List.forall_mem_cons.mpr ⟨q1353, fun _ h => absurd h List.not_mem_nil⟩⟩⟩⟩⟩⟩⟩⟩⟩⟩⟩⟩⟩⟩⟩⟩⟩⟩⟩⟩⟩⟩⟩⟩⟩⟩⟩⟩⟩⟩⟩⟩⟩⟩⟩⟩⟩⟩⟩⟩⟩⟩⟩⟩⟩
theorem hat_bad : ∀ w ∈ (vx_at0 "LastAsked" 354 "java/util/NoSuchElementException" ["java/lang/RuntimeException", "java/lang/Exception"]).filter (fun w => !goodWord w), w ∈ ([Jvm.Cond.declares ({ cls := "java/lang/RuntimeException", name := "<init>", desc := "()V" } : Jvm.MethodName), Jvm.Cond.declares ({ cls := "java/lang/Exception", name := "<init>", desc := "()V" } : Jvm.MethodName), Jvm.Cond.declares ({ cls := "java/lang/Throwable", name := "<init>", desc := "()V" } : Jvm.MethodName), Jvm.Cond.castable "java/util/NoSuchElementException" "java/util/NoSuchElementException"] : List Cond) := by decide +kernel
theorem hat_nse {args : Array Value} {s : State} {D : va_G} {dA : Nat → ClassId} (hts : ∀ w ∈ lw_all, w.before args s = true) (hK : KK D dA s) (hC : va_Nw (.castable "java/util/NoSuchElementException" "java/util/NoSuchElementException") s) : ∀ w ∈ (vx_at0 "LastAsked" 354 "java/util/NoSuchElementException" ["java/lang/RuntimeException", "java/lang/Exception"]), w.before args s = true :=
  vx_hat (fun w h => hts w (hat_in w h)) hat_bad ((vx_c (va_Nw.use rfl (hK.nw 0 rfl)) (vx_c (va_Nw.use rfl (hK.nw 2 rfl)) (vx_c (va_Nw.use rfl (hK.nw 4 rfl)) (vx_c (va_Nw.use rfl hC) vx_n)))))
theorem hgood_nse : ∀ w ∈ Cond.classLink "LastAsked" 352 "java/util/NoSuchElementException" :: Cond.initialized "java/util/NoSuchElementException" :: (vx_at0 "LastAsked" 354 "java/util/NoSuchElementException" ["java/lang/RuntimeException", "java/lang/Exception"]), vx_ot w = true := by decide +kernel
/-- where it has thrown: the world is as it was -/
def nseX (D : va_G) (A : Nat → Prop) (Wd : va_W) : String → State → State → Prop := vx_X (fun (_ : Unit) => True) (fun E _ t => E = "java/util/NoSuchElementException" ∧ va_P D clG Wd t.heap ∧ va_D A Wd) A
theorem led_throw {D : va_G} {A : Nat → Prop} {Wd : va_W} {s : State} {H : Heap} {locs : List Loc} (hP : va_P D clG Wd H) (hD : va_D A Wd) (hS : va_S A s.heap H locs) : ∀ t : State, s.vm.Alike t.vm → H.size ≤ t.heap.size → (∀ q : Nat, q < H.size → t.heap[q]? = H[q]?) → nseX D A Wd "java/util/NoSuchElementException" s t := fun t _ hz hk =>
  ⟨(), trivial, ⟨rfl, va_P_of.mpr fun q hq => by
    have h0 := va_P_of.mp hP q hq
    exact h0.kept (hk q.1 h0.lt), hD⟩, Nat.le_trans hS.1 hz, fun q h1 h2 => (hk q (Nat.lt_of_lt_of_le h1 hS.1)).trans (hS.2.1 q h1 h2)⟩
section NC
variable {p : Program} {l : Launch} {e : Env} {R : Room} {s : State} {m : MethodId} {args : Array Value} {below : List Frame} {meth : Method} {c : Code} {H : Heap} {locs : List Loc} {cells slots : Nat} {Q : State → Prop}
variable {pc : Nat} {ls : Array Slot} {rest st0 : List Value} {a : Array Value} {A : Nat → Prop} {H0 : Heap} {mc ms : Nat} {D : va_G} {X wc : va_W}
theorem n_caught (is : List Nat) (hr : vx_Run p l e R s m args below meth c H locs cells slots mc ms (F0 m pc ls st0) rest (fun _ _ _ => False) (nseX D (va_A wc H.size) wc) (va_A wc H.size)) (hP : va_P D clG X H) (hD : va_D A X) (hS : va_S A H0 H locs) (hA : ∀ q, H0.size ≤ q → A q) (hC : is.map (fun i => X[i]?) = wc.map some)
    (kk : ∀ (q : Addr) (ce : Cell) (H1 : Heap) (locs1 : List Loc), H1[q]? = some ce → ce.vm = .none → s.vm.findClass "java/util/NoSuchElementException" = some ce.cls → va_P D clG (putAt X is wc) H1 → va_D A (putAt X is wc) → va_S A H0 H1 locs1 → vx_W p l e R s m args below meth c H1 locs1 (cells + mc) (slots + ms) Q (F0 m pc ls rest) q) : W p l e R s m args below meth c H locs cells slots Q (F0 m pc ls st0) := by
  have hF := k_free hD hS hA is hC
  intro T hT X'
  rcases hr T hT X' with ⟨v, st₀, t, T', L, h0, X2, hL, e1, e2, hf', st⟩ | ⟨q, st₀, t, T', L, E, ce, h0, X2, hL, e1, e2, ⟨_, -, ⟨hE, hP1, hD1⟩, hFF⟩, hce, hcv, hcl, st⟩
  · exact hf'.elim
  · obtain ⟨k1, k2, k3⟩ := vx_keep h0 e1 hS (fun q _ h => hF q h) (fun q h => hF q h) hL hFF
    subst hE
    rw [← e1] at hP1 hce
    have h2 := k_join (c1 := wc) (ex := []) hP hD is hC rfl k2 hF (by rw [List.append_nil]; exact hP1) (by rw [List.append_nil]; exact hD1)
    rw [List.append_nil] at h2
    obtain ⟨t2, a1, b1⟩ := kk q ce T'.heap (locs ++ L) hce hcv hcl h2.1 h2.2 k3 T' rfl X2
    exact ⟨t2, st.trans a1, b1⟩
end NC
def BX1_ledR_4 (p0 : Int32) (c_peopleMany : Int32) (o_town_living : Int32) (o_town_hours_ : AI) (x2_4 : Int32) (x3_4 : Int32) : Option ((Int32 × Int32) ⊕ Int32) :=
  if c_peopleMany ≤ x3_4 then
    none
  else
    (MX4_isLiving x3_4 o_town_living).bind fun r2 =>
    if (b2i r2) = 0 then
      some (.inl (x2_4, (x3_4 + (1 : Int32))))
    else
      (MX4_heir x3_4 o_town_living c_peopleMany o_town_hours_).bind fun r5 =>
      if r5 = (-2 : Int32) then
        if x2_4 = p0 then
          some (.inr x3_4)
        else
          some (.inl ((x2_4 + (1 : Int32)), (x3_4 + (1 : Int32))))
      else
        some (.inl (x2_4, (x3_4 + (1 : Int32))))
def MX1_ledR (p0 : Int32) (c_peopleMany : Int32) (o_town_living : Int32) (o_town_hours_ : AI) : Option Int32 :=
  (loopN FU (fun s_ => BX1_ledR_4 p0 c_peopleMany o_town_living o_town_hours_ s_.1 s_.2) ((0 : Int32), (0 : Int32))).bind fun r9 =>
  some r9
set_option maxHeartbeats 40000000 in
set_option maxRecDepth 100000 in
theorem wX1_ledR_4 {p : Program} {l : Launch} {e : Env} {s : State} {m : MethodId} {args : Array Value} {below : List Frame} {meth : Method} {c : Code} {D : va_G} {dA : Nat → ClassId} {A : Nat → Prop} {Q : State → Prop} (hx : p.tables.exec = Jvm.exec) (hb : c.code = cX1_led) (hml : c.maxLocals = 4) (hown : s.vm.findClass RX1 = some m.cls) (hts : ∀ w ∈ lw_all, w.before args s = true) (hK : KK D dA s) (hA : ∀ q : Nat, s.heap.size ≤ q → A q) (h_o : Nat) (h_c : Nat) (h_o_town : Nat) (h_o_town_hours : Nat) (p0 : Int32) (o_taped : Int32) (o_trouble : Int32) (o_fault : Int32) (o_where : Int32) (o_imageMany : Int32) (o_undoMany : Int32) (o_firstRest : Int32) (o_catAt : Int32) (c_hour : Int32) (c_gives : Int32) (c_peopleMany : Int32) (c_nearMany : Int32) (c_askedMany : Int32) (c_heardMany : Int32) (c_wentMany : Int32) (o_town_living : Int32) (o_town_hour : Int32) (o_town_cat : Int32) (o_town_nights : Int32) (o_town_seed : Int32) (o_town_hours_ : AI) (o_tape : Value) (o_scanner : Value) (o_was : Value) (o_trial : Value) (o_night : Value) (o_plans : Value) (o_undone : Value) (o_images : Value) (o_often : Value) (o_next : Value) (c_people : Value) (c_hours : Value) (c_heardBy : Value) (c_heardOf : Value) (c_heardAt : Value) (c_heardGive : Value) (o_town_has : Value) :
    ∀ (k_ : Nat) (x2_4 : Int32) (x3_4 : Int32) (rx : Int32) (H : Heap) (locs : List Loc) (ls : Array Slot), loopN k_ (fun s_ => BX1_ledR_4 p0 c_peopleMany o_town_living o_town_hours_ s_.1 s_.2) (x2_4, x3_4) = some rx → va_P D clG [(h_o, .inr (0, [o_tape, .int o_taped, o_scanner, .ref h_c, .int o_trouble, .int o_fault, .int o_where, .int o_imageMany, .int o_undoMany, .ref h_o_town, o_was, o_trial, o_night, o_plans, o_undone, o_images, o_often, .int o_firstRest, o_next, .int o_catAt])), (h_c, .inr (6, [c_people, c_hours, c_heardBy, c_heardOf, c_heardAt, c_heardGive, .int c_hour, .int c_gives, .int c_peopleMany, .int c_nearMany, .int c_askedMany, .int c_heardMany, .int c_wentMany])), (h_o_town, .inr (3, [o_town_has, .ref h_o_town_hours, .ref h_c, .int o_town_living, .int o_town_hour, .int o_town_cat, .int o_town_nights, .int o_town_seed])), (h_o_town_hours, .inl (dA 0, 36, .inl (o_town_hours_)))] H → va_D A [(h_o, .inr (0, [o_tape, .int o_taped, o_scanner, .ref h_c, .int o_trouble, .int o_fault, .int o_where, .int o_imageMany, .int o_undoMany, .ref h_o_town, o_was, o_trial, o_night, o_plans, o_undone, o_images, o_often, .int o_firstRest, o_next, .int o_catAt])), (h_c, .inr (6, [c_people, c_hours, c_heardBy, c_heardOf, c_heardAt, c_heardGive, .int c_hour, .int c_gives, .int c_peopleMany, .int c_nearMany, .int c_askedMany, .int c_heardMany, .int c_wentMany])), (h_o_town, .inr (3, [o_town_has, .ref h_o_town_hours, .ref h_c, .int o_town_living, .int o_town_hour, .int o_town_cat, .int o_town_nights, .int o_town_seed])), (h_o_town_hours, .inl (dA 0, 36, .inl (o_town_hours_)))] → va_S A s.heap H locs → lv_has ls 4 [(0, .ref h_o), (1, .int p0), (2, .int x2_4), (3, .int x3_4)] → (∀ (H1 : Heap) (locs1 : List Loc) (ls1 : Array Slot), va_P D clG [(h_o, .inr (0, [o_tape, .int o_taped, o_scanner, .ref h_c, .int o_trouble, .int o_fault, .int o_where, .int o_imageMany, .int o_undoMany, .ref h_o_town, o_was, o_trial, o_night, o_plans, o_undone, o_images, o_often, .int o_firstRest, o_next, .int o_catAt])), (h_c, .inr (6, [c_people, c_hours, c_heardBy, c_heardOf, c_heardAt, c_heardGive, .int c_hour, .int c_gives, .int c_peopleMany, .int c_nearMany, .int c_askedMany, .int c_heardMany, .int c_wentMany])), (h_o_town, .inr (3, [o_town_has, .ref h_o_town_hours, .ref h_c, .int o_town_living, .int o_town_hour, .int o_town_cat, .int o_town_nights, .int o_town_seed])), (h_o_town_hours, .inl (dA 0, 36, .inl (o_town_hours_)))] H1 → va_D A [(h_o, .inr (0, [o_tape, .int o_taped, o_scanner, .ref h_c, .int o_trouble, .int o_fault, .int o_where, .int o_imageMany, .int o_undoMany, .ref h_o_town, o_was, o_trial, o_night, o_plans, o_undone, o_images, o_often, .int o_firstRest, o_next, .int o_catAt])), (h_c, .inr (6, [c_people, c_hours, c_heardBy, c_heardOf, c_heardAt, c_heardGive, .int c_hour, .int c_gives, .int c_peopleMany, .int c_nearMany, .int c_askedMany, .int c_heardMany, .int c_wentMany])), (h_o_town, .inr (3, [o_town_has, .ref h_o_town_hours, .ref h_c, .int o_town_living, .int o_town_hour, .int o_town_cat, .int o_town_nights, .int o_town_seed])), (h_o_town_hours, .inl (dA 0, 36, .inl (o_town_hours_)))] → va_S A s.heap H1 locs1 → lv_has ls1 4 [(3, .int rx)] → W p l e (headSpec (ws_ yX1_led cX1_led 4 (some .int)) ({ frames := 3, cells := 0, slots := 0, locals := 65 })).room s m args below meth c H1 locs1 0 0 Q (F0 m 54 ls1 [])) → W p l e (headSpec (ws_ yX1_led cX1_led 4 (some .int)) ({ frames := 3, cells := 0, slots := 0, locals := 65 })).room s m args below meth c H locs 0 0 Q (F0 m 4 ls []) := by
  intro k_
  induction k_ with
  | zero =>
    intro x2_4 x3_4 rx H locs ls hN
    cases hN
  | succ k_ ih =>
    intro x2_4 x3_4 rx H locs ls hN hP hD hS hl kx0
    obtain ⟨r_, hM, hN⟩ := b_inv hN
    replace hM : BX1_ledR_4 p0 c_peopleMany o_town_living o_town_hours_ x2_4 x3_4 = some r_ := hM
    unfold BX1_ledR_4 at hM
    refine lv_aload_n hx hb dX1_led_4 rfl (lv_at hl 0 rfl) ?_
    refine va_get (D := D) (ci := 0) (v := .ref h_c) (C := RX1) (T := TX1) (N := 20) hx hb hts in_X1 hown hK.1 hP 0 rfl rfl 3 (by decide) (hts _ q361) (fun _ h9 => h9) rfl dX1_led_5 ?_
    refine lv_ifnull hx hb dX1_led_8 ?_
    refine lv_iload_n hx hb dX1_led_11 rfl (lv_at hl 3 rfl) ?_
    refine lv_aload_n hx hb dX1_led_12 rfl (lv_at hl 0 rfl) ?_
    refine va_get (D := D) (ci := 0) (v := .ref h_c) (C := RX1) (T := TX1) (N := 20) hx hb hts in_X1 hown hK.1 hP 0 rfl rfl 3 (by decide) (hts _ q361) (fun _ h9 => h9) rfl dX1_led_13 ?_
    refine va_get (D := D) (ci := 6) (v := .int c_peopleMany) (C := RX8) (T := TX8) (N := 13) hx hb hts in_X8 hown hK.1 hP 1 rfl rfl 8 (by decide) (hts _ q484) (fun _ h9 => h9) rfl dX1_led_16 ?_
    refine lv_icmp_ge (tgt := 65) hx hb dX1_led_19 (by decide) (fun c1 => ?_) (fun c1 => ?_)
    · rw [if_pos c1] at hM
      cases hM
    · rw [if_neg c1] at hM
      refine lv_aload_n hx hb dX1_led_22 rfl (lv_at hl 0 rfl) ?_
      refine va_get (D := D) (ci := 0) (v := .ref h_o_town) (C := RX1) (T := TX1) (N := 20) hx hb hts in_X1 hown hK.1 hP 0 rfl rfl 9 (by decide) (hts _ q367) (fun _ h9 => h9) rfl dX1_led_23 ?_
      refine lv_iload_n hx hb dX1_led_26 rfl (lv_at hl 3 rfl) ?_
      obtain ⟨r2, er2, hM⟩ := b_inv hM
      refine k_i0 [2] (va_runV (As := [.int x3_4]) (rest := []) ⟨hx, hb, hml, hown, hts⟩ (ctX4_isLiving l D dA _ h_o_town x3_4 o_town_living o_town_hour o_town_cat o_town_nights o_town_seed (o_town_has) (.ref h_o_town_hours) (.ref h_c) r2 er2) (cwV 1 hts (lw_V q934 q935 q936 q119 q937) rfl rfl rfl (by decide +kernel) ⟨Nat.le_of_ble_eq_true rfl, Nat.le_of_ble_eq_true rfl⟩) (pre_V (hP.sub [2] rfl) hK (hD.sub [2] (by decide) rfl) (ci := 3) (q0 := 0) rfl rfl) rfl rfl hl.1 rfl (lv_room (Nat.le_of_ble_eq_true rfl)) dX1_led_27 ⟨Nat.le_of_ble_eq_true rfl, Nat.le_of_ble_eq_true rfl⟩) hP hD hS hA rfl (fun _ => rfl) (fun u3 H locs hP hD hS => ?_)
      have hP : va_P D clG [(h_o, .inr (0, [o_tape, .int o_taped, o_scanner, .ref h_c, .int o_trouble, .int o_fault, .int o_where, .int o_imageMany, .int o_undoMany, .ref h_o_town, o_was, o_trial, o_night, o_plans, o_undone, o_images, o_often, .int o_firstRest, o_next, .int o_catAt])), (h_c, .inr (6, [c_people, c_hours, c_heardBy, c_heardOf, c_heardAt, c_heardGive, .int c_hour, .int c_gives, .int c_peopleMany, .int c_nearMany, .int c_askedMany, .int c_heardMany, .int c_wentMany])), (h_o_town, .inr (3, [o_town_has, .ref h_o_town_hours, .ref h_c, .int o_town_living, .int o_town_hour, .int o_town_cat, .int o_town_nights, .int o_town_seed])), (h_o_town_hours, .inl (dA 0, 36, .inl (o_town_hours_)))] H := hP
      have hD : va_D A [(h_o, .inr (0, [o_tape, .int o_taped, o_scanner, .ref h_c, .int o_trouble, .int o_fault, .int o_where, .int o_imageMany, .int o_undoMany, .ref h_o_town, o_was, o_trial, o_night, o_plans, o_undone, o_images, o_often, .int o_firstRest, o_next, .int o_catAt])), (h_c, .inr (6, [c_people, c_hours, c_heardBy, c_heardOf, c_heardAt, c_heardGive, .int c_hour, .int c_gives, .int c_peopleMany, .int c_nearMany, .int c_askedMany, .int c_heardMany, .int c_wentMany])), (h_o_town, .inr (3, [o_town_has, .ref h_o_town_hours, .ref h_c, .int o_town_living, .int o_town_hour, .int o_town_cat, .int o_town_nights, .int o_town_seed])), (h_o_town_hours, .inl (dA 0, 36, .inl (o_town_hours_)))] := hD
      refine lv_if_eq (tgt := 59) hx hb dX1_led_30 (by decide) (fun c4 => ?_) (fun c4 => ?_)
      · rw [if_pos c4] at hM
        refine lv_iinc (v := (x3_4 + (1 : Int32))) (lv' := [(3, .int (x3_4 + (1 : Int32))), (0, .ref h_o), (1, .int p0), (2, .int x2_4)]) hx hb dX1_led_59 hl (k := 3) rfl (rfl) (by decide) rfl (fun ls hl => ?_)
        refine lv_goto (tgt := 4) hx hb dX1_led_62 (by decide) ?_
        have hM := Option.some.inj hM
        subst hM
        exact ih x2_4 (x3_4 + (1 : Int32)) _ _ _ _ hN hP hD hS (lv_sub hl [1, 2, 3, 0] rfl) kx0
      · rw [if_neg c4] at hM
        refine lv_aload_n hx hb dX1_led_33 rfl (lv_at hl 0 rfl) ?_
        refine va_get (D := D) (ci := 0) (v := .ref h_o_town) (C := RX1) (T := TX1) (N := 20) hx hb hts in_X1 hown hK.1 hP 0 rfl rfl 9 (by decide) (hts _ q367) (fun _ h9 => h9) rfl dX1_led_34 ?_
        refine lv_iload_n hx hb dX1_led_37 rfl (lv_at hl 3 rfl) ?_
        obtain ⟨r5, er5, hM⟩ := b_inv hM
        refine k_i0 [2, 1, 3] (va_runV (As := [.int x3_4]) (rest := []) ⟨hx, hb, hml, hown, hts⟩ (ctX4_heir l D dA _ h_o_town h_c h_o_town_hours x3_4 o_town_living o_town_hour o_town_cat o_town_nights o_town_seed c_hour c_gives c_peopleMany c_nearMany c_askedMany c_heardMany c_wentMany o_town_hours_ (o_town_has) (c_people) (c_hours) (c_heardBy) (c_heardOf) (c_heardAt) (c_heardGive) r5 er5) (cwV 1 hts (lw_V q974 q975 q976 q119 q977) rfl rfl rfl (by decide +kernel) ⟨Nat.le_of_ble_eq_true rfl, Nat.le_of_ble_eq_true rfl⟩) (pre_V (hP.sub [2, 1, 3] rfl) hK (hD.sub [2, 1, 3] (by decide) rfl) (ci := 3) (q0 := 0) rfl rfl) rfl rfl hl.1 rfl (lv_room (Nat.le_of_ble_eq_true rfl)) dX1_led_38 ⟨Nat.le_of_ble_eq_true rfl, Nat.le_of_ble_eq_true rfl⟩) hP hD hS hA rfl (fun _ => rfl) (fun u6 H locs hP hD hS => ?_)
        have hP : va_P D clG [(h_o, .inr (0, [o_tape, .int o_taped, o_scanner, .ref h_c, .int o_trouble, .int o_fault, .int o_where, .int o_imageMany, .int o_undoMany, .ref h_o_town, o_was, o_trial, o_night, o_plans, o_undone, o_images, o_often, .int o_firstRest, o_next, .int o_catAt])), (h_c, .inr (6, [c_people, c_hours, c_heardBy, c_heardOf, c_heardAt, c_heardGive, .int c_hour, .int c_gives, .int c_peopleMany, .int c_nearMany, .int c_askedMany, .int c_heardMany, .int c_wentMany])), (h_o_town, .inr (3, [o_town_has, .ref h_o_town_hours, .ref h_c, .int o_town_living, .int o_town_hour, .int o_town_cat, .int o_town_nights, .int o_town_seed])), (h_o_town_hours, .inl (dA 0, 36, .inl (o_town_hours_)))] H := hP
        have hD : va_D A [(h_o, .inr (0, [o_tape, .int o_taped, o_scanner, .ref h_c, .int o_trouble, .int o_fault, .int o_where, .int o_imageMany, .int o_undoMany, .ref h_o_town, o_was, o_trial, o_night, o_plans, o_undone, o_images, o_often, .int o_firstRest, o_next, .int o_catAt])), (h_c, .inr (6, [c_people, c_hours, c_heardBy, c_heardOf, c_heardAt, c_heardGive, .int c_hour, .int c_gives, .int c_peopleMany, .int c_nearMany, .int c_askedMany, .int c_heardMany, .int c_wentMany])), (h_o_town, .inr (3, [o_town_has, .ref h_o_town_hours, .ref h_c, .int o_town_living, .int o_town_hour, .int o_town_cat, .int o_town_nights, .int o_town_seed])), (h_o_town_hours, .inl (dA 0, 36, .inl (o_town_hours_)))] := hD
        refine lv_bipush (v := (-2 : Int32)) hx hb dX1_led_41 (by decide) ?_
        refine lv_icmp_eq (tgt := 49) hx hb dX1_led_43 (by decide) (fun c7 => ?_) (fun c7 => ?_)
        · rw [if_pos c7] at hM
          refine lv_iload_n hx hb dX1_led_49 rfl (lv_at hl 2 rfl) ?_
          refine lv_iload_n hx hb dX1_led_50 rfl (lv_at hl 1 rfl) ?_
          refine lv_icmp_ne (tgt := 56) hx hb dX1_led_51 (by decide) (fun c8 => ?_) (fun c8 => ?_)
          · rw [if_neg c8] at hM
            refine lv_iinc (v := (x2_4 + (1 : Int32))) (lv' := [(2, .int (x2_4 + (1 : Int32))), (0, .ref h_o), (1, .int p0), (3, .int x3_4)]) hx hb dX1_led_56 hl (k := 2) rfl (rfl) (by decide) rfl (fun ls hl => ?_)
            refine lv_iinc (v := (x3_4 + (1 : Int32))) (lv' := [(3, .int (x3_4 + (1 : Int32))), (2, .int (x2_4 + (1 : Int32))), (0, .ref h_o), (1, .int p0)]) hx hb dX1_led_59 hl (k := 3) rfl (rfl) (by decide) rfl (fun ls hl => ?_)
            refine lv_goto (tgt := 4) hx hb dX1_led_62 (by decide) ?_
            have hM := Option.some.inj hM
            subst hM
            exact ih (x2_4 + (1 : Int32)) (x3_4 + (1 : Int32)) _ _ _ _ hN hP hD hS (lv_sub hl [2, 3, 1, 0] rfl) kx0
          · rw [if_pos c8] at hM
            have hM := Option.some.inj hM
            subst hM
            have hN := Option.some.inj hN
            subst hN
            exact kx0 _ _ _ hP hD hS (lv_sub hl [3] rfl)
        · rw [if_neg c7] at hM
          refine lv_goto (tgt := 59) hx hb dX1_led_46 (by decide) ?_
          refine lv_iinc (v := (x3_4 + (1 : Int32))) (lv' := [(3, .int (x3_4 + (1 : Int32))), (0, .ref h_o), (1, .int p0), (2, .int x2_4)]) hx hb dX1_led_59 hl (k := 3) rfl (rfl) (by decide) rfl (fun ls hl => ?_)
          refine lv_goto (tgt := 4) hx hb dX1_led_62 (by decide) ?_
          have hM := Option.some.inj hM
          subst hM
          exact ih x2_4 (x3_4 + (1 : Int32)) _ _ _ _ hN hP hD hS (lv_sub hl [1, 2, 3, 0] rfl) kx0
set_option maxHeartbeats 40000000 in
set_option maxRecDepth 100000 in
theorem ctX1_ledR (l : Launch) (D : va_G) (dA : Nat → ClassId) (sz : Nat) (h_o : Nat) (h_c : Nat) (h_o_town : Nat) (h_o_town_hours : Nat) (p0 : Int32) (o_taped : Int32) (o_trouble : Int32) (o_fault : Int32) (o_where : Int32) (o_imageMany : Int32) (o_undoMany : Int32) (o_firstRest : Int32) (o_catAt : Int32) (c_hour : Int32) (c_gives : Int32) (c_peopleMany : Int32) (c_nearMany : Int32) (c_askedMany : Int32) (c_heardMany : Int32) (c_wentMany : Int32) (o_town_living : Int32) (o_town_hour : Int32) (o_town_cat : Int32) (o_town_nights : Int32) (o_town_seed : Int32) (o_town_hours_ : AI) (o_tape : Value) (o_scanner : Value) (o_was : Value) (o_trial : Value) (o_night : Value) (o_plans : Value) (o_undone : Value) (o_images : Value) (o_often : Value) (o_next : Value) (c_people : Value) (c_hours : Value) (c_heardBy : Value) (c_heardOf : Value) (c_heardAt : Value) (c_heardGive : Value) (o_town_has : Value) (res : Int32) (hM : MX1_ledR p0 c_peopleMany o_town_living o_town_hours_ = some res) : Met l yX1_led (ws_ yX1_led cX1_led 4 (some .int)) ({ frames := 3, cells := 0, slots := 0, locals := 65 }) (pre_ D dA [.ref h_o, .int p0] [(h_o, .inr (0, [o_tape, .int o_taped, o_scanner, .ref h_c, .int o_trouble, .int o_fault, .int o_where, .int o_imageMany, .int o_undoMany, .ref h_o_town, o_was, o_trial, o_night, o_plans, o_undone, o_images, o_often, .int o_firstRest, o_next, .int o_catAt])), (h_c, .inr (6, [c_people, c_hours, c_heardBy, c_heardOf, c_heardAt, c_heardGive, .int c_hour, .int c_gives, .int c_peopleMany, .int c_nearMany, .int c_askedMany, .int c_heardMany, .int c_wentMany])), (h_o_town, .inr (3, [o_town_has, .ref h_o_town_hours, .ref h_c, .int o_town_living, .int o_town_hour, .int o_town_cat, .int o_town_nights, .int o_town_seed])), (h_o_town_hours, .inl (dA 0, 36, .inl (o_town_hours_)))] sz) (qi_ D res (fun (u : Unit) => [(h_o, .inr (0, [o_tape, .int o_taped, o_scanner, .ref h_c, .int o_trouble, .int o_fault, .int o_where, .int o_imageMany, .int o_undoMany, .ref h_o_town, o_was, o_trial, o_night, o_plans, o_undone, o_images, o_often, .int o_firstRest, o_next, .int o_catAt])), (h_c, .inr (6, [c_people, c_hours, c_heardBy, c_heardOf, c_heardAt, c_heardGive, .int c_hour, .int c_gives, .int c_peopleMany, .int c_nearMany, .int c_askedMany, .int c_heardMany, .int c_wentMany])), (h_o_town, .inr (3, [o_town_has, .ref h_o_town_hours, .ref h_c, .int o_town_living, .int o_town_hour, .int o_town_cat, .int o_town_nights, .int o_town_seed])), (h_o_town_hours, .inl (dA 0, 36, .inl (o_town_hours_)))]) (va_A [(h_o, .inr (0, [o_tape, .int o_taped, o_scanner, .ref h_c, .int o_trouble, .int o_fault, .int o_where, .int o_imageMany, .int o_undoMany, .ref h_o_town, o_was, o_trial, o_night, o_plans, o_undone, o_images, o_often, .int o_firstRest, o_next, .int o_catAt])), (h_c, .inr (6, [c_people, c_hours, c_heardBy, c_heardOf, c_heardAt, c_heardGive, .int c_hour, .int c_gives, .int c_peopleMany, .int c_nearMany, .int c_askedMany, .int c_heardMany, .int c_wentMany])), (h_o_town, .inr (3, [o_town_has, .ref h_o_town_hours, .ref h_c, .int o_town_living, .int o_town_hour, .int o_town_cat, .int o_town_nights, .int o_town_seed])), (h_o_town_hours, .inl (dA 0, 36, .inl (o_town_hours_)))] sz)) 0 0 (va_A [(h_o, .inr (0, [o_tape, .int o_taped, o_scanner, .ref h_c, .int o_trouble, .int o_fault, .int o_where, .int o_imageMany, .int o_undoMany, .ref h_o_town, o_was, o_trial, o_night, o_plans, o_undone, o_images, o_often, .int o_firstRest, o_next, .int o_catAt])), (h_c, .inr (6, [c_people, c_hours, c_heardBy, c_heardOf, c_heardAt, c_heardGive, .int c_hour, .int c_gives, .int c_peopleMany, .int c_nearMany, .int c_askedMany, .int c_heardMany, .int c_wentMany])), (h_o_town, .inr (3, [o_town_has, .ref h_o_town_hours, .ref h_c, .int o_town_living, .int o_town_hour, .int o_town_cat, .int o_town_nights, .int o_town_seed])), (h_o_town_hours, .inl (dA 0, 36, .inl (o_town_hours_)))] sz) := by
  refine Met.ofW (cc := cX1_led) (maxL := 4) (ret := (some .int)) (by decide) rfl ?_
  intro p e s m args below meth c s₁ B hml hv
  obtain ⟨rfl, hsz, hP, hK, hD0⟩ := hv
  have hx := B.exec
  have hb := B.bytes
  have hr := B.returns
  have hts := atoms_spec (ws := (ws_ yX1_led cX1_led 4 (some .int))) B.pre
  have hts : ∀ w ∈ lw_all, w.before _ s = true := fun w h => hts w (List.mem_cons_of_mem _ h)
  have hown : s.vm.findClass RX1 = some m.cls := findClass_of_methodNamed B.named
  have hlocks := B.notSynchronized
  subst hsz
  have hD := hD0.self (sz := s.heap.size)
  generalize hAe : va_A [(h_o, .inr (0, [o_tape, .int o_taped, o_scanner, .ref h_c, .int o_trouble, .int o_fault, .int o_where, .int o_imageMany, .int o_undoMany, .ref h_o_town, o_was, o_trial, o_night, o_plans, o_undone, o_images, o_often, .int o_firstRest, o_next, .int o_catAt])), (h_c, .inr (6, [c_people, c_hours, c_heardBy, c_heardOf, c_heardAt, c_heardGive, .int c_hour, .int c_gives, .int c_peopleMany, .int c_nearMany, .int c_askedMany, .int c_heardMany, .int c_wentMany])), (h_o_town, .inr (3, [o_town_has, .ref h_o_town_hours, .ref h_c, .int o_town_living, .int o_town_hour, .int o_town_cat, .int o_town_nights, .int o_town_seed])), (h_o_town_hours, .inl (dA 0, 36, .inl (o_town_hours_)))] s.heap.size = A at hD ⊢
  have hA : ∀ q : Nat, s.heap.size ≤ q → A q := fun q h => by rw [← hAe]; exact Or.inr h
  have hS : va_S A s.heap s.heap [] := va_S.rf
  have hP : va_P D clG [(h_o, .inr (0, [o_tape, .int o_taped, o_scanner, .ref h_c, .int o_trouble, .int o_fault, .int o_where, .int o_imageMany, .int o_undoMany, .ref h_o_town, o_was, o_trial, o_night, o_plans, o_undone, o_images, o_often, .int o_firstRest, o_next, .int o_catAt])), (h_c, .inr (6, [c_people, c_hours, c_heardBy, c_heardOf, c_heardAt, c_heardGive, .int c_hour, .int c_gives, .int c_peopleMany, .int c_nearMany, .int c_askedMany, .int c_heardMany, .int c_wentMany])), (h_o_town, .inr (3, [o_town_has, .ref h_o_town_hours, .ref h_c, .int o_town_living, .int o_town_hour, .int o_town_cat, .int o_town_nights, .int o_town_seed])), (h_o_town_hours, .inl (dA 0, 36, .inl (o_town_hours_)))] s.heap := hP
  have hl := lv_entry ([.ref h_o, .int p0]) (n := 4) (Nat.le_of_ble_eq_true rfl)
  rw [lg_entry_eq]
  generalize (lg_sl ([.ref h_o, .int p0]) ++ List.replicate (4 - (lg_sl ([.ref h_o, .int p0])).length) Slot.unset).toArray = ls at hl ⊢
  have hl : lv_has ls 4 [(0, .ref h_o), (1, .int p0)] := hl
  unfold MX1_ledR at hM
  refine lv_iconst (v := (0 : Int32)) hx hb dX1_led_0 (by decide) ?_
  refine lv_istore_n (lv' := [(2, .int (0 : Int32)), (0, .ref h_o), (1, .int p0)]) hx hb dX1_led_1 rfl hl (by decide) rfl (fun ls hl => ?_)
  refine lv_iconst (v := (0 : Int32)) hx hb dX1_led_2 (by decide) ?_
  refine lv_istore_n (lv' := [(3, .int (0 : Int32)), (2, .int (0 : Int32)), (0, .ref h_o), (1, .int p0)]) hx hb dX1_led_3 rfl hl (by decide) rfl (fun ls hl => ?_)
  obtain ⟨r9, er9, hM⟩ := b_inv hM
  refine wX1_ledR_4 hx hb hml hown hts hK hA h_o h_c h_o_town h_o_town_hours p0 o_taped o_trouble o_fault o_where o_imageMany o_undoMany o_firstRest o_catAt c_hour c_gives c_peopleMany c_nearMany c_askedMany c_heardMany c_wentMany o_town_living o_town_hour o_town_cat o_town_nights o_town_seed o_town_hours_ o_tape o_scanner o_was o_trial o_night o_plans o_undone o_images o_often o_next c_people c_hours c_heardBy c_heardOf c_heardAt c_heardGive o_town_has _ (0 : Int32) (0 : Int32) _ _ _ _ er9 hP hD hS (lv_sub hl [2, 3, 1, 0] rfl) (fun H locs ls hP hD hS hl => ?_)
  refine lv_iload_n hx hb dX1_led_54 rfl (lv_at hl 0 rfl) ?_
  have hM := Option.some.inj hM
  subst hM
  exact W.iret (v := r9) hx hb hr (fun t ht hW => ⟨⟨r9, (), rfl, rfl, by rw [ht]; exact hP, hD⟩, hS.F ht⟩) hS.2.2 dX1_led_55

def BX1_ledT_4 (p0 : Int32) (c_peopleMany : Int32) (o_town_living : Int32) (o_town_hours_ : AI) (x2_4 : Int32) (x3_4 : Int32) : Option ((Int32 × Int32) ⊕ (Int32 ⊕ Unit)) :=
  if c_peopleMany ≤ x3_4 then
    some (.inr (.inr ()))
  else
    (MX4_isLiving x3_4 o_town_living).bind fun r2 =>
    if (b2i r2) = 0 then
      some (.inl (x2_4, (x3_4 + (1 : Int32))))
    else
      (MX4_heir x3_4 o_town_living c_peopleMany o_town_hours_).bind fun r5 =>
      if r5 = (-2 : Int32) then
        if x2_4 = p0 then
          some (.inr (.inl x3_4))
        else
          some (.inl ((x2_4 + (1 : Int32)), (x3_4 + (1 : Int32))))
      else
        some (.inl (x2_4, (x3_4 + (1 : Int32))))
def MX1_ledT (p0 : Int32) (c_peopleMany : Int32) (o_town_living : Int32) (o_town_hours_ : AI) : Option Int32 :=
  (loopN FU (fun s_ => BX1_ledT_4 p0 c_peopleMany o_town_living o_town_hours_ s_.1 s_.2) ((0 : Int32), (0 : Int32))).bind fun r9 => match r9 with
  | .inl z10 =>
    none
  | .inr z11 =>
    some (0 : Int32)
set_option maxHeartbeats 40000000 in
set_option maxRecDepth 100000 in
theorem wX1_ledT_4 {p : Program} {l : Launch} {e : Env} {s : State} {m : MethodId} {args : Array Value} {below : List Frame} {meth : Method} {c : Code} {D : va_G} {dA : Nat → ClassId} {A : Nat → Prop} {Q : State → Prop} (hx : p.tables.exec = Jvm.exec) (hb : c.code = cX1_led) (hml : c.maxLocals = 4) (hown : s.vm.findClass RX1 = some m.cls) (hts : ∀ w ∈ lw_all, w.before args s = true) (hK : KK D dA s) (hA : ∀ q : Nat, s.heap.size ≤ q → A q) (h_o : Nat) (h_c : Nat) (h_o_town : Nat) (h_o_town_hours : Nat) (p0 : Int32) (o_taped : Int32) (o_trouble : Int32) (o_fault : Int32) (o_where : Int32) (o_imageMany : Int32) (o_undoMany : Int32) (o_firstRest : Int32) (o_catAt : Int32) (c_hour : Int32) (c_gives : Int32) (c_peopleMany : Int32) (c_nearMany : Int32) (c_askedMany : Int32) (c_heardMany : Int32) (c_wentMany : Int32) (o_town_living : Int32) (o_town_hour : Int32) (o_town_cat : Int32) (o_town_nights : Int32) (o_town_seed : Int32) (o_town_hours_ : AI) (o_tape : Value) (o_scanner : Value) (o_was : Value) (o_trial : Value) (o_night : Value) (o_plans : Value) (o_undone : Value) (o_images : Value) (o_often : Value) (o_next : Value) (c_people : Value) (c_hours : Value) (c_heardBy : Value) (c_heardOf : Value) (c_heardAt : Value) (c_heardGive : Value) (o_town_has : Value) (ka : Nat → Nat) (kv : Nat → Nat) (hE : ev2 TE (CR "java/util/NoSuchElementException") A s s.heap) :
    ∀ (k_ : Nat) (x2_4 : Int32) (x3_4 : Int32) (rx : (Int32 ⊕ Unit)) (H : Heap) (locs : List Loc) (ls : Array Slot), loopN k_ (fun s_ => BX1_ledT_4 p0 c_peopleMany o_town_living o_town_hours_ s_.1 s_.2) (x2_4, x3_4) = some rx → va_P D clG [(h_o, .inr (0, [o_tape, .int o_taped, o_scanner, .ref h_c, .int o_trouble, .int o_fault, .int o_where, .int o_imageMany, .int o_undoMany, .ref h_o_town, o_was, o_trial, o_night, o_plans, o_undone, o_images, o_often, .int o_firstRest, o_next, .int o_catAt])), (h_c, .inr (6, [c_people, c_hours, c_heardBy, c_heardOf, c_heardAt, c_heardGive, .int c_hour, .int c_gives, .int c_peopleMany, .int c_nearMany, .int c_askedMany, .int c_heardMany, .int c_wentMany])), (h_o_town, .inr (3, [o_town_has, .ref h_o_town_hours, .ref h_c, .int o_town_living, .int o_town_hour, .int o_town_cat, .int o_town_nights, .int o_town_seed])), (h_o_town_hours, .inl (dA 0, 36, .inl (o_town_hours_)))] H → va_D A [(h_o, .inr (0, [o_tape, .int o_taped, o_scanner, .ref h_c, .int o_trouble, .int o_fault, .int o_where, .int o_imageMany, .int o_undoMany, .ref h_o_town, o_was, o_trial, o_night, o_plans, o_undone, o_images, o_often, .int o_firstRest, o_next, .int o_catAt])), (h_c, .inr (6, [c_people, c_hours, c_heardBy, c_heardOf, c_heardAt, c_heardGive, .int c_hour, .int c_gives, .int c_peopleMany, .int c_nearMany, .int c_askedMany, .int c_heardMany, .int c_wentMany])), (h_o_town, .inr (3, [o_town_has, .ref h_o_town_hours, .ref h_c, .int o_town_living, .int o_town_hour, .int o_town_cat, .int o_town_nights, .int o_town_seed])), (h_o_town_hours, .inl (dA 0, 36, .inl (o_town_hours_)))] → va_S A s.heap H locs → lv_has ls 4 [(0, .ref h_o), (1, .int p0), (2, .int x2_4), (3, .int x3_4)] → (∀ ry : Int32, rx = .inl ry → ∀ (H1 : Heap) (locs1 : List Loc) (ls1 : Array Slot), va_P D clG [(h_o, .inr (0, [o_tape, .int o_taped, o_scanner, .ref h_c, .int o_trouble, .int o_fault, .int o_where, .int o_imageMany, .int o_undoMany, .ref h_o_town, o_was, o_trial, o_night, o_plans, o_undone, o_images, o_often, .int o_firstRest, o_next, .int o_catAt])), (h_c, .inr (6, [c_people, c_hours, c_heardBy, c_heardOf, c_heardAt, c_heardGive, .int c_hour, .int c_gives, .int c_peopleMany, .int c_nearMany, .int c_askedMany, .int c_heardMany, .int c_wentMany])), (h_o_town, .inr (3, [o_town_has, .ref h_o_town_hours, .ref h_c, .int o_town_living, .int o_town_hour, .int o_town_cat, .int o_town_nights, .int o_town_seed])), (h_o_town_hours, .inl (dA 0, 36, .inl (o_town_hours_)))] H1 → va_D A [(h_o, .inr (0, [o_tape, .int o_taped, o_scanner, .ref h_c, .int o_trouble, .int o_fault, .int o_where, .int o_imageMany, .int o_undoMany, .ref h_o_town, o_was, o_trial, o_night, o_plans, o_undone, o_images, o_often, .int o_firstRest, o_next, .int o_catAt])), (h_c, .inr (6, [c_people, c_hours, c_heardBy, c_heardOf, c_heardAt, c_heardGive, .int c_hour, .int c_gives, .int c_peopleMany, .int c_nearMany, .int c_askedMany, .int c_heardMany, .int c_wentMany])), (h_o_town, .inr (3, [o_town_has, .ref h_o_town_hours, .ref h_c, .int o_town_living, .int o_town_hour, .int o_town_cat, .int o_town_nights, .int o_town_seed])), (h_o_town_hours, .inl (dA 0, 36, .inl (o_town_hours_)))] → va_S A s.heap H1 locs1 → lv_has ls1 4 [(3, .int ry)] → W p l e (headSpec (ws_ yX1_led cX1_led 4 (some .int)) ({ frames := 8, cells := 1, slots := 6, locals := 120 })).room s m args below meth c H1 locs1 0 0 Q (F0 m 54 ls1 [])) → (∀ ry : Unit, rx = .inr ry → ∀ (H1 : Heap) (locs1 : List Loc) (ls1 : Array Slot), va_P D clG [(h_o, .inr (0, [o_tape, .int o_taped, o_scanner, .ref h_c, .int o_trouble, .int o_fault, .int o_where, .int o_imageMany, .int o_undoMany, .ref h_o_town, o_was, o_trial, o_night, o_plans, o_undone, o_images, o_often, .int o_firstRest, o_next, .int o_catAt])), (h_c, .inr (6, [c_people, c_hours, c_heardBy, c_heardOf, c_heardAt, c_heardGive, .int c_hour, .int c_gives, .int c_peopleMany, .int c_nearMany, .int c_askedMany, .int c_heardMany, .int c_wentMany])), (h_o_town, .inr (3, [o_town_has, .ref h_o_town_hours, .ref h_c, .int o_town_living, .int o_town_hour, .int o_town_cat, .int o_town_nights, .int o_town_seed])), (h_o_town_hours, .inl (dA 0, 36, .inl (o_town_hours_)))] H1 → va_D A [(h_o, .inr (0, [o_tape, .int o_taped, o_scanner, .ref h_c, .int o_trouble, .int o_fault, .int o_where, .int o_imageMany, .int o_undoMany, .ref h_o_town, o_was, o_trial, o_night, o_plans, o_undone, o_images, o_often, .int o_firstRest, o_next, .int o_catAt])), (h_c, .inr (6, [c_people, c_hours, c_heardBy, c_heardOf, c_heardAt, c_heardGive, .int c_hour, .int c_gives, .int c_peopleMany, .int c_nearMany, .int c_askedMany, .int c_heardMany, .int c_wentMany])), (h_o_town, .inr (3, [o_town_has, .ref h_o_town_hours, .ref h_c, .int o_town_living, .int o_town_hour, .int o_town_cat, .int o_town_nights, .int o_town_seed])), (h_o_town_hours, .inl (dA 0, 36, .inl (o_town_hours_)))] → va_S A s.heap H1 locs1 → lv_has ls1 4 [] → W p l e (headSpec (ws_ yX1_led cX1_led 4 (some .int)) ({ frames := 8, cells := 1, slots := 6, locals := 120 })).room s m args below meth c H1 locs1 0 0 Q (F0 m 65 ls1 [])) → W p l e (headSpec (ws_ yX1_led cX1_led 4 (some .int)) ({ frames := 8, cells := 1, slots := 6, locals := 120 })).room s m args below meth c H locs 0 0 Q (F0 m 4 ls []) := by
  intro k_
  induction k_ with
  | zero =>
    intro x2_4 x3_4 rx H locs ls hN
    cases hN
  | succ k_ ih =>
    intro x2_4 x3_4 rx H locs ls hN hP hD hS hl kx0 kx1
    obtain ⟨r_, hM, hN⟩ := b_inv hN
    replace hM : BX1_ledT_4 p0 c_peopleMany o_town_living o_town_hours_ x2_4 x3_4 = some r_ := hM
    unfold BX1_ledT_4 at hM
    refine lv_aload_n hx hb dX1_led_4 rfl (lv_at hl 0 rfl) ?_
    refine va_get (D := D) (ci := 0) (v := .ref h_c) (C := RX1) (T := TX1) (N := 20) hx hb hts in_X1 hown hK.1 hP 0 rfl rfl 3 (by decide) (hts _ q361) (fun _ h9 => h9) rfl dX1_led_5 ?_
    refine lv_ifnull hx hb dX1_led_8 ?_
    refine lv_iload_n hx hb dX1_led_11 rfl (lv_at hl 3 rfl) ?_
    refine lv_aload_n hx hb dX1_led_12 rfl (lv_at hl 0 rfl) ?_
    refine va_get (D := D) (ci := 0) (v := .ref h_c) (C := RX1) (T := TX1) (N := 20) hx hb hts in_X1 hown hK.1 hP 0 rfl rfl 3 (by decide) (hts _ q361) (fun _ h9 => h9) rfl dX1_led_13 ?_
    refine va_get (D := D) (ci := 6) (v := .int c_peopleMany) (C := RX8) (T := TX8) (N := 13) hx hb hts in_X8 hown hK.1 hP 1 rfl rfl 8 (by decide) (hts _ q484) (fun _ h9 => h9) rfl dX1_led_16 ?_
    refine lv_icmp_ge (tgt := 65) hx hb dX1_led_19 (by decide) (fun c1 => ?_) (fun c1 => ?_)
    · rw [if_pos c1] at hM
      have hM := Option.some.inj hM
      subst hM
      have hN := Option.some.inj hN
      subst hN
      exact kx1 _ rfl _ _ _ hP hD hS (lv_sub hl [] rfl)
    · rw [if_neg c1] at hM
      refine lv_aload_n hx hb dX1_led_22 rfl (lv_at hl 0 rfl) ?_
      refine va_get (D := D) (ci := 0) (v := .ref h_o_town) (C := RX1) (T := TX1) (N := 20) hx hb hts in_X1 hown hK.1 hP 0 rfl rfl 9 (by decide) (hts _ q367) (fun _ h9 => h9) rfl dX1_led_23 ?_
      refine lv_iload_n hx hb dX1_led_26 rfl (lv_at hl 3 rfl) ?_
      obtain ⟨r2, er2, hM⟩ := b_inv hM
      refine k_i0 [2] (va_runV (As := [.int x3_4]) (rest := []) ⟨hx, hb, hml, hown, hts⟩ (ctX4_isLiving l D dA _ h_o_town x3_4 o_town_living o_town_hour o_town_cat o_town_nights o_town_seed (o_town_has) (.ref h_o_town_hours) (.ref h_c) r2 er2) (cwV 1 hts (lw_V q934 q935 q936 q119 q937) rfl rfl rfl (by decide +kernel) ⟨Nat.le_of_ble_eq_true rfl, Nat.le_of_ble_eq_true rfl⟩) (pre_V (hP.sub [2] rfl) hK (hD.sub [2] (by decide) rfl) (ci := 3) (q0 := 0) rfl rfl) rfl rfl hl.1 rfl (lv_room (Nat.le_of_ble_eq_true rfl)) dX1_led_27 ⟨Nat.le_of_ble_eq_true rfl, Nat.le_of_ble_eq_true rfl⟩) hP hD hS hA rfl (fun _ => rfl) (fun u3 H locs hP hD hS => ?_)
      have hP : va_P D clG [(h_o, .inr (0, [o_tape, .int o_taped, o_scanner, .ref h_c, .int o_trouble, .int o_fault, .int o_where, .int o_imageMany, .int o_undoMany, .ref h_o_town, o_was, o_trial, o_night, o_plans, o_undone, o_images, o_often, .int o_firstRest, o_next, .int o_catAt])), (h_c, .inr (6, [c_people, c_hours, c_heardBy, c_heardOf, c_heardAt, c_heardGive, .int c_hour, .int c_gives, .int c_peopleMany, .int c_nearMany, .int c_askedMany, .int c_heardMany, .int c_wentMany])), (h_o_town, .inr (3, [o_town_has, .ref h_o_town_hours, .ref h_c, .int o_town_living, .int o_town_hour, .int o_town_cat, .int o_town_nights, .int o_town_seed])), (h_o_town_hours, .inl (dA 0, 36, .inl (o_town_hours_)))] H := hP
      have hD : va_D A [(h_o, .inr (0, [o_tape, .int o_taped, o_scanner, .ref h_c, .int o_trouble, .int o_fault, .int o_where, .int o_imageMany, .int o_undoMany, .ref h_o_town, o_was, o_trial, o_night, o_plans, o_undone, o_images, o_often, .int o_firstRest, o_next, .int o_catAt])), (h_c, .inr (6, [c_people, c_hours, c_heardBy, c_heardOf, c_heardAt, c_heardGive, .int c_hour, .int c_gives, .int c_peopleMany, .int c_nearMany, .int c_askedMany, .int c_heardMany, .int c_wentMany])), (h_o_town, .inr (3, [o_town_has, .ref h_o_town_hours, .ref h_c, .int o_town_living, .int o_town_hour, .int o_town_cat, .int o_town_nights, .int o_town_seed])), (h_o_town_hours, .inl (dA 0, 36, .inl (o_town_hours_)))] := hD
      refine lv_if_eq (tgt := 59) hx hb dX1_led_30 (by decide) (fun c4 => ?_) (fun c4 => ?_)
      · rw [if_pos c4] at hM
        refine lv_iinc (v := (x3_4 + (1 : Int32))) (lv' := [(3, .int (x3_4 + (1 : Int32))), (0, .ref h_o), (1, .int p0), (2, .int x2_4)]) hx hb dX1_led_59 hl (k := 3) rfl (rfl) (by decide) rfl (fun ls hl => ?_)
        refine lv_goto (tgt := 4) hx hb dX1_led_62 (by decide) ?_
        have hM := Option.some.inj hM
        subst hM
        exact ih x2_4 (x3_4 + (1 : Int32)) _ _ _ _ hN hP hD hS (lv_sub hl [1, 2, 3, 0] rfl) kx0 kx1
      · rw [if_neg c4] at hM
        refine lv_aload_n hx hb dX1_led_33 rfl (lv_at hl 0 rfl) ?_
        refine va_get (D := D) (ci := 0) (v := .ref h_o_town) (C := RX1) (T := TX1) (N := 20) hx hb hts in_X1 hown hK.1 hP 0 rfl rfl 9 (by decide) (hts _ q367) (fun _ h9 => h9) rfl dX1_led_34 ?_
        refine lv_iload_n hx hb dX1_led_37 rfl (lv_at hl 3 rfl) ?_
        obtain ⟨r5, er5, hM⟩ := b_inv hM
        refine k_i0 [2, 1, 3] (va_runV (As := [.int x3_4]) (rest := []) ⟨hx, hb, hml, hown, hts⟩ (ctX4_heir l D dA _ h_o_town h_c h_o_town_hours x3_4 o_town_living o_town_hour o_town_cat o_town_nights o_town_seed c_hour c_gives c_peopleMany c_nearMany c_askedMany c_heardMany c_wentMany o_town_hours_ (o_town_has) (c_people) (c_hours) (c_heardBy) (c_heardOf) (c_heardAt) (c_heardGive) r5 er5) (cwV 1 hts (lw_V q974 q975 q976 q119 q977) rfl rfl rfl (by decide +kernel) ⟨Nat.le_of_ble_eq_true rfl, Nat.le_of_ble_eq_true rfl⟩) (pre_V (hP.sub [2, 1, 3] rfl) hK (hD.sub [2, 1, 3] (by decide) rfl) (ci := 3) (q0 := 0) rfl rfl) rfl rfl hl.1 rfl (lv_room (Nat.le_of_ble_eq_true rfl)) dX1_led_38 ⟨Nat.le_of_ble_eq_true rfl, Nat.le_of_ble_eq_true rfl⟩) hP hD hS hA rfl (fun _ => rfl) (fun u6 H locs hP hD hS => ?_)
        have hP : va_P D clG [(h_o, .inr (0, [o_tape, .int o_taped, o_scanner, .ref h_c, .int o_trouble, .int o_fault, .int o_where, .int o_imageMany, .int o_undoMany, .ref h_o_town, o_was, o_trial, o_night, o_plans, o_undone, o_images, o_often, .int o_firstRest, o_next, .int o_catAt])), (h_c, .inr (6, [c_people, c_hours, c_heardBy, c_heardOf, c_heardAt, c_heardGive, .int c_hour, .int c_gives, .int c_peopleMany, .int c_nearMany, .int c_askedMany, .int c_heardMany, .int c_wentMany])), (h_o_town, .inr (3, [o_town_has, .ref h_o_town_hours, .ref h_c, .int o_town_living, .int o_town_hour, .int o_town_cat, .int o_town_nights, .int o_town_seed])), (h_o_town_hours, .inl (dA 0, 36, .inl (o_town_hours_)))] H := hP
        have hD : va_D A [(h_o, .inr (0, [o_tape, .int o_taped, o_scanner, .ref h_c, .int o_trouble, .int o_fault, .int o_where, .int o_imageMany, .int o_undoMany, .ref h_o_town, o_was, o_trial, o_night, o_plans, o_undone, o_images, o_often, .int o_firstRest, o_next, .int o_catAt])), (h_c, .inr (6, [c_people, c_hours, c_heardBy, c_heardOf, c_heardAt, c_heardGive, .int c_hour, .int c_gives, .int c_peopleMany, .int c_nearMany, .int c_askedMany, .int c_heardMany, .int c_wentMany])), (h_o_town, .inr (3, [o_town_has, .ref h_o_town_hours, .ref h_c, .int o_town_living, .int o_town_hour, .int o_town_cat, .int o_town_nights, .int o_town_seed])), (h_o_town_hours, .inl (dA 0, 36, .inl (o_town_hours_)))] := hD
        refine lv_bipush (v := (-2 : Int32)) hx hb dX1_led_41 (by decide) ?_
        refine lv_icmp_eq (tgt := 49) hx hb dX1_led_43 (by decide) (fun c7 => ?_) (fun c7 => ?_)
        · rw [if_pos c7] at hM
          refine lv_iload_n hx hb dX1_led_49 rfl (lv_at hl 2 rfl) ?_
          refine lv_iload_n hx hb dX1_led_50 rfl (lv_at hl 1 rfl) ?_
          refine lv_icmp_ne (tgt := 56) hx hb dX1_led_51 (by decide) (fun c8 => ?_) (fun c8 => ?_)
          · rw [if_neg c8] at hM
            refine lv_iinc (v := (x2_4 + (1 : Int32))) (lv' := [(2, .int (x2_4 + (1 : Int32))), (0, .ref h_o), (1, .int p0), (3, .int x3_4)]) hx hb dX1_led_56 hl (k := 2) rfl (rfl) (by decide) rfl (fun ls hl => ?_)
            refine lv_iinc (v := (x3_4 + (1 : Int32))) (lv' := [(3, .int (x3_4 + (1 : Int32))), (2, .int (x2_4 + (1 : Int32))), (0, .ref h_o), (1, .int p0)]) hx hb dX1_led_59 hl (k := 3) rfl (rfl) (by decide) rfl (fun ls hl => ?_)
            refine lv_goto (tgt := 4) hx hb dX1_led_62 (by decide) ?_
            have hM := Option.some.inj hM
            subst hM
            exact ih (x2_4 + (1 : Int32)) (x3_4 + (1 : Int32)) _ _ _ _ hN hP hD hS (lv_sub hl [2, 3, 1, 0] rfl) kx0 kx1
          · rw [if_pos c8] at hM
            have hM := Option.some.inj hM
            subst hM
            have hN := Option.some.inj hN
            subst hN
            exact kx0 _ rfl _ _ _ hP hD hS (lv_sub hl [3] rfl)
        · rw [if_neg c7] at hM
          refine lv_goto (tgt := 59) hx hb dX1_led_46 (by decide) ?_
          refine lv_iinc (v := (x3_4 + (1 : Int32))) (lv' := [(3, .int (x3_4 + (1 : Int32))), (0, .ref h_o), (1, .int p0), (2, .int x2_4)]) hx hb dX1_led_59 hl (k := 3) rfl (rfl) (by decide) rfl (fun ls hl => ?_)
          refine lv_goto (tgt := 4) hx hb dX1_led_62 (by decide) ?_
          have hM := Option.some.inj hM
          subst hM
          exact ih x2_4 (x3_4 + (1 : Int32)) _ _ _ _ hN hP hD hS (lv_sub hl [1, 2, 3, 0] rfl) kx0 kx1
set_option maxHeartbeats 40000000 in
set_option maxRecDepth 100000 in
theorem ctX1_ledT (l : Launch) (hfl : l.stackTraces = false) (D : va_G) (dA : Nat → ClassId) (sz : Nat) (h_o : Nat) (h_c : Nat) (h_o_town : Nat) (h_o_town_hours : Nat) (p0 : Int32) (o_taped : Int32) (o_trouble : Int32) (o_fault : Int32) (o_where : Int32) (o_imageMany : Int32) (o_undoMany : Int32) (o_firstRest : Int32) (o_catAt : Int32) (c_hour : Int32) (c_gives : Int32) (c_peopleMany : Int32) (c_nearMany : Int32) (c_askedMany : Int32) (c_heardMany : Int32) (c_wentMany : Int32) (o_town_living : Int32) (o_town_hour : Int32) (o_town_cat : Int32) (o_town_nights : Int32) (o_town_seed : Int32) (o_town_hours_ : AI) (o_tape : Value) (o_scanner : Value) (o_was : Value) (o_trial : Value) (o_night : Value) (o_plans : Value) (o_undone : Value) (o_images : Value) (o_often : Value) (o_next : Value) (c_people : Value) (c_hours : Value) (c_heardBy : Value) (c_heardOf : Value) (c_heardAt : Value) (c_heardGive : Value) (o_town_has : Value) (ka : Nat → Nat) (kv : Nat → Nat) (res : Int32) (hM : MX1_ledT p0 c_peopleMany o_town_living o_town_hours_ = some res) : vx_Met l yX1_led (ws_ yX1_led cX1_led 4 (some .int)) ({ frames := 8, cells := 1, slots := 6, locals := 120 }) (preX D dA (ev2 TE (CR "java/util/NoSuchElementException")) [.ref h_o, .int p0] [(h_o, .inr (0, [o_tape, .int o_taped, o_scanner, .ref h_c, .int o_trouble, .int o_fault, .int o_where, .int o_imageMany, .int o_undoMany, .ref h_o_town, o_was, o_trial, o_night, o_plans, o_undone, o_images, o_often, .int o_firstRest, o_next, .int o_catAt])), (h_c, .inr (6, [c_people, c_hours, c_heardBy, c_heardOf, c_heardAt, c_heardGive, .int c_hour, .int c_gives, .int c_peopleMany, .int c_nearMany, .int c_askedMany, .int c_heardMany, .int c_wentMany])), (h_o_town, .inr (3, [o_town_has, .ref h_o_town_hours, .ref h_c, .int o_town_living, .int o_town_hour, .int o_town_cat, .int o_town_nights, .int o_town_seed])), (h_o_town_hours, .inl (dA 0, 36, .inl (o_town_hours_)))] sz) (fun _ _ _ _ => False) (nseX D (va_A [(h_o, .inr (0, [o_tape, .int o_taped, o_scanner, .ref h_c, .int o_trouble, .int o_fault, .int o_where, .int o_imageMany, .int o_undoMany, .ref h_o_town, o_was, o_trial, o_night, o_plans, o_undone, o_images, o_often, .int o_firstRest, o_next, .int o_catAt])), (h_c, .inr (6, [c_people, c_hours, c_heardBy, c_heardOf, c_heardAt, c_heardGive, .int c_hour, .int c_gives, .int c_peopleMany, .int c_nearMany, .int c_askedMany, .int c_heardMany, .int c_wentMany])), (h_o_town, .inr (3, [o_town_has, .ref h_o_town_hours, .ref h_c, .int o_town_living, .int o_town_hour, .int o_town_cat, .int o_town_nights, .int o_town_seed])), (h_o_town_hours, .inl (dA 0, 36, .inl (o_town_hours_)))] sz) [(h_o, .inr (0, [o_tape, .int o_taped, o_scanner, .ref h_c, .int o_trouble, .int o_fault, .int o_where, .int o_imageMany, .int o_undoMany, .ref h_o_town, o_was, o_trial, o_night, o_plans, o_undone, o_images, o_often, .int o_firstRest, o_next, .int o_catAt])), (h_c, .inr (6, [c_people, c_hours, c_heardBy, c_heardOf, c_heardAt, c_heardGive, .int c_hour, .int c_gives, .int c_peopleMany, .int c_nearMany, .int c_askedMany, .int c_heardMany, .int c_wentMany])), (h_o_town, .inr (3, [o_town_has, .ref h_o_town_hours, .ref h_c, .int o_town_living, .int o_town_hour, .int o_town_cat, .int o_town_nights, .int o_town_seed])), (h_o_town_hours, .inl (dA 0, 36, .inl (o_town_hours_)))]) 1 6 (va_A [(h_o, .inr (0, [o_tape, .int o_taped, o_scanner, .ref h_c, .int o_trouble, .int o_fault, .int o_where, .int o_imageMany, .int o_undoMany, .ref h_o_town, o_was, o_trial, o_night, o_plans, o_undone, o_images, o_often, .int o_firstRest, o_next, .int o_catAt])), (h_c, .inr (6, [c_people, c_hours, c_heardBy, c_heardOf, c_heardAt, c_heardGive, .int c_hour, .int c_gives, .int c_peopleMany, .int c_nearMany, .int c_askedMany, .int c_heardMany, .int c_wentMany])), (h_o_town, .inr (3, [o_town_has, .ref h_o_town_hours, .ref h_c, .int o_town_living, .int o_town_hour, .int o_town_cat, .int o_town_nights, .int o_town_seed])), (h_o_town_hours, .inl (dA 0, 36, .inl (o_town_hours_)))] sz) := by
  refine vx_ofW (cc := cX1_led) (maxL := 4) (ret := (some .int)) (by decide) rfl ?_
  intro p e s m args below meth c s₁ B hml hout hv
  obtain ⟨rfl, hsz, hP, hK, hD0, hE⟩ := hv
  have hx := B.exec
  have hb := B.bytes
  have hr := B.returns
  have hts := atoms_spec (ws := (ws_ yX1_led cX1_led 4 (some .int))) B.pre
  have hts : ∀ w ∈ lw_all, w.before _ s = true := fun w h => hts w (List.mem_cons_of_mem _ h)
  have hown : s.vm.findClass RX1 = some m.cls := findClass_of_methodNamed B.named
  have hlocks := B.notSynchronized
  subst hsz
  have hD := hD0.self (sz := s.heap.size)
  generalize hAe : va_A [(h_o, .inr (0, [o_tape, .int o_taped, o_scanner, .ref h_c, .int o_trouble, .int o_fault, .int o_where, .int o_imageMany, .int o_undoMany, .ref h_o_town, o_was, o_trial, o_night, o_plans, o_undone, o_images, o_often, .int o_firstRest, o_next, .int o_catAt])), (h_c, .inr (6, [c_people, c_hours, c_heardBy, c_heardOf, c_heardAt, c_heardGive, .int c_hour, .int c_gives, .int c_peopleMany, .int c_nearMany, .int c_askedMany, .int c_heardMany, .int c_wentMany])), (h_o_town, .inr (3, [o_town_has, .ref h_o_town_hours, .ref h_c, .int o_town_living, .int o_town_hour, .int o_town_cat, .int o_town_nights, .int o_town_seed])), (h_o_town_hours, .inl (dA 0, 36, .inl (o_town_hours_)))] s.heap.size = A at hD hE ⊢
  have hA : ∀ q : Nat, s.heap.size ≤ q → A q := fun q h => by rw [← hAe]; exact Or.inr h
  have hS : va_S A s.heap s.heap [] := va_S.rf
  have hP : va_P D clG [(h_o, .inr (0, [o_tape, .int o_taped, o_scanner, .ref h_c, .int o_trouble, .int o_fault, .int o_where, .int o_imageMany, .int o_undoMany, .ref h_o_town, o_was, o_trial, o_night, o_plans, o_undone, o_images, o_often, .int o_firstRest, o_next, .int o_catAt])), (h_c, .inr (6, [c_people, c_hours, c_heardBy, c_heardOf, c_heardAt, c_heardGive, .int c_hour, .int c_gives, .int c_peopleMany, .int c_nearMany, .int c_askedMany, .int c_heardMany, .int c_wentMany])), (h_o_town, .inr (3, [o_town_has, .ref h_o_town_hours, .ref h_c, .int o_town_living, .int o_town_hour, .int o_town_cat, .int o_town_nights, .int o_town_seed])), (h_o_town_hours, .inl (dA 0, 36, .inl (o_town_hours_)))] s.heap := hP
  have hl := lv_entry ([.ref h_o, .int p0]) (n := 4) (Nat.le_of_ble_eq_true rfl)
  rw [lg_entry_eq]
  generalize (lg_sl ([.ref h_o, .int p0]) ++ List.replicate (4 - (lg_sl ([.ref h_o, .int p0])).length) Slot.unset).toArray = ls at hl ⊢
  have hl : lv_has ls 4 [(0, .ref h_o), (1, .int p0)] := hl
  unfold MX1_ledT at hM
  refine lv_iconst (v := (0 : Int32)) hx hb dX1_led_0 (by decide) ?_
  refine lv_istore_n (lv' := [(2, .int (0 : Int32)), (0, .ref h_o), (1, .int p0)]) hx hb dX1_led_1 rfl hl (by decide) rfl (fun ls hl => ?_)
  refine lv_iconst (v := (0 : Int32)) hx hb dX1_led_2 (by decide) ?_
  refine lv_istore_n (lv' := [(3, .int (0 : Int32)), (2, .int (0 : Int32)), (0, .ref h_o), (1, .int p0)]) hx hb dX1_led_3 rfl hl (by decide) rfl (fun ls hl => ?_)
  obtain ⟨r9, er9, hM⟩ := b_inv hM
  refine wX1_ledT_4 hx hb hml hown hts hK hA h_o h_c h_o_town h_o_town_hours p0 o_taped o_trouble o_fault o_where o_imageMany o_undoMany o_firstRest o_catAt c_hour c_gives c_peopleMany c_nearMany c_askedMany c_heardMany c_wentMany o_town_living o_town_hour o_town_cat o_town_nights o_town_seed o_town_hours_ o_tape o_scanner o_was o_trial o_night o_plans o_undone o_images o_often o_next c_people c_hours c_heardBy c_heardOf c_heardAt c_heardGive o_town_has ka kv hE _ (0 : Int32) (0 : Int32) _ _ _ _ er9 hP hD hS (lv_sub hl [2, 3, 1, 0] rfl) (fun z10 hr9 H locs ls hP hD hS hl => ?_) (fun z11 hr9 H locs ls hP hD hS hl => ?_)
  · subst hr9
    dsimp only at hM
    refine lv_iload_n hx hb dX1_led_54 rfl (lv_at hl 0 rfl) ?_
    cases hM
  · subst hr9
    dsimp only at hM
    have hM := Option.some.inj hM
    subst hM
    exact vx_throw0 (own := "LastAsked") (cls := "java/util/NoSuchElementException") (names := ["java/lang/RuntimeException", "java/lang/Exception"]) (ik := 352) (ic := 354) hx hb hfl hown (by decide +kernel) (by decide +kernel) (hts _ q1345) (hts _ q137) (hat_nse hts hK hE.2) hgood_nse hE.1.1 hE.1.2 hS (by rw [hml]; exact hl.1) dX1_led_65 dX1_led_68 dX1_led_69 dX1_led_72 (fun x hx9 => (hout x hx9).elim) (by decide) (by decide) (by decide) (by decide) hlocks (led_throw hP hD hS) hS.2.2 (by decide) (by decide)

def BX1_ledTN_4  : Option (Unit ⊕ Unit) :=
  some (.inr ())
def MX1_ledTN  : Option Int32 :=
  (loopN FU (fun s_ => BX1_ledTN_4 ) ()).bind fun r1 =>
  some (0 : Int32)
set_option maxHeartbeats 40000000 in
set_option maxRecDepth 100000 in
theorem wX1_ledTN_4 {p : Program} {l : Launch} {e : Env} {s : State} {m : MethodId} {args : Array Value} {below : List Frame} {meth : Method} {c : Code} {D : va_G} {dA : Nat → ClassId} {A : Nat → Prop} {Q : State → Prop} (hx : p.tables.exec = Jvm.exec) (hb : c.code = cX1_led) (hml : c.maxLocals = 4) (hown : s.vm.findClass RX1 = some m.cls) (hts : ∀ w ∈ lw_all, w.before args s = true) (hK : KK D dA s) (hA : ∀ q : Nat, s.heap.size ≤ q → A q) (h_o : Nat) (p0 : Int32) (o_taped : Int32) (o_trouble : Int32) (o_fault : Int32) (o_where : Int32) (o_imageMany : Int32) (o_undoMany : Int32) (o_firstRest : Int32) (o_catAt : Int32) (o_tape : Value) (o_scanner : Value) (o_town : Value) (o_was : Value) (o_trial : Value) (o_night : Value) (o_plans : Value) (o_undone : Value) (o_images : Value) (o_often : Value) (o_next : Value) (ka : Nat → Nat) (kv : Nat → Nat) (hE : ev2 TE (CR "java/util/NoSuchElementException") A s s.heap) :
    ∀ (k_ : Nat)  (rx : Unit) (H : Heap) (locs : List Loc) (ls : Array Slot), loopN k_ (fun s_ => BX1_ledTN_4 ) () = some rx → va_P D clG [(h_o, .inr (0, [o_tape, .int o_taped, o_scanner, .null, .int o_trouble, .int o_fault, .int o_where, .int o_imageMany, .int o_undoMany, o_town, o_was, o_trial, o_night, o_plans, o_undone, o_images, o_often, .int o_firstRest, o_next, .int o_catAt]))] H → va_D A [(h_o, .inr (0, [o_tape, .int o_taped, o_scanner, .null, .int o_trouble, .int o_fault, .int o_where, .int o_imageMany, .int o_undoMany, o_town, o_was, o_trial, o_night, o_plans, o_undone, o_images, o_often, .int o_firstRest, o_next, .int o_catAt]))] → va_S A s.heap H locs → lv_has ls 4 [(0, .ref h_o), (1, .int p0), (2, .int (0 : Int32)), (3, .int (0 : Int32))] → (∀ (H1 : Heap) (locs1 : List Loc) (ls1 : Array Slot), va_P D clG [(h_o, .inr (0, [o_tape, .int o_taped, o_scanner, .null, .int o_trouble, .int o_fault, .int o_where, .int o_imageMany, .int o_undoMany, o_town, o_was, o_trial, o_night, o_plans, o_undone, o_images, o_often, .int o_firstRest, o_next, .int o_catAt]))] H1 → va_D A [(h_o, .inr (0, [o_tape, .int o_taped, o_scanner, .null, .int o_trouble, .int o_fault, .int o_where, .int o_imageMany, .int o_undoMany, o_town, o_was, o_trial, o_night, o_plans, o_undone, o_images, o_often, .int o_firstRest, o_next, .int o_catAt]))] → va_S A s.heap H1 locs1 → lv_has ls1 4 [] → W p l e (headSpec (ws_ yX1_led cX1_led 4 (some .int)) ({ frames := 8, cells := 1, slots := 6, locals := 120 })).room s m args below meth c H1 locs1 0 0 Q (F0 m 65 ls1 [])) → W p l e (headSpec (ws_ yX1_led cX1_led 4 (some .int)) ({ frames := 8, cells := 1, slots := 6, locals := 120 })).room s m args below meth c H locs 0 0 Q (F0 m 4 ls []) := by
  intro k_
  induction k_ with
  | zero =>
    intro  rx H locs ls hN
    cases hN
  | succ k_ ih =>
    intro  rx H locs ls hN hP hD hS hl kx0
    obtain ⟨r_, hM, hN⟩ := b_inv hN
    replace hM : BX1_ledTN_4  = some r_ := hM
    unfold BX1_ledTN_4 at hM
    refine lv_aload_n hx hb dX1_led_4 rfl (lv_at hl 0 rfl) ?_
    refine va_get (D := D) (ci := 0) (v := .null) (C := RX1) (T := TX1) (N := 20) hx hb hts in_X1 hown hK.1 hP 0 rfl rfl 3 (by decide) (hts _ q361) (fun _ h9 => h9) rfl dX1_led_5 ?_
    refine lv_ifnullN (tgt := 65) hx hb dX1_led_8 (by decide) ?_
    have hM := Option.some.inj hM
    subst hM
    have hN := Option.some.inj hN
    subst hN
    exact kx0 _ _ _ hP hD hS (lv_sub hl [] rfl)
set_option maxHeartbeats 40000000 in
set_option maxRecDepth 100000 in
theorem ctX1_ledTN (l : Launch) (hfl : l.stackTraces = false) (D : va_G) (dA : Nat → ClassId) (sz : Nat) (h_o : Nat) (p0 : Int32) (o_taped : Int32) (o_trouble : Int32) (o_fault : Int32) (o_where : Int32) (o_imageMany : Int32) (o_undoMany : Int32) (o_firstRest : Int32) (o_catAt : Int32) (o_tape : Value) (o_scanner : Value) (o_town : Value) (o_was : Value) (o_trial : Value) (o_night : Value) (o_plans : Value) (o_undone : Value) (o_images : Value) (o_often : Value) (o_next : Value) (ka : Nat → Nat) (kv : Nat → Nat) (res : Int32) (hM : MX1_ledTN  = some res) : vx_Met l yX1_led (ws_ yX1_led cX1_led 4 (some .int)) ({ frames := 8, cells := 1, slots := 6, locals := 120 }) (preX D dA (ev2 TE (CR "java/util/NoSuchElementException")) [.ref h_o, .int p0] [(h_o, .inr (0, [o_tape, .int o_taped, o_scanner, .null, .int o_trouble, .int o_fault, .int o_where, .int o_imageMany, .int o_undoMany, o_town, o_was, o_trial, o_night, o_plans, o_undone, o_images, o_often, .int o_firstRest, o_next, .int o_catAt]))] sz) (fun _ _ _ _ => False) (nseX D (va_A [(h_o, .inr (0, [o_tape, .int o_taped, o_scanner, .null, .int o_trouble, .int o_fault, .int o_where, .int o_imageMany, .int o_undoMany, o_town, o_was, o_trial, o_night, o_plans, o_undone, o_images, o_often, .int o_firstRest, o_next, .int o_catAt]))] sz) [(h_o, .inr (0, [o_tape, .int o_taped, o_scanner, .null, .int o_trouble, .int o_fault, .int o_where, .int o_imageMany, .int o_undoMany, o_town, o_was, o_trial, o_night, o_plans, o_undone, o_images, o_often, .int o_firstRest, o_next, .int o_catAt]))]) 1 6 (va_A [(h_o, .inr (0, [o_tape, .int o_taped, o_scanner, .null, .int o_trouble, .int o_fault, .int o_where, .int o_imageMany, .int o_undoMany, o_town, o_was, o_trial, o_night, o_plans, o_undone, o_images, o_often, .int o_firstRest, o_next, .int o_catAt]))] sz) := by
  refine vx_ofW (cc := cX1_led) (maxL := 4) (ret := (some .int)) (by decide) rfl ?_
  intro p e s m args below meth c s₁ B hml hout hv
  obtain ⟨rfl, hsz, hP, hK, hD0, hE⟩ := hv
  have hx := B.exec
  have hb := B.bytes
  have hr := B.returns
  have hts := atoms_spec (ws := (ws_ yX1_led cX1_led 4 (some .int))) B.pre
  have hts : ∀ w ∈ lw_all, w.before _ s = true := fun w h => hts w (List.mem_cons_of_mem _ h)
  have hown : s.vm.findClass RX1 = some m.cls := findClass_of_methodNamed B.named
  have hlocks := B.notSynchronized
  subst hsz
  have hD := hD0.self (sz := s.heap.size)
  generalize hAe : va_A [(h_o, .inr (0, [o_tape, .int o_taped, o_scanner, .null, .int o_trouble, .int o_fault, .int o_where, .int o_imageMany, .int o_undoMany, o_town, o_was, o_trial, o_night, o_plans, o_undone, o_images, o_often, .int o_firstRest, o_next, .int o_catAt]))] s.heap.size = A at hD hE ⊢
  have hA : ∀ q : Nat, s.heap.size ≤ q → A q := fun q h => by rw [← hAe]; exact Or.inr h
  have hS : va_S A s.heap s.heap [] := va_S.rf
  have hP : va_P D clG [(h_o, .inr (0, [o_tape, .int o_taped, o_scanner, .null, .int o_trouble, .int o_fault, .int o_where, .int o_imageMany, .int o_undoMany, o_town, o_was, o_trial, o_night, o_plans, o_undone, o_images, o_often, .int o_firstRest, o_next, .int o_catAt]))] s.heap := hP
  have hl := lv_entry ([.ref h_o, .int p0]) (n := 4) (Nat.le_of_ble_eq_true rfl)
  rw [lg_entry_eq]
  generalize (lg_sl ([.ref h_o, .int p0]) ++ List.replicate (4 - (lg_sl ([.ref h_o, .int p0])).length) Slot.unset).toArray = ls at hl ⊢
  have hl : lv_has ls 4 [(0, .ref h_o), (1, .int p0)] := hl
  unfold MX1_ledTN at hM
  refine lv_iconst (v := (0 : Int32)) hx hb dX1_led_0 (by decide) ?_
  refine lv_istore_n (lv' := [(2, .int (0 : Int32)), (0, .ref h_o), (1, .int p0)]) hx hb dX1_led_1 rfl hl (by decide) rfl (fun ls hl => ?_)
  refine lv_iconst (v := (0 : Int32)) hx hb dX1_led_2 (by decide) ?_
  refine lv_istore_n (lv' := [(3, .int (0 : Int32)), (2, .int (0 : Int32)), (0, .ref h_o), (1, .int p0)]) hx hb dX1_led_3 rfl hl (by decide) rfl (fun ls hl => ?_)
  obtain ⟨r1, er1, hM⟩ := b_inv hM
  refine wX1_ledTN_4 hx hb hml hown hts hK hA h_o p0 o_taped o_trouble o_fault o_where o_imageMany o_undoMany o_firstRest o_catAt o_tape o_scanner o_town o_was o_trial o_night o_plans o_undone o_images o_often o_next ka kv hE _  _ _ _ _ er1 hP hD hS (lv_sub hl [2, 3, 1, 0] rfl) (fun H locs ls hP hD hS hl => ?_)
  have hM := Option.some.inj hM
  subst hM
  exact vx_throw0 (own := "LastAsked") (cls := "java/util/NoSuchElementException") (names := ["java/lang/RuntimeException", "java/lang/Exception"]) (ik := 352) (ic := 354) hx hb hfl hown (by decide +kernel) (by decide +kernel) (hts _ q1345) (hts _ q137) (hat_nse hts hK hE.2) hgood_nse hE.1.1 hE.1.2 hS (by rw [hml]; exact hl.1) dX1_led_65 dX1_led_68 dX1_led_69 dX1_led_72 (fun x hx9 => (hout x hx9).elim) (by decide) (by decide) (by decide) (by decide) hlocks (led_throw hP hD hS) hS.2.2 (by decide) (by decide)

set_option maxHeartbeats 40000000 in
theorem ctX0_ledR (l : Launch) (D : va_G) (dA : Nat → ClassId) (sz : Nat) (h_o : Nat) (h_c : Nat) (h_o_town : Nat) (h_o_town_hours : Nat) (p0 : Int32) (o_taped : Int32) (o_trouble : Int32) (o_fault : Int32) (o_where : Int32) (o_imageMany : Int32) (o_undoMany : Int32) (o_firstRest : Int32) (o_catAt : Int32) (c_hour : Int32) (c_gives : Int32) (c_peopleMany : Int32) (c_nearMany : Int32) (c_askedMany : Int32) (c_heardMany : Int32) (c_wentMany : Int32) (o_town_living : Int32) (o_town_hour : Int32) (o_town_cat : Int32) (o_town_nights : Int32) (o_town_seed : Int32) (o_town_hours_ : AI) (o_tape : Value) (o_scanner : Value) (o_was : Value) (o_trial : Value) (o_night : Value) (o_plans : Value) (o_undone : Value) (o_images : Value) (o_often : Value) (o_next : Value) (c_people : Value) (c_hours : Value) (c_heardBy : Value) (c_heardOf : Value) (c_heardAt : Value) (c_heardGive : Value) (o_town_has : Value) (h_out : Nat) (out_ : AL) (res : Int32) (hM : MX1_ledR p0 c_peopleMany o_town_living o_town_hours_ = some res) : Met l yX0_led (wsW_ yX0_led cX0_led 4 (some .int) [(0, 9, 12, 13)]) ({ frames := 9, cells := 0, slots := 0, locals := 160 }) (preX D dA (ev2 TE (CR "java/util/NoSuchElementException")) [.ref h_o, .int p0, .ref h_out] [(h_o, .inr (0, [o_tape, .int o_taped, o_scanner, .ref h_c, .int o_trouble, .int o_fault, .int o_where, .int o_imageMany, .int o_undoMany, .ref h_o_town, o_was, o_trial, o_night, o_plans, o_undone, o_images, o_often, .int o_firstRest, o_next, .int o_catAt])), (h_c, .inr (6, [c_people, c_hours, c_heardBy, c_heardOf, c_heardAt, c_heardGive, .int c_hour, .int c_gives, .int c_peopleMany, .int c_nearMany, .int c_askedMany, .int c_heardMany, .int c_wentMany])), (h_o_town, .inr (3, [o_town_has, .ref h_o_town_hours, .ref h_c, .int o_town_living, .int o_town_hour, .int o_town_cat, .int o_town_nights, .int o_town_seed])), (h_o_town_hours, .inl (dA 0, 36, .inl (o_town_hours_))), (h_out, .inl (dA 1, 1, .inr (.inl out_)))] sz) (qi_ D 0 (fun (_ : Unit) => [(h_o, .inr (0, [o_tape, .int o_taped, o_scanner, .ref h_c, .int o_trouble, .int o_fault, .int o_where, .int o_imageMany, .int o_undoMany, .ref h_o_town, o_was, o_trial, o_night, o_plans, o_undone, o_images, o_often, .int o_firstRest, o_next, .int o_catAt])), (h_c, .inr (6, [c_people, c_hours, c_heardBy, c_heardOf, c_heardAt, c_heardGive, .int c_hour, .int c_gives, .int c_peopleMany, .int c_nearMany, .int c_askedMany, .int c_heardMany, .int c_wentMany])), (h_o_town, .inr (3, [o_town_has, .ref h_o_town_hours, .ref h_c, .int o_town_living, .int o_town_hour, .int o_town_cat, .int o_town_nights, .int o_town_seed])), (h_o_town_hours, .inl (dA 0, 36, .inl (o_town_hours_))), (h_out, .inl (dA 1, 1, .inr (.inl (vp_updL out_ 0 (Int32.toInt64 res)))))]) (va_A [(h_o, .inr (0, [o_tape, .int o_taped, o_scanner, .ref h_c, .int o_trouble, .int o_fault, .int o_where, .int o_imageMany, .int o_undoMany, .ref h_o_town, o_was, o_trial, o_night, o_plans, o_undone, o_images, o_often, .int o_firstRest, o_next, .int o_catAt])), (h_c, .inr (6, [c_people, c_hours, c_heardBy, c_heardOf, c_heardAt, c_heardGive, .int c_hour, .int c_gives, .int c_peopleMany, .int c_nearMany, .int c_askedMany, .int c_heardMany, .int c_wentMany])), (h_o_town, .inr (3, [o_town_has, .ref h_o_town_hours, .ref h_c, .int o_town_living, .int o_town_hour, .int o_town_cat, .int o_town_nights, .int o_town_seed])), (h_o_town_hours, .inl (dA 0, 36, .inl (o_town_hours_))), (h_out, .inl (dA 1, 1, .inr (.inl out_)))] sz)) 0 0 (va_A [(h_o, .inr (0, [o_tape, .int o_taped, o_scanner, .ref h_c, .int o_trouble, .int o_fault, .int o_where, .int o_imageMany, .int o_undoMany, .ref h_o_town, o_was, o_trial, o_night, o_plans, o_undone, o_images, o_often, .int o_firstRest, o_next, .int o_catAt])), (h_c, .inr (6, [c_people, c_hours, c_heardBy, c_heardOf, c_heardAt, c_heardGive, .int c_hour, .int c_gives, .int c_peopleMany, .int c_nearMany, .int c_askedMany, .int c_heardMany, .int c_wentMany])), (h_o_town, .inr (3, [o_town_has, .ref h_o_town_hours, .ref h_c, .int o_town_living, .int o_town_hour, .int o_town_cat, .int o_town_nights, .int o_town_seed])), (h_o_town_hours, .inl (dA 0, 36, .inl (o_town_hours_))), (h_out, .inl (dA 1, 1, .inr (.inl out_)))] sz) := by
  refine vy_ofWM (cc := cX0_led) (maxL := 4) (ret := some .int) (hh := [(0, 9, 12, 13)]) (by decide) rfl ?_
  intro p e s m args below meth c s₁ B hml hv
  obtain ⟨rfl, hsz, hP, hK, hD0, hE⟩ := hv
  have hx := B.exec
  have hb := B.bytes
  have hr := B.returns
  have hts0 := atoms_spec (ws := (wsW_ yX0_led cX0_led 4 (some .int) [(0, 9, 12, 13)])) B.pre
  have hts : ∀ w ∈ lw_all, w.before _ s = true := fun w h => hts0 w (List.mem_cons_of_mem _ h)
  have hown : s.vm.findClass RX0 = some m.cls := findClass_of_methodNamed B.named
  have hlocks := B.notSynchronized
  subst hsz
  have hD := hD0.self (sz := s.heap.size)
  generalize hAe : va_A [(h_o, .inr (0, [o_tape, .int o_taped, o_scanner, .ref h_c, .int o_trouble, .int o_fault, .int o_where, .int o_imageMany, .int o_undoMany, .ref h_o_town, o_was, o_trial, o_night, o_plans, o_undone, o_images, o_often, .int o_firstRest, o_next, .int o_catAt])), (h_c, .inr (6, [c_people, c_hours, c_heardBy, c_heardOf, c_heardAt, c_heardGive, .int c_hour, .int c_gives, .int c_peopleMany, .int c_nearMany, .int c_askedMany, .int c_heardMany, .int c_wentMany])), (h_o_town, .inr (3, [o_town_has, .ref h_o_town_hours, .ref h_c, .int o_town_living, .int o_town_hour, .int o_town_cat, .int o_town_nights, .int o_town_seed])), (h_o_town_hours, .inl (dA 0, 36, .inl (o_town_hours_))), (h_out, .inl (dA 1, 1, .inr (.inl out_)))] s.heap.size = A at hD hE ⊢
  have hA : ∀ q : Nat, s.heap.size ≤ q → A q := fun q h => by rw [← hAe]; exact Or.inr h
  have hS : va_S A s.heap s.heap [] := va_S.rf
  have hl := lv_entry ([.ref h_o, .int p0, .ref h_out]) (n := 4) (Nat.le_of_ble_eq_true rfl)
  rw [lg_entry_eq]
  generalize (lg_sl ([.ref h_o, .int p0, .ref h_out]) ++ List.replicate (4 - (lg_sl ([.ref h_o, .int p0, .ref h_out])).length) Slot.unset).toArray = ls at hl ⊢
  have hl : lv_has ls 4 [(0, .ref h_o), (1, .int p0), (2, .ref h_out)] := hl
  refine lv_aload_n hx hb dX0_led_0 rfl (lv_at hl 2 rfl) ?_
  refine lv_iconst (v := (0 : Int32)) hx hb dX0_led_1 (by decide) ?_
  refine lv_aload_n hx hb dX0_led_2 rfl (lv_at hl 0 rfl) ?_
  refine lv_iload_n hx hb dX0_led_3 rfl (lv_at hl 1 rfl) ?_
  refine k_i0 [0, 1, 2, 3] (va_runV (As := [.int p0]) (rest := [.int (0 : Int32), .ref h_out]) ⟨hx, hb, hml, hown, hts⟩ (ctX1_ledR l D dA _ h_o h_c h_o_town h_o_town_hours p0 o_taped o_trouble o_fault o_where o_imageMany o_undoMany o_firstRest o_catAt c_hour c_gives c_peopleMany c_nearMany c_askedMany c_heardMany c_wentMany o_town_living o_town_hour o_town_cat o_town_nights o_town_seed o_town_hours_ o_tape o_scanner o_was o_trial o_night o_plans o_undone o_images o_often o_next c_people c_hours c_heardBy c_heardOf c_heardAt c_heardGive o_town_has res hM) (cwV 1 hts (lw_V q1341 q1342 q1343 q113 q1344) rfl rfl rfl (by decide +kernel) ⟨Nat.le_of_ble_eq_true rfl, Nat.le_of_ble_eq_true rfl⟩) (pre_V (hP.sub [0, 1, 2, 3] rfl) hK (hD.sub [0, 1, 2, 3] (by decide) rfl) (ci := 0) (q0 := 0) rfl rfl) rfl rfl hl.1 rfl (lv_room (Nat.le_of_ble_eq_true rfl)) dX0_led_4 ⟨Nat.le_of_ble_eq_true rfl, Nat.le_of_ble_eq_true rfl⟩) hP hD hS hA rfl (fun _ => rfl) (fun u H locs hP hD hS => ?_)
  have hP : va_P D clG [(h_o, .inr (0, [o_tape, .int o_taped, o_scanner, .ref h_c, .int o_trouble, .int o_fault, .int o_where, .int o_imageMany, .int o_undoMany, .ref h_o_town, o_was, o_trial, o_night, o_plans, o_undone, o_images, o_often, .int o_firstRest, o_next, .int o_catAt])), (h_c, .inr (6, [c_people, c_hours, c_heardBy, c_heardOf, c_heardAt, c_heardGive, .int c_hour, .int c_gives, .int c_peopleMany, .int c_nearMany, .int c_askedMany, .int c_heardMany, .int c_wentMany])), (h_o_town, .inr (3, [o_town_has, .ref h_o_town_hours, .ref h_c, .int o_town_living, .int o_town_hour, .int o_town_cat, .int o_town_nights, .int o_town_seed])), (h_o_town_hours, .inl (dA 0, 36, .inl (o_town_hours_))), (h_out, .inl (dA 1, 1, .inr (.inl out_)))] H := hP
  have hD : va_D A [(h_o, .inr (0, [o_tape, .int o_taped, o_scanner, .ref h_c, .int o_trouble, .int o_fault, .int o_where, .int o_imageMany, .int o_undoMany, .ref h_o_town, o_was, o_trial, o_night, o_plans, o_undone, o_images, o_often, .int o_firstRest, o_next, .int o_catAt])), (h_c, .inr (6, [c_people, c_hours, c_heardBy, c_heardOf, c_heardAt, c_heardGive, .int c_hour, .int c_gives, .int c_peopleMany, .int c_nearMany, .int c_askedMany, .int c_heardMany, .int c_wentMany])), (h_o_town, .inr (3, [o_town_has, .ref h_o_town_hours, .ref h_c, .int o_town_living, .int o_town_hour, .int o_town_cat, .int o_town_nights, .int o_town_seed])), (h_o_town_hours, .inl (dA 0, 36, .inl (o_town_hours_))), (h_out, .inl (dA 1, 1, .inr (.inl out_)))] := hD
  refine lv_i2l (v := Int32.toInt64 res) hx hb dX0_led_7 rfl ?_
  refine va_last hx hb hK.1 hP hD hS 4 1 rfl rfl (vin (by decide)) dX0_led_8 (fun H locs hP hD hS => ?_)
  have hP : va_P D clG [(h_o, .inr (0, [o_tape, .int o_taped, o_scanner, .ref h_c, .int o_trouble, .int o_fault, .int o_where, .int o_imageMany, .int o_undoMany, .ref h_o_town, o_was, o_trial, o_night, o_plans, o_undone, o_images, o_often, .int o_firstRest, o_next, .int o_catAt])), (h_c, .inr (6, [c_people, c_hours, c_heardBy, c_heardOf, c_heardAt, c_heardGive, .int c_hour, .int c_gives, .int c_peopleMany, .int c_nearMany, .int c_askedMany, .int c_heardMany, .int c_wentMany])), (h_o_town, .inr (3, [o_town_has, .ref h_o_town_hours, .ref h_c, .int o_town_living, .int o_town_hour, .int o_town_cat, .int o_town_nights, .int o_town_seed])), (h_o_town_hours, .inl (dA 0, 36, .inl (o_town_hours_))), (h_out, .inl (dA 1, 1, .inr (.inl (vp_updL out_ 0 (Int32.toInt64 res)))))] H := hP
  have hD : va_D A [(h_o, .inr (0, [o_tape, .int o_taped, o_scanner, .ref h_c, .int o_trouble, .int o_fault, .int o_where, .int o_imageMany, .int o_undoMany, .ref h_o_town, o_was, o_trial, o_night, o_plans, o_undone, o_images, o_often, .int o_firstRest, o_next, .int o_catAt])), (h_c, .inr (6, [c_people, c_hours, c_heardBy, c_heardOf, c_heardAt, c_heardGive, .int c_hour, .int c_gives, .int c_peopleMany, .int c_nearMany, .int c_askedMany, .int c_heardMany, .int c_wentMany])), (h_o_town, .inr (3, [o_town_has, .ref h_o_town_hours, .ref h_c, .int o_town_living, .int o_town_hour, .int o_town_cat, .int o_town_nights, .int o_town_seed])), (h_o_town_hours, .inl (dA 0, 36, .inl (o_town_hours_))), (h_out, .inl (dA 1, 1, .inr (.inl (vp_updL out_ 0 (Int32.toInt64 res)))))] := hD
  refine lv_goto (tgt := 15) hx hb dX0_led_9 (by decide) ?_
  refine lv_iconst (v := (0 : Int32)) hx hb dX0_led_15 (by decide) ?_
  exact W.iret (v := 0) hx hb hr (fun t ht hW => ⟨⟨0, (), rfl, rfl, by rw [ht]; exact hP, hD⟩, hS.F ht⟩) hS.2.2 dX0_led_16
set_option maxHeartbeats 40000000 in
theorem ctX0_ledT (l : Launch) (hfl : l.stackTraces = false) (D : va_G) (dA : Nat → ClassId) (sz : Nat) (h_o : Nat) (h_c : Nat) (h_o_town : Nat) (h_o_town_hours : Nat) (p0 : Int32) (o_taped : Int32) (o_trouble : Int32) (o_fault : Int32) (o_where : Int32) (o_imageMany : Int32) (o_undoMany : Int32) (o_firstRest : Int32) (o_catAt : Int32) (c_hour : Int32) (c_gives : Int32) (c_peopleMany : Int32) (c_nearMany : Int32) (c_askedMany : Int32) (c_heardMany : Int32) (c_wentMany : Int32) (o_town_living : Int32) (o_town_hour : Int32) (o_town_cat : Int32) (o_town_nights : Int32) (o_town_seed : Int32) (o_town_hours_ : AI) (o_tape : Value) (o_scanner : Value) (o_was : Value) (o_trial : Value) (o_night : Value) (o_plans : Value) (o_undone : Value) (o_images : Value) (o_often : Value) (o_next : Value) (c_people : Value) (c_hours : Value) (c_heardBy : Value) (c_heardOf : Value) (c_heardAt : Value) (c_heardGive : Value) (o_town_has : Value) (h_out : Nat) (out_ : AL) (res : Int32) (hM : MX1_ledT p0 c_peopleMany o_town_living o_town_hours_ = some res) : Met l yX0_led (wsW_ yX0_led cX0_led 4 (some .int) [(0, 9, 12, 13)]) ({ frames := 9, cells := 1, slots := 6, locals := 160 }) (preX D dA (ev2 TE (CR "java/util/NoSuchElementException")) [.ref h_o, .int p0, .ref h_out] [(h_o, .inr (0, [o_tape, .int o_taped, o_scanner, .ref h_c, .int o_trouble, .int o_fault, .int o_where, .int o_imageMany, .int o_undoMany, .ref h_o_town, o_was, o_trial, o_night, o_plans, o_undone, o_images, o_often, .int o_firstRest, o_next, .int o_catAt])), (h_c, .inr (6, [c_people, c_hours, c_heardBy, c_heardOf, c_heardAt, c_heardGive, .int c_hour, .int c_gives, .int c_peopleMany, .int c_nearMany, .int c_askedMany, .int c_heardMany, .int c_wentMany])), (h_o_town, .inr (3, [o_town_has, .ref h_o_town_hours, .ref h_c, .int o_town_living, .int o_town_hour, .int o_town_cat, .int o_town_nights, .int o_town_seed])), (h_o_town_hours, .inl (dA 0, 36, .inl (o_town_hours_))), (h_out, .inl (dA 1, 1, .inr (.inl out_)))] sz) (qi_ D 1 (fun (_ : Unit) => [(h_o, .inr (0, [o_tape, .int o_taped, o_scanner, .ref h_c, .int o_trouble, .int o_fault, .int o_where, .int o_imageMany, .int o_undoMany, .ref h_o_town, o_was, o_trial, o_night, o_plans, o_undone, o_images, o_often, .int o_firstRest, o_next, .int o_catAt])), (h_c, .inr (6, [c_people, c_hours, c_heardBy, c_heardOf, c_heardAt, c_heardGive, .int c_hour, .int c_gives, .int c_peopleMany, .int c_nearMany, .int c_askedMany, .int c_heardMany, .int c_wentMany])), (h_o_town, .inr (3, [o_town_has, .ref h_o_town_hours, .ref h_c, .int o_town_living, .int o_town_hour, .int o_town_cat, .int o_town_nights, .int o_town_seed])), (h_o_town_hours, .inl (dA 0, 36, .inl (o_town_hours_))), (h_out, .inl (dA 1, 1, .inr (.inl out_)))]) (va_A [(h_o, .inr (0, [o_tape, .int o_taped, o_scanner, .ref h_c, .int o_trouble, .int o_fault, .int o_where, .int o_imageMany, .int o_undoMany, .ref h_o_town, o_was, o_trial, o_night, o_plans, o_undone, o_images, o_often, .int o_firstRest, o_next, .int o_catAt])), (h_c, .inr (6, [c_people, c_hours, c_heardBy, c_heardOf, c_heardAt, c_heardGive, .int c_hour, .int c_gives, .int c_peopleMany, .int c_nearMany, .int c_askedMany, .int c_heardMany, .int c_wentMany])), (h_o_town, .inr (3, [o_town_has, .ref h_o_town_hours, .ref h_c, .int o_town_living, .int o_town_hour, .int o_town_cat, .int o_town_nights, .int o_town_seed])), (h_o_town_hours, .inl (dA 0, 36, .inl (o_town_hours_))), (h_out, .inl (dA 1, 1, .inr (.inl out_)))] sz)) 1 6 (va_A [(h_o, .inr (0, [o_tape, .int o_taped, o_scanner, .ref h_c, .int o_trouble, .int o_fault, .int o_where, .int o_imageMany, .int o_undoMany, .ref h_o_town, o_was, o_trial, o_night, o_plans, o_undone, o_images, o_often, .int o_firstRest, o_next, .int o_catAt])), (h_c, .inr (6, [c_people, c_hours, c_heardBy, c_heardOf, c_heardAt, c_heardGive, .int c_hour, .int c_gives, .int c_peopleMany, .int c_nearMany, .int c_askedMany, .int c_heardMany, .int c_wentMany])), (h_o_town, .inr (3, [o_town_has, .ref h_o_town_hours, .ref h_c, .int o_town_living, .int o_town_hour, .int o_town_cat, .int o_town_nights, .int o_town_seed])), (h_o_town_hours, .inl (dA 0, 36, .inl (o_town_hours_))), (h_out, .inl (dA 1, 1, .inr (.inl out_)))] sz) := by
  refine vy_ofWM (cc := cX0_led) (maxL := 4) (ret := some .int) (hh := [(0, 9, 12, 13)]) (by decide) rfl ?_
  intro p e s m args below meth c s₁ B hml hv
  obtain ⟨rfl, hsz, hP, hK, hD0, hE⟩ := hv
  have hx := B.exec
  have hb := B.bytes
  have hr := B.returns
  have hts0 := atoms_spec (ws := (wsW_ yX0_led cX0_led 4 (some .int) [(0, 9, 12, 13)])) B.pre
  have hts : ∀ w ∈ lw_all, w.before _ s = true := fun w h => hts0 w (List.mem_cons_of_mem _ h)
  have hown : s.vm.findClass RX0 = some m.cls := findClass_of_methodNamed B.named
  have hlocks := B.notSynchronized
  subst hsz
  have hD := hD0.self (sz := s.heap.size)
  generalize hAe : va_A [(h_o, .inr (0, [o_tape, .int o_taped, o_scanner, .ref h_c, .int o_trouble, .int o_fault, .int o_where, .int o_imageMany, .int o_undoMany, .ref h_o_town, o_was, o_trial, o_night, o_plans, o_undone, o_images, o_often, .int o_firstRest, o_next, .int o_catAt])), (h_c, .inr (6, [c_people, c_hours, c_heardBy, c_heardOf, c_heardAt, c_heardGive, .int c_hour, .int c_gives, .int c_peopleMany, .int c_nearMany, .int c_askedMany, .int c_heardMany, .int c_wentMany])), (h_o_town, .inr (3, [o_town_has, .ref h_o_town_hours, .ref h_c, .int o_town_living, .int o_town_hour, .int o_town_cat, .int o_town_nights, .int o_town_seed])), (h_o_town_hours, .inl (dA 0, 36, .inl (o_town_hours_))), (h_out, .inl (dA 1, 1, .inr (.inl out_)))] s.heap.size = A at hD hE ⊢
  have hA : ∀ q : Nat, s.heap.size ≤ q → A q := fun q h => by rw [← hAe]; exact Or.inr h
  have hS : va_S A s.heap s.heap [] := va_S.rf
  have hl := lv_entry ([.ref h_o, .int p0, .ref h_out]) (n := 4) (Nat.le_of_ble_eq_true rfl)
  rw [lg_entry_eq]
  generalize (lg_sl ([.ref h_o, .int p0, .ref h_out]) ++ List.replicate (4 - (lg_sl ([.ref h_o, .int p0, .ref h_out])).length) Slot.unset).toArray = ls at hl ⊢
  have hl : lv_has ls 4 [(0, .ref h_o), (1, .int p0), (2, .ref h_out)] := hl
  refine lv_aload_n hx hb dX0_led_0 rfl (lv_at hl 2 rfl) ?_
  refine lv_iconst (v := (0 : Int32)) hx hb dX0_led_1 (by decide) ?_
  refine lv_aload_n hx hb dX0_led_2 rfl (lv_at hl 0 rfl) ?_
  refine lv_iload_n hx hb dX0_led_3 rfl (lv_at hl 1 rfl) ?_
  refine n_caught [0, 1, 2, 3] (vx_runV (As := [.int p0]) (rest := [.int (0 : Int32), .ref h_out]) ⟨hx, hb, hml, hown, hts⟩ (ctX1_ledT l hfl D dA _ h_o h_c h_o_town h_o_town_hours p0 o_taped o_trouble o_fault o_where o_imageMany o_undoMany o_firstRest o_catAt c_hour c_gives c_peopleMany c_nearMany c_askedMany c_heardMany c_wentMany o_town_living o_town_hour o_town_cat o_town_nights o_town_seed o_town_hours_ o_tape o_scanner o_was o_trial o_night o_plans o_undone o_images o_often o_next c_people c_hours c_heardBy c_heardOf c_heardAt c_heardGive o_town_has (fun _ => 0) (fun _ => 0) res hM) (cwV 1 hts (lw_V q1341 q1342 q1343 q113 q1344) rfl rfl rfl (by decide +kernel) ⟨Nat.le_of_ble_eq_true rfl, Nat.le_of_ble_eq_true rfl⟩) (preX_V (ev2_ok TE_ok CR_ok) (hP.sub [0, 1, 2, 3] rfl) hK (hD.sub [0, 1, 2, 3] (by decide) rfl) (ev_at (ev2_ok TE_ok CR_ok) hE hS (k_free hD hS hA [0, 1, 2, 3] rfl)) (hP.sub [0, 1, 2, 3] rfl) (ci := 0) (q0 := 0) rfl rfl) rfl rfl hl.1 rfl (lv_room (Nat.le_of_ble_eq_true rfl)) dX0_led_4 ⟨Nat.le_of_ble_eq_true rfl, Nat.le_of_ble_eq_true rfl⟩) hP hD hS hA rfl (fun q ce H locs hce hcv hcl hP hD hS => ?_)
  have hP : va_P D clG [(h_o, .inr (0, [o_tape, .int o_taped, o_scanner, .ref h_c, .int o_trouble, .int o_fault, .int o_where, .int o_imageMany, .int o_undoMany, .ref h_o_town, o_was, o_trial, o_night, o_plans, o_undone, o_images, o_often, .int o_firstRest, o_next, .int o_catAt])), (h_c, .inr (6, [c_people, c_hours, c_heardBy, c_heardOf, c_heardAt, c_heardGive, .int c_hour, .int c_gives, .int c_peopleMany, .int c_nearMany, .int c_askedMany, .int c_heardMany, .int c_wentMany])), (h_o_town, .inr (3, [o_town_has, .ref h_o_town_hours, .ref h_c, .int o_town_living, .int o_town_hour, .int o_town_cat, .int o_town_nights, .int o_town_seed])), (h_o_town_hours, .inl (dA 0, 36, .inl (o_town_hours_))), (h_out, .inl (dA 1, 1, .inr (.inl out_)))] H := hP
  have hD : va_D A [(h_o, .inr (0, [o_tape, .int o_taped, o_scanner, .ref h_c, .int o_trouble, .int o_fault, .int o_where, .int o_imageMany, .int o_undoMany, .ref h_o_town, o_was, o_trial, o_night, o_plans, o_undone, o_images, o_often, .int o_firstRest, o_next, .int o_catAt])), (h_c, .inr (6, [c_people, c_hours, c_heardBy, c_heardOf, c_heardAt, c_heardGive, .int c_hour, .int c_gives, .int c_peopleMany, .int c_nearMany, .int c_askedMany, .int c_heardMany, .int c_wentMany])), (h_o_town, .inr (3, [o_town_has, .ref h_o_town_hours, .ref h_c, .int o_town_living, .int o_town_hour, .int o_town_cat, .int o_town_nights, .int o_town_seed])), (h_o_town_hours, .inl (dA 0, 36, .inl (o_town_hours_))), (h_out, .inl (dA 1, 1, .inr (.inl out_)))] := hD
  refine vx_catch hown [] ⟨0, 9, 12, 13⟩ [] (vx_table B (hts0 _ List.mem_cons_self)) (fun z hz => by cases hz) (by decide) (by decide) (hts _ q1340) (va_Nw.use rfl hE.2) hce hcv hcl ?_
  refine lv_astore_n (lv' := [(3, .ref q), (0, .ref h_o), (1, .int p0), (2, .ref h_out)]) hx hb dX0_led_12 rfl hl (by decide) rfl (fun ls hl => ?_)
  refine lv_iconst (v := (1 : Int32)) hx hb dX0_led_13 (by decide) ?_
  exact W.iret (v := 1) hx hb hr (fun t ht hW => ⟨⟨1, (), rfl, rfl, by rw [ht]; exact hP, hD⟩, hS.F ht⟩) hS.2.2 dX0_led_14
set_option maxHeartbeats 40000000 in
theorem ctX0_ledTN (l : Launch) (hfl : l.stackTraces = false) (D : va_G) (dA : Nat → ClassId) (sz : Nat) (h_o : Nat) (p0 : Int32) (o_taped : Int32) (o_trouble : Int32) (o_fault : Int32) (o_where : Int32) (o_imageMany : Int32) (o_undoMany : Int32) (o_firstRest : Int32) (o_catAt : Int32) (o_tape : Value) (o_scanner : Value) (o_town : Value) (o_was : Value) (o_trial : Value) (o_night : Value) (o_plans : Value) (o_undone : Value) (o_images : Value) (o_often : Value) (o_next : Value) (h_out : Nat) (out_ : AL) (res : Int32) (hM : MX1_ledTN  = some res) : Met l yX0_led (wsW_ yX0_led cX0_led 4 (some .int) [(0, 9, 12, 13)]) ({ frames := 9, cells := 1, slots := 6, locals := 160 }) (preX D dA (ev2 TE (CR "java/util/NoSuchElementException")) [.ref h_o, .int p0, .ref h_out] [(h_o, .inr (0, [o_tape, .int o_taped, o_scanner, .null, .int o_trouble, .int o_fault, .int o_where, .int o_imageMany, .int o_undoMany, o_town, o_was, o_trial, o_night, o_plans, o_undone, o_images, o_often, .int o_firstRest, o_next, .int o_catAt])), (h_out, .inl (dA 1, 1, .inr (.inl out_)))] sz) (qi_ D 1 (fun (_ : Unit) => [(h_o, .inr (0, [o_tape, .int o_taped, o_scanner, .null, .int o_trouble, .int o_fault, .int o_where, .int o_imageMany, .int o_undoMany, o_town, o_was, o_trial, o_night, o_plans, o_undone, o_images, o_often, .int o_firstRest, o_next, .int o_catAt])), (h_out, .inl (dA 1, 1, .inr (.inl out_)))]) (va_A [(h_o, .inr (0, [o_tape, .int o_taped, o_scanner, .null, .int o_trouble, .int o_fault, .int o_where, .int o_imageMany, .int o_undoMany, o_town, o_was, o_trial, o_night, o_plans, o_undone, o_images, o_often, .int o_firstRest, o_next, .int o_catAt])), (h_out, .inl (dA 1, 1, .inr (.inl out_)))] sz)) 1 6 (va_A [(h_o, .inr (0, [o_tape, .int o_taped, o_scanner, .null, .int o_trouble, .int o_fault, .int o_where, .int o_imageMany, .int o_undoMany, o_town, o_was, o_trial, o_night, o_plans, o_undone, o_images, o_often, .int o_firstRest, o_next, .int o_catAt])), (h_out, .inl (dA 1, 1, .inr (.inl out_)))] sz) := by
  refine vy_ofWM (cc := cX0_led) (maxL := 4) (ret := some .int) (hh := [(0, 9, 12, 13)]) (by decide) rfl ?_
  intro p e s m args below meth c s₁ B hml hv
  obtain ⟨rfl, hsz, hP, hK, hD0, hE⟩ := hv
  have hx := B.exec
  have hb := B.bytes
  have hr := B.returns
  have hts0 := atoms_spec (ws := (wsW_ yX0_led cX0_led 4 (some .int) [(0, 9, 12, 13)])) B.pre
  have hts : ∀ w ∈ lw_all, w.before _ s = true := fun w h => hts0 w (List.mem_cons_of_mem _ h)
  have hown : s.vm.findClass RX0 = some m.cls := findClass_of_methodNamed B.named
  have hlocks := B.notSynchronized
  subst hsz
  have hD := hD0.self (sz := s.heap.size)
  generalize hAe : va_A [(h_o, .inr (0, [o_tape, .int o_taped, o_scanner, .null, .int o_trouble, .int o_fault, .int o_where, .int o_imageMany, .int o_undoMany, o_town, o_was, o_trial, o_night, o_plans, o_undone, o_images, o_often, .int o_firstRest, o_next, .int o_catAt])), (h_out, .inl (dA 1, 1, .inr (.inl out_)))] s.heap.size = A at hD hE ⊢
  have hA : ∀ q : Nat, s.heap.size ≤ q → A q := fun q h => by rw [← hAe]; exact Or.inr h
  have hS : va_S A s.heap s.heap [] := va_S.rf
  have hl := lv_entry ([.ref h_o, .int p0, .ref h_out]) (n := 4) (Nat.le_of_ble_eq_true rfl)
  rw [lg_entry_eq]
  generalize (lg_sl ([.ref h_o, .int p0, .ref h_out]) ++ List.replicate (4 - (lg_sl ([.ref h_o, .int p0, .ref h_out])).length) Slot.unset).toArray = ls at hl ⊢
  have hl : lv_has ls 4 [(0, .ref h_o), (1, .int p0), (2, .ref h_out)] := hl
  refine lv_aload_n hx hb dX0_led_0 rfl (lv_at hl 2 rfl) ?_
  refine lv_iconst (v := (0 : Int32)) hx hb dX0_led_1 (by decide) ?_
  refine lv_aload_n hx hb dX0_led_2 rfl (lv_at hl 0 rfl) ?_
  refine lv_iload_n hx hb dX0_led_3 rfl (lv_at hl 1 rfl) ?_
  refine n_caught [0] (vx_runV (As := [.int p0]) (rest := [.int (0 : Int32), .ref h_out]) ⟨hx, hb, hml, hown, hts⟩ (ctX1_ledTN l hfl D dA _ h_o p0 o_taped o_trouble o_fault o_where o_imageMany o_undoMany o_firstRest o_catAt o_tape o_scanner o_town o_was o_trial o_night o_plans o_undone o_images o_often o_next (fun _ => 0) (fun _ => 0) res hM) (cwV 1 hts (lw_V q1341 q1342 q1343 q113 q1344) rfl rfl rfl (by decide +kernel) ⟨Nat.le_of_ble_eq_true rfl, Nat.le_of_ble_eq_true rfl⟩) (preX_V (ev2_ok TE_ok CR_ok) (hP.sub [0] rfl) hK (hD.sub [0] (by decide) rfl) (ev_at (ev2_ok TE_ok CR_ok) hE hS (k_free hD hS hA [0] rfl)) (hP.sub [0] rfl) (ci := 0) (q0 := 0) rfl rfl) rfl rfl hl.1 rfl (lv_room (Nat.le_of_ble_eq_true rfl)) dX0_led_4 ⟨Nat.le_of_ble_eq_true rfl, Nat.le_of_ble_eq_true rfl⟩) hP hD hS hA rfl (fun q ce H locs hce hcv hcl hP hD hS => ?_)
  have hP : va_P D clG [(h_o, .inr (0, [o_tape, .int o_taped, o_scanner, .null, .int o_trouble, .int o_fault, .int o_where, .int o_imageMany, .int o_undoMany, o_town, o_was, o_trial, o_night, o_plans, o_undone, o_images, o_often, .int o_firstRest, o_next, .int o_catAt])), (h_out, .inl (dA 1, 1, .inr (.inl out_)))] H := hP
  have hD : va_D A [(h_o, .inr (0, [o_tape, .int o_taped, o_scanner, .null, .int o_trouble, .int o_fault, .int o_where, .int o_imageMany, .int o_undoMany, o_town, o_was, o_trial, o_night, o_plans, o_undone, o_images, o_often, .int o_firstRest, o_next, .int o_catAt])), (h_out, .inl (dA 1, 1, .inr (.inl out_)))] := hD
  refine vx_catch hown [] ⟨0, 9, 12, 13⟩ [] (vx_table B (hts0 _ List.mem_cons_self)) (fun z hz => by cases hz) (by decide) (by decide) (hts _ q1340) (va_Nw.use rfl hE.2) hce hcv hcl ?_
  refine lv_astore_n (lv' := [(3, .ref q), (0, .ref h_o), (1, .int p0), (2, .ref h_out)]) hx hb dX0_led_12 rfl hl (by decide) rfl (fun ls hl => ?_)
  refine lv_iconst (v := (1 : Int32)) hx hb dX0_led_13 (by decide) ?_
  exact W.iret (v := 1) hx hb hr (fun t ht hW => ⟨⟨1, (), rfl, rfl, by rw [ht]; exact hP, hD⟩, hS.F ht⟩) hS.2.2 dX0_led_14
theorem loop_R {σ α β : Type} {f : σ → Option (σ ⊕ (α ⊕ β))} {g : σ → Option (σ ⊕ α)} (h1 : ∀ s s', f s = some (.inl s') → g s = some (.inl s')) (h2 : ∀ s z, f s = some (.inr (.inl z)) → g s = some (.inr z)) : ∀ (k : Nat) (s : σ) (z : α), loopN k f s = some (.inl z) → loopN k g s = some z
  | 0, s, z, h => by cases h
  | k + 1, s, z, h => by
    rw [loopN] at h ⊢
    cases e : f s with
    | none => rw [e] at h; cases h
    | some r =>
      rw [e, Option.bind_some] at h
      cases r with
      | inl s' => rw [h1 s s' e, Option.bind_some]; exact loop_R h1 h2 k s' z h
      | inr x =>
        have hx : x = .inl z := Option.some.inj h
        subst hx
        rw [h2 s z e, Option.bind_some]
theorem led_RT {p n liv : Int32} {hours : AI} : (∀ s s', (fun s_ : Int32 × Int32 => BX1_ledT_4 p n liv hours s_.1 s_.2) s = some (.inl s') → (fun s_ : Int32 × Int32 => BX1_ledR_4 p n liv hours s_.1 s_.2) s = some (.inl s')) ∧ ∀ s z, (fun s_ : Int32 × Int32 => BX1_ledT_4 p n liv hours s_.1 s_.2) s = some (.inr (.inl z)) → (fun s_ : Int32 × Int32 => BX1_ledR_4 p n liv hours s_.1 s_.2) s = some (.inr z) := by
  constructor
  · intro s s' h
    dsimp only at h ⊢
    unfold BX1_ledT_4 at h
    unfold BX1_ledR_4
    by_cases c1 : n ≤ s.2
    · rw [if_pos c1] at h; cases h
    · rw [if_neg c1] at h ⊢
      cases e1 : MX4_isLiving s.2 liv with
      | none => rw [e1] at h; cases h
      | some r2 =>
        rw [e1, Option.bind_some] at h
        rw [Option.bind_some]
        by_cases c2 : b2i r2 = 0
        · rw [if_pos c2] at h ⊢; rw [Sum.inl.inj (Option.some.inj h)]
        · rw [if_neg c2] at h ⊢
          cases e2 : MX4_heir s.2 liv n hours with
          | none => rw [e2] at h; cases h
          | some r5 =>
            rw [e2, Option.bind_some] at h
            rw [Option.bind_some]
            by_cases c3 : r5 = (-2 : Int32)
            · rw [if_pos c3] at h ⊢
              by_cases c4 : s.1 = p
              · rw [if_pos c4] at h; cases h
              · rw [if_neg c4] at h ⊢; rw [Sum.inl.inj (Option.some.inj h)]
            · rw [if_neg c3] at h ⊢; rw [Sum.inl.inj (Option.some.inj h)]
  · intro s z h
    dsimp only at h ⊢
    unfold BX1_ledT_4 at h
    unfold BX1_ledR_4
    by_cases c1 : n ≤ s.2
    · rw [if_pos c1] at h; cases h
    · rw [if_neg c1] at h ⊢
      cases e1 : MX4_isLiving s.2 liv with
      | none => rw [e1] at h; cases h
      | some r2 =>
        rw [e1, Option.bind_some] at h
        rw [Option.bind_some]
        by_cases c2 : b2i r2 = 0
        · rw [if_pos c2] at h; cases h
        · rw [if_neg c2] at h ⊢
          cases e2 : MX4_heir s.2 liv n hours with
          | none => rw [e2] at h; cases h
          | some r5 =>
            rw [e2, Option.bind_some] at h
            rw [Option.bind_some]
            by_cases c3 : r5 = (-2 : Int32)
            · rw [if_pos c3] at h ⊢
              by_cases c4 : s.1 = p
              · rw [if_pos c4] at h ⊢; rw [Sum.inl.inj (Sum.inr.inj (Option.some.inj h))]
              · rw [if_neg c4] at h; cases h
            · rw [if_neg c3] at h; cases h
/-- the component's led -/
theorem op_ledC {n : Nat} (hn : n ≤ 6) (liv p : Int32) (hours : AI) : match ledF liv hours n p with
    | some j => MX1_ledR p (nI n) liv hours = some (nI j)
    | none => MX1_ledT p (nI n) liv hours = some 0 := by
  obtain ⟨r, e, h⟩ := L_led (f := fun s_ : Int32 × Int32 => BX1_ledT_4 p (nI n) liv hours s_.1 s_.2) (liv := liv) (p := p) (H := fun i => heirF liv (hX hours) i n) hn (by
    intro i c hi
    show BX1_ledT_4 p (nI n) liv hours c (nI i) = _
    unfold BX1_ledT_4
    rw [if_neg (nI_ge hi (by omega)), nI_1, M_isLiving4, Option.bind_some]
    by_cases c1 : hasB liv (nI i) = false
    · rw [if_pos (b2i_f c1), if_pos c1]
    · rw [if_neg (b2i_t (by simpa using c1)), if_neg c1, M_heir4 hn (by omega), Option.bind_some]) (by
    intro c
    show BX1_ledT_4 p (nI n) liv hours c (nI n) = _
    unfold BX1_ledT_4
    rw [if_pos (nI_le (Nat.le_refl n) (by omega))])
  unfold ledF
  cases r with
  | inl z =>
    cases hq : (ledS liv (fun i => heirF liv (hX hours) i n) p n).2 with
    | none => rw [hq] at h; cases h
    | some j =>
      rw [hq] at h
      have h : some z = some (nI j) := h
      dsimp only
      unfold MX1_ledR
      rw [loop_R led_RT.1 led_RT.2 _ _ _ e, Option.bind_some, Option.some.inj h]
  | inr z =>
    cases hq : (ledS liv (fun i => heirF liv (hX hours) i n) p n).2 with
    | none =>
      dsimp only
      unfold MX1_ledT
      rw [e, Option.bind_some]
    | some j => rw [hq] at h; cases h
theorem ledTN_eq : MX1_ledTN = some 0 := by
  unfold MX1_ledTN
  obtain ⟨K, hK⟩ : ∃ K, FU = K + 1 := ⟨99999, rfl⟩
  rw [hK, loopN]
  rfl
