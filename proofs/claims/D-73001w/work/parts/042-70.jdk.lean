set_option maxRecDepth 100000
/-! strings: read-only facts, environments -/
abbrev EV : Type := (Nat → Prop) → State → Heap → Prop
def EVok (X : EV) : Prop := (∀ (A : Nat → Prop) (u U : State) (H : Heap), (u.WarmedH U.vm ∨ U.vm = u.vm) → X A u H → X A U H) ∧ (∀ (A : Nat → Prop) (U : State) (H H1 : Heap), X A U H → (∀ a : Nat, a < H.size → ¬ A a → H1[a]? = H[a]?) → X A U H1) ∧ ∀ (A B : Nat → Prop) (U : State) (H : Heap), X A U H → (∀ q, B q → A q) → X B U H
theorem al_of {u U : State} (h : u.WarmedH U.vm ∨ U.vm = u.vm) : u.vm.Alike U.vm := by
  rcases h with h | h
  · exact h.alike
  · rw [h]; exact Vm.Alike.refl _
def ev2 (X Y : EV) : EV := fun A U H => X A U H ∧ Y A U H
theorem ev2_ok {X Y : EV} (hX : EVok X) (hY : EVok Y) : EVok (ev2 X Y) :=
  ⟨fun A u U H h q => ⟨hX.1 A u U H h q.1, hY.1 A u U H h q.2⟩, fun A U H H1 q h => ⟨hX.2.1 A U H H1 q.1 h, hY.2.1 A U H H1 q.2 h⟩, fun A B U H q h => ⟨hX.2.2 A B U H q.1 h, hY.2.2 A B U H q.2 h⟩⟩
/-- a string (its bytes one to a char) that nobody writes -/
def sv_ (a v L : Nat) (f : AI) : EV := fun A U H => va_O "java/lang/String" a A U H ∧ va_OF "java/lang/String" "coder" "B" (.int 0) a A U H ∧ va_OF "java/lang/String" "value" "[B" (.ref v) a A U H ∧ va_T .byte v L (fun j => .int (f j)) A U H
theorem sv_ok {a v L : Nat} {f : AI} : EVok (sv_ a v L f) :=
  ⟨fun A u U H h q => ⟨va_O.moved (al_of h) q.1, va_OF.moved (al_of h) q.2.1, va_OF.moved (al_of h) q.2.2.1, va_T.moved (al_of h) q.2.2.2⟩,
   fun A U H H1 q h => ⟨q.1.kept h, q.2.1.kept h, q.2.2.1.kept h, q.2.2.2.kept h⟩,
   fun A B U H q h => ⟨q.1.narrow h, q.2.1.narrow h, q.2.2.1.narrow h, q.2.2.2.narrow h⟩⟩
/-- the static fields that the string methods read -/
def OK_ : EV := fun A U H => va_Z "java/lang/String" "COMPACT_STRINGS" "Z" (.int 1) A U H ∧ va_Zq "jdk/internal/util/Preconditions" "SIOOBE_FORMATTER" "Ljava/util/function/BiFunction;" A U H
theorem OK_ok : EVok OK_ :=
  ⟨fun A u U H h q => ⟨va_Z.moved (al_of h) q.1, va_Zq.moved (al_of h) q.2⟩, fun A U H H1 q h => ⟨q.1.kept h, q.2.kept h⟩, fun A B U H q h => ⟨q.1.narrow h, q.2.narrow h⟩⟩
def preX (D : va_G) (dA : Nat → ClassId) (X : EV) (av : List Value) (ws : va_W) (sz : Nat) : Array Value → State → Prop := va_Pc av (fun U => U.heap.size = sz ∧ va_P D clG ws U.heap ∧ KK D dA U ∧ va_D (fun _ => True) ws ∧ X (va_A ws sz) U U.heap)
theorem preX_blind {D : va_G} {dA : Nat → ClassId} {X : EV} {av : List Value} {ws : va_W} {sz : Nat} (hX : EVok X) : FrameBlind (preX D dA X av ws sz) := fun a U g mk q => by
  obtain ⟨q0, q1, qP, qK, qD, qX⟩ := q
  exact ⟨q0, q1, qP, KK.same (u := U) (U := U.calling g mk a) rfl qK, qD, hX.1 _ U (U.calling g mk a) U.heap (Or.inr rfl) qX⟩
theorem preX_S {D : va_G} {dA : Nat → ClassId} {X : EV} {As : List Value} {wc : va_W} {A : Nat → Prop} {s : State} {H : Heap} (hX : EVok X) (hP : va_P D clG wc H) (hK : KK D dA s) (hD : va_D A wc) (h : X (va_A wc H.size) s H) : PreS s H (preX D dA X As wc H.size) As :=
  ⟨preX_blind hX, fun U hU hW => ⟨rfl, by rw [hU], by rw [hU]; exact hP, KK.warm hW hK, hD.weaken (fun _ _ _ _ => trivial), by rw [hU]; exact hX.1 _ s U H (Or.inl hW) h⟩⟩
theorem preX_V {D : va_G} {dA : Nat → ClassId} {X : EV} {b q0 ci : Nat} {As : List Value} {q : vw_C} {fs : List Value} {wc ws : va_W} {A : Nat → Prop} {s : State} {H : Heap} (hX : EVok X) (hP : va_P D clG wc H) (hK : KK D dA s) (hD : va_D A wc) (h : X (va_A wc H.size) s H) (hP0 : va_P D clG ws H) (hc : clG[ci]? = some q) (he : ws[q0]? = some (b, .inr (ci, fs))) : PreV s H q.1 b (preX D dA X (.ref b :: As) wc H.size) As :=
  ⟨preX_blind hX, va_recv hK.1 hP0 hc he, (preX_S hX hP hK hD h).2⟩
theorem preX_O {D : va_G} {dA : Nat → ClassId} {X : EV} {b : Nat} {C : String} {As : List Value} {wc : va_W} {A B : Nat → Prop} {s : State} {H : Heap} (hX : EVok X) (hP : va_P D clG wc H) (hK : KK D dA s) (hD : va_D A wc) (h : X (va_A wc H.size) s H) (hO : va_O C b B s H) : PreV s H C b (preX D dA X (.ref b :: As) wc H.size) As := by
  obtain ⟨cell, h1, h2, h3, -⟩ := hO
  exact ⟨preX_blind hX, ⟨cell, h1, h2, h3⟩, (preX_S hX hP hK hD h).2⟩
/-- facts at a method's start hold at a call -/
theorem ev_at {X : EV} {A : Nat → Prop} {ws : va_W} {s : State} {H : Heap} {locs : List Loc} (hX : EVok X) (h : X A s s.heap) (hS : va_S A s.heap H locs) (hF : ∀ q, va_A ws H.size q → A q) : X (va_A ws H.size) s H :=
  hX.2.2 _ _ s H (hX.2.1 _ s _ H h hS.2.1) hF
theorem ev_nil {A : Nat → Prop} {H0 H : Heap} {locs : List Loc} (hA : ∀ q : Nat, H0.size ≤ q → A q) (hS : va_S A H0 H locs) : ∀ q, va_A [] H.size q → A q := by
  intro q h
  rcases h with ⟨k, e, h⟩ | h
  · cases h
  · exact hA q (Nat.le_trans hS.1 h)
theorem p_nil {D : va_G} {H : Heap} : va_P D clG [] H := fun k q h => by cases h
theorem d_nil {A : Nat → Prop} : va_D A [] := ⟨(fun i j p q h => by cases h), (fun k q h => by cases h)⟩
theorem lt_nil {a : Nat} {H : Heap} (h : a < H.size) : ¬ va_A [] H.size a := by
  rintro (⟨k, e, h1⟩ | h1)
  · cases h1
  · omega
theorem va_O_at {D : va_G} {dA : Nat → ClassId} {ws : va_W} {s : State} {H : Heap} {args : Array Value} {a : Nat} {fs : List Value} (hts : ∀ w ∈ lw_all, w.before args s = true) (hK : KK D dA s) (hP : va_P D clG ((a, .inr (13, fs)) :: ws) H) : va_O "java/lang/String" a (va_A [] H.size) s H := by
  obtain ⟨r, g1, cell, q1, q2, q3, q4⟩ := hP 0 _ rfl
  have hr : r = (RJ3, TJ3, 4) := Option.some.inj (g1.symm.trans rfl)
  subst hr
  obtain ⟨hS, hfc, kC, hkC, hkind⟩ := hK.1.1 13 (RJ3, TJ3, 4) rfl
  exact ⟨cell, q1, by rw [q3]; rfl, by rw [q2]; exact hfc, lt_nil (hP 0 _ rfl).lt⟩
/-- of a world's string, as a fact for who writes nothing of the world -/
theorem sv_world {D : va_G} {dA : Nat → ClassId} {ws : va_W} {s : State} {H : Heap} {args : Array Value} {a v L k1 k2 : Nat} {f : AI} {fs : List Value} {B : Nat → Prop} (hts : ∀ w ∈ lw_all, w.before args s = true) (hK : KK D dA s) (hP : va_P D clG ws H) (h1 : ws[k1]? = some (a, .inr (13, fs))) (h2 : ws[k2]? = some (v, .inl (dA 2, L, .inl f))) (f0 : fs[0]? = some (.ref v)) (f1 : fs[1]? = some (.int 0)) (hB1 : ¬ B a) (hB2 : ¬ B v) : sv_ a v L f B s H := by
  obtain ⟨r, g1, cell, q1, q2, q3, q4⟩ := hP k1 _ h1
  have hr : r = (RJ3, TJ3, 4) := Option.some.inj (g1.symm.trans rfl)
  subst hr
  obtain ⟨hS, hfc, kC, hkC, hkind⟩ := hK.1.1 13 (RJ3, TJ3, 4) rfl
  have hc := hP k2 _ h2
  refine ⟨⟨cell, q1, by rw [q3]; rfl, by rw [q2]; exact hfc, hB1⟩, ?_, ?_, ⟨vp_cell (dA 2) (L, .inl f), hc, (hK.1.2 2 _ rfl).1 L (fun j => .int (f j)), ?_, ?_, ?_, ?_, hB2⟩⟩
  · obtain ⟨cf, kf, fi, ff, hi, hsl⟩ := hS 1 (by decide)
    exact ⟨cf, kf, fi, ff, cell, hi, (u_facts hfc hkC (u_lays hts in_J3 (k := 1) (by decide)) hi).1, q1, (by rw [q3]; exact fun h => by cases h), (by rw [hsl, q4 1 (by decide)]; simp [vp_V, f1]), hB1⟩
  · obtain ⟨cf, kf, fi, ff, hi, hsl⟩ := hS 0 (by decide)
    exact ⟨cf, kf, fi, ff, cell, hi, (u_facts hfc hkC (u_lays hts in_J3 (k := 0) (by decide)) hi).1, q1, (by rw [q3]; exact fun h => by cases h), (by rw [hsl, q4 0 (by decide)]; simp [vp_V, f0]), hB1⟩
  · exact fun h => by cases h
  · rw [vp_cell_i, arrV_size]; exact Nat.le_refl _
  · rw [vp_cell_i, arrV_size]
  · intro j hj
    rw [vp_cell_i]
    exact arrV_read _ _ hj
def chr8 (x : Int32) : Int32 := (UInt32.toInt32 (Int32.toUInt32 (x &&& 255) % 65536))
theorem chr8_256 : ∀ j, j < 256 → (UInt32.toInt32 (Int32.toUInt32 (nI j) % 65536)) = nI j ∧ vp_nar .char (nI j) = nI j := by decide +kernel
theorem chr8_nar (x : Int32) : narrow .char (.int (chr8 x)) = .int (chr8 x) := by
  obtain ⟨j, hj, e⟩ := pk_andE x (m := 255) 8 (by decide)
  have h : chr8 x = nI j := by unfold chr8; rw [e]; exact (chr8_256 j hj).1
  rw [h]
  show Value.int (vp_nar .char (nI j)) = _
  rw [(chr8_256 j hj).2]
theorem sh0 (x : Int32) : x >>> ((0 : Int32) &&& 31) = x := by
  rw [show ((0 : Int32) &&& 31) = 0 by decide]
  exact Int32.shiftRight_zero
def eqC (n : Nat) (f : AI) (k : Nat) (g : AI) : Int32 := if n = k ∧ ∀ j, j < n → f j = g j then 1 else 0
theorem eqC_len {n k : Nat} {f g : AI} (h : ¬ n = k) : eqC n f k g = 0 := if_neg (fun q => h q.1)
theorem eqC_yes {n : Nat} {f g : AI} (h : ∀ j, j < n → f j = g j) : eqC n f n g = 1 := if_pos ⟨rfl, h⟩
theorem eqC_no {n j : Nat} {f g : AI} (hj : j < n) (h : ¬ f j = g j) : eqC n f n g = 0 := if_neg (fun q => h (q.2 j hj))
theorem eqC_01 (n : Nat) (f : AI) (k : Nat) (g : AI) : eqC n f k g = 0 ∨ eqC n f k g = 1 := by
  unfold eqC
  by_cases h : n = k ∧ ∀ j, j < n → f j = g j
  · exact Or.inr (if_pos h)
  · exact Or.inl (if_neg h)
/-- an answer that is any value, or none -/
def qz_ {S : Type} (D : va_G) (r0 : S → Option Value) (F : S → Prop) (w : S → va_W) (A : Nat → Prop) : Array Value → State → Outcome → State → Prop := fun _ st oc t => (∃ u : S, oc = .returned (r0 u) ∧ F u ∧ va_P D clG (w u) t.heap ∧ va_D A (w u)) ∧ va_F A st t
section KZ
variable {p : Program} {l : Launch} {e : Env} {R : Room} {s : State} {m : MethodId} {args : Array Value} {below : List Frame} {meth : Method} {c : Code} {H : Heap} {locs : List Loc} {cells slots : Nat} {Q : State → Prop}
variable {pc : Nat} {ls : Array Slot} {rest st0 : List Value} {a : Array Value} {A : Nat → Prop} {H0 : Heap} {mc ms : Nat} {D : va_G} {ws wc : va_W}
theorem va_callz {S : Type} {r0 : S → Option Value} {F : S → Prop} {w : S → va_W} {A1 : Nat → Prop} {free : Addr → Prop} (hr : va_Run p l e R s m args below meth c H locs cells slots mc ms (F0 m pc ls st0) rest (qz_ D r0 F w A1 a) free) (hS : va_S A H0 H locs) (hA : ∀ q, q < H.size → A1 q → A q) (hf : ∀ q, free q → A q)
    (kk : ∀ (u : S) (H1 : Heap) (locs1 : List Loc), F u → va_P D clG (w u) H1 → va_D A1 (w u) → H.size ≤ H1.size → (∀ q : Nat, q < H.size → ¬ A1 q → H1[q]? = H[q]?) → va_S A H0 H1 locs1 → W p l e R s m args below meth c H1 locs1 (cells + mc) (slots + ms) Q (F0 m (pc + 3) ls ((r0 u).toList ++ rest))) : W p l e R s m args below meth c H locs cells slots Q (F0 m pc ls st0) := by
  intro T hT X
  obtain ⟨v, st₀, t, T', L, h0, X', hL, e1, e2, ⟨⟨u, hv, hp, hb, hd⟩, hz, hk⟩, st⟩ := hr T hT X
  cases hv
  rw [h0] at hz hk
  obtain ⟨t2, a1, b1⟩ := kk u T'.heap (locs ++ L) hp (by rw [e1]; exact hb) hd (by rw [e1]; exact hz) (fun q h1 h2 => by rw [e1]; exact hk q h1 h2)
    ⟨Nat.le_trans hS.1 (by rw [e1]; exact hz), fun q h1 h2 => by rw [e1, hk q (Nat.lt_of_lt_of_le h1 hS.1) (fun z => h2 (hA q (Nat.lt_of_lt_of_le h1 hS.1) z))]; exact hS.2.1 q h1 h2, fun q hq => by
      rcases List.mem_append.mp hq with h | h
      · exact hS.2.2 q h
      · exact hf _ (hL q h)⟩ T' rfl X'
  exact ⟨t2, st t2 a1 , b1⟩
/-- the callee has a part of the world, makes nothing that stays -/
theorem k_z0 {S : Type} {r0 : S → Option Value} {F : S → Prop} {c1 : S → va_W} (is : List Nat) (hr : va_Run p l e R s m args below meth c H locs cells slots mc ms (F0 m pc ls st0) rest (qz_ D r0 F c1 (va_A wc H.size) a) (va_A wc H.size))
    (hP : va_P D clG ws H) (hD : va_D A ws) (hS : va_S A H0 H locs) (hA : ∀ q, H0.size ≤ q → A q) (hC : is.map (fun i => ws[i]?) = wc.map some) (hf : ∀ u, F u → (c1 u).map (·.1) = wc.map (·.1))
    (kk : ∀ (u : S) (H1 : Heap) (locs1 : List Loc), F u → va_P D clG (putAt ws is (c1 u)) H1 → va_D A (putAt ws is (c1 u)) → va_S A H0 H1 locs1 → W p l e R s m args below meth c H1 locs1 (cells + mc) (slots + ms) Q (F0 m (pc + 3) ls ((r0 u).toList ++ rest))) : W p l e R s m args below meth c H locs cells slots Q (F0 m pc ls st0) := by
  have hF := k_free hD hS hA is hC
  refine va_callz hr hS (fun q _ h => hF q h) hF (fun u H1 locs1 hu hP1 hD1 hz hk hS1 => ?_)
  have h2 := k_join (c1 := c1 u) (ex := []) hP hD is hC (hf u hu) hk hF (by rw [List.append_nil]; exact hP1) (by rw [List.append_nil]; exact hD1)
  rw [List.append_nil] at h2
  exact kk u H1 locs1 hu h2.1 h2.2 hS1
/-- the callee has the whole world -/
theorem k_w {S : Type} {r0 : S → Option Value} {F : S → Prop} {w : S → va_W} (hr : va_Run p l e R s m args below meth c H locs cells slots mc ms (F0 m pc ls st0) rest (qz_ D r0 F w (va_A ws H.size) a) (va_A ws H.size))
    (hD : va_D A ws) (hS : va_S A H0 H locs) (hA : ∀ q, H0.size ≤ q → A q)
    (kk : ∀ (u : S) (H1 : Heap) (locs1 : List Loc), F u → va_P D clG (w u) H1 → va_D A (w u) → va_S A H0 H1 locs1 → W p l e R s m args below meth c H1 locs1 (cells + mc) (slots + ms) Q (F0 m (pc + 3) ls ((r0 u).toList ++ rest))) : W p l e R s m args below meth c H locs cells slots Q (F0 m pc ls st0) := by
  have hF : ∀ q, va_A ws H.size q → A q := by
    intro q h
    rcases h with ⟨k, e, h⟩ | h
    · exact hD.2 k _ h
    · exact hA q (Nat.le_trans hS.1 h)
  refine va_callz hr hS (fun q _ h => hF q h) hF (fun u H1 locs1 hu hP1 hD1 hz hk hS1 => ?_)
  exact kk u H1 locs1 hu hP1 (hD1.weaken (fun _ q _ h => hF q.1 h)) hS1
end KZ
def hashG : Nat → AI → Int32
  | 0, _ => 0
  | n + 1, f => 31 * hashG n f + (f n &&& 255)
def hD_ (d : Bool) (n : Nat) (f : AI) : Int32 := if d = true then hashG n f else 0
def zD_ (d : Bool) (n : Nat) (f : AI) : Int32 := if d = true then (if hashG n f = 0 then 1 else 0) else 0
/-- a string's two cells -/
def scell (a v n : Nat) (f : AI) (d : Bool) : Nat × va_E := (a, .inr (13, [.ref v, .int 0, .int (hD_ d n f), .int (zD_ d n f)]))
def bcell (dA : Nat → ClassId) (v n : Nat) (f : AI) : Nat × va_E := (v, .inl (dA 2, n, .inl f))
def cmpF (ch : AI) : Nat → AI
  | 0 => fun _ => 0
  | k + 1 => upd (cmpF ch k) k (vp_nar .byte (Int8.toInt32 (Int32.toInt8 (ch k))))
theorem hz_case {n : Nat} {f : AI} {d : Bool} : (hD_ d n f = 0 ∨ hD_ d n f = hashG n f) ∧ (zD_ d n f = 0 ∨ hashG n f = 0) := by
  unfold hD_ zD_
  cases d with
  | false => exact ⟨Or.inl rfl, Or.inl rfl⟩
  | true =>
    refine ⟨Or.inr rfl, ?_⟩
    by_cases h : hashG n f = 0
    · exact Or.inr h
    · exact Or.inl (by rw [if_pos rfl, if_neg h])
theorem oB {D : va_G} {dA : Nat → ClassId} {ws : va_W} {s : State} {H : Heap} {v L k2 : Nat} {f : AI} {B : Nat → Prop} (hK : KK D dA s) (hP : va_P D clG ws H) (h2 : ws[k2]? = some (v, .inl (dA 2, L, .inl f))) (hB2 : ¬ B v) : va_O "[B" v B s H :=
  ⟨vp_cell (dA 2) (L, .inl f), hP k2 _ h2, rfl, (hK.1.2 2 _ rfl).2, hB2⟩
def oO_ (C : String) (v : Nat) : EV := fun A U H => va_O C v A U H
theorem oO_ok {C : String} {v : Nat} : EVok (oO_ C v) := ⟨fun A u U H h q => va_O.moved (al_of h) q, fun A U H H1 q h => va_O.kept q h, fun A B U H q h => va_O.narrow q h⟩
def T_ : EV := fun _ _ _ => True
theorem T_ok : EVok T_ := ⟨fun _ _ _ _ _ _ => trivial, fun _ _ _ _ _ _ => trivial, fun _ _ _ _ _ _ => trivial⟩
set_option maxHeartbeats 4000000 in
theorem ctJ3_coder (l : Launch) (D : va_G) (dA : Nat → ClassId) (sz : Nat) (a v n : Nat) (f : AI) (b w k : Nat) (g : AI) : Met l yJ3_coder (ws_ yJ3_coder cJ3_coder 1 (some .byte)) ({ frames := 1, cells := 0, slots := 0, locals := 20 }) (preX D dA (ev2 OK_ (ev2 (sv_ a v n f) (sv_ b w k g))) [.ref a] [] sz) (qi_ D 0 (fun (_ : Unit) => []) (va_A [] sz)) 0 0 (va_A [] sz) := by
  refine Met.ofW (cc := cJ3_coder) (maxL := 1) (ret := (some .byte)) (by decide) rfl ?_
  intro p e s m args below meth c s₁ B hml hv
  obtain ⟨rfl, hsz, hP, hK, hD0, hE⟩ := hv
  have hx := B.exec
  have hb := B.bytes
  have hr := B.returns
  have hts := atoms_spec (ws := (ws_ yJ3_coder cJ3_coder 1 (some .byte))) B.pre
  have hts : ∀ w ∈ lw_all, w.before _ s = true := fun w h => hts w (List.mem_cons_of_mem _ h)
  have hown : s.vm.findClass RJ3 = some m.cls := findClass_of_methodNamed B.named
  have hlocks := B.notSynchronized
  subst hsz
  have hD := hD0.self (sz := s.heap.size)
  generalize hAe : va_A [] s.heap.size = A at hD hE ⊢
  have hA : ∀ q : Nat, s.heap.size ≤ q → A q := fun q h => by rw [← hAe]; exact Or.inr h
  have hS : va_S A s.heap s.heap [] := va_S.rf
  have hP : va_P D clG [] s.heap := hP
  have hl := lv_entry ([.ref a]) (n := 1) (Nat.le_of_ble_eq_true rfl)
  rw [lg_entry_eq]
  generalize (lg_sl ([.ref a]) ++ List.replicate (1 - (lg_sl ([.ref a])).length) Slot.unset).toArray = ls at hl ⊢
  have hl : lv_has ls 1 [(0, .ref a)] := hl
  refine va_gets hx hb hE.1.1 hS hown (hts _ q554) (fun _ h9 => h9) dJ3_coder_0 ?_
  refine lv_if_eq (tgt := 13) hx hb dJ3_coder_3 (by decide) (fun h9 => absurd h9 (by decide)) (fun _ => ?_)
  refine lv_aload_n hx hb dJ3_coder_6 rfl (lv_at hl 0 rfl) ?_
  refine vk_getf hx hb hE.2.1.2.1 hS hown (hts _ q599) (fun _ h9 => h9) dJ3_coder_7 ?_
  refine lv_goto (tgt := 14) hx hb dJ3_coder_10 (by decide) ?_
  exact W.zret (v := 0) hx hb hr rfl (fun t ht hW => ⟨⟨0, (), rfl, rfl, by rw [ht]; exact hP, hD⟩, hS.F ht⟩) hS.2.2 dJ3_coder_14
set_option maxHeartbeats 4000000 in
theorem ctJ3_isLatin1 (l : Launch) (D : va_G) (dA : Nat → ClassId) (sz : Nat) (a v n : Nat) (f : AI) (b w k : Nat) (g : AI) : Met l yJ3_isLatin1 (ws_ yJ3_isLatin1 cJ3_isLatin1 1 (some .boolean)) ({ frames := 1, cells := 0, slots := 0, locals := 20 }) (preX D dA (ev2 OK_ (ev2 (sv_ a v n f) (sv_ b w k g))) [.ref a] [] sz) (qi_ D 1 (fun (_ : Unit) => []) (va_A [] sz)) 0 0 (va_A [] sz) := by
  refine Met.ofW (cc := cJ3_isLatin1) (maxL := 1) (ret := (some .boolean)) (by decide) rfl ?_
  intro p e s m args below meth c s₁ B hml hv
  obtain ⟨rfl, hsz, hP, hK, hD0, hE⟩ := hv
  have hx := B.exec
  have hb := B.bytes
  have hr := B.returns
  have hts := atoms_spec (ws := (ws_ yJ3_isLatin1 cJ3_isLatin1 1 (some .boolean))) B.pre
  have hts : ∀ w ∈ lw_all, w.before _ s = true := fun w h => hts w (List.mem_cons_of_mem _ h)
  have hown : s.vm.findClass RJ3 = some m.cls := findClass_of_methodNamed B.named
  have hlocks := B.notSynchronized
  subst hsz
  have hD := hD0.self (sz := s.heap.size)
  generalize hAe : va_A [] s.heap.size = A at hD hE ⊢
  have hA : ∀ q : Nat, s.heap.size ≤ q → A q := fun q h => by rw [← hAe]; exact Or.inr h
  have hS : va_S A s.heap s.heap [] := va_S.rf
  have hP : va_P D clG [] s.heap := hP
  have hl := lv_entry ([.ref a]) (n := 1) (Nat.le_of_ble_eq_true rfl)
  rw [lg_entry_eq]
  generalize (lg_sl ([.ref a]) ++ List.replicate (1 - (lg_sl ([.ref a])).length) Slot.unset).toArray = ls at hl ⊢
  have hl : lv_has ls 1 [(0, .ref a)] := hl
  refine va_gets hx hb hE.1.1 hS hown (hts _ q554) (fun _ h9 => h9) dJ3_isLatin1_0 ?_
  refine lv_if_eq (tgt := 17) hx hb dJ3_isLatin1_3 (by decide) (fun h9 => absurd h9 (by decide)) (fun _ => ?_)
  refine lv_aload_n hx hb dJ3_isLatin1_6 rfl (lv_at hl 0 rfl) ?_
  refine vk_getf hx hb hE.2.1.2.1 hS hown (hts _ q599) (fun _ h9 => h9) dJ3_isLatin1_7 ?_
  refine lv_if_ne (tgt := 17) hx hb dJ3_isLatin1_10 (by decide) (fun h9 => absurd h9 (by decide)) (fun _ => ?_)
  refine lv_iconst (v := 1) hx hb dJ3_isLatin1_13 (by decide) ?_
  refine lv_goto (tgt := 18) hx hb dJ3_isLatin1_14 (by decide) ?_
  exact W.zret (v := 1) hx hb hr rfl (fun t ht hW => ⟨⟨1, (), rfl, rfl, by rw [ht]; exact hP, hD⟩, hS.F ht⟩) hS.2.2 dJ3_isLatin1_18
set_option maxHeartbeats 4000000 in
theorem ctJ3_length (l : Launch) (D : va_G) (dA : Nat → ClassId) (sz : Nat) (a v n : Nat) (f : AI) (b w k : Nat) (g : AI) : Met l yJ3_length (ws_ yJ3_length cJ3_length 1 (some .int)) ({ frames := 2, cells := 0, slots := 0, locals := 60 }) (preX D dA (ev2 OK_ (ev2 (sv_ a v n f) (sv_ b w k g))) [.ref a] [] sz) (qi_ D (nI n) (fun (_ : Unit) => []) (va_A [] sz)) 0 0 (va_A [] sz) := by
  refine Met.ofW (cc := cJ3_length) (maxL := 1) (ret := (some .int)) (by decide) rfl ?_
  intro p e s m args below meth c s₁ B hml hv
  obtain ⟨rfl, hsz, hP, hK, hD0, hE⟩ := hv
  have hx := B.exec
  have hb := B.bytes
  have hr := B.returns
  have hts := atoms_spec (ws := (ws_ yJ3_length cJ3_length 1 (some .int))) B.pre
  have hts : ∀ w ∈ lw_all, w.before _ s = true := fun w h => hts w (List.mem_cons_of_mem _ h)
  have hown : s.vm.findClass RJ3 = some m.cls := findClass_of_methodNamed B.named
  have hlocks := B.notSynchronized
  subst hsz
  have hD := hD0.self (sz := s.heap.size)
  generalize hAe : va_A [] s.heap.size = A at hD hE ⊢
  have hA : ∀ q : Nat, s.heap.size ≤ q → A q := fun q h => by rw [← hAe]; exact Or.inr h
  have hS : va_S A s.heap s.heap [] := va_S.rf
  have hP : va_P D clG [] s.heap := hP
  have hl := lv_entry ([.ref a]) (n := 1) (Nat.le_of_ble_eq_true rfl)
  rw [lg_entry_eq]
  generalize (lg_sl ([.ref a]) ++ List.replicate (1 - (lg_sl ([.ref a])).length) Slot.unset).toArray = ls at hl ⊢
  have hl : lv_has ls 1 [(0, .ref a)] := hl
  refine lv_aload_n hx hb dJ3_length_0 rfl (lv_at hl 0 rfl) ?_
  refine vk_getf hx hb hE.2.1.2.2.1 hS hown (hts _ q598) (fun _ h9 => h9) dJ3_length_1 ?_
  refine va_tlen (v := nI n) hx hb hE.2.1.2.2.2 hS rfl dJ3_length_4 ?_
  refine lv_aload_n hx hb dJ3_length_5 rfl (lv_at hl 0 rfl) ?_
  refine k_i0 [] (va_runV (As := []) (rest := [.int (nI n)]) ⟨hx, hb, hml, hown, hts⟩ (ctJ3_coder l D dA _ a v n f b w k g) (cwV 0 hts (lw_V q1606 q1607 q1608 q124 q1609) rfl rfl rfl (by decide +kernel) ⟨Nat.le_of_ble_eq_true rfl, Nat.le_of_ble_eq_true rfl⟩) (preX_O (ev2_ok OK_ok (ev2_ok sv_ok sv_ok)) p_nil hK (A := A) d_nil (ev_at (ev2_ok OK_ok (ev2_ok sv_ok sv_ok)) hE hS (ev_nil hA hS)) (hE.2.1.1.kept hS.2.1)) rfl rfl hl.1 rfl (lv_room (Nat.le_of_ble_eq_true rfl)) dJ3_length_6 ⟨Nat.le_of_ble_eq_true rfl, Nat.le_of_ble_eq_true rfl⟩) hP hD hS hA rfl (fun _ => rfl) (fun u1 H locs hP hD hS => ?_)
  have hP : va_P D clG [] H := hP
  have hD : va_D A [] := hD
  refine lv_ishr hx hb dJ3_length_9 ?_
  refine lv_toi (v := nI n) (sh0 _) ?_
  exact W.iret (v := nI n) hx hb hr (fun t ht hW => ⟨⟨nI n, (), rfl, rfl, by rw [ht]; exact hP, hD⟩, hS.F ht⟩) hS.2.2 dJ3_length_10
set_option maxHeartbeats 4000000 in
theorem ctJ4_checkIndexN (l : Launch) (D : va_G) (dA : Nat → ClassId) (sz : Nat) (a v n : Nat) (f : AI) (b w k : Nat) (g : AI) (i N : Nat) (hi : i < N) (hN : N < 2 ^ 31) : Met l yJ4_checkIndex (ws_ yJ4_checkIndex cJ4_checkIndex 3 (some .int)) ({ frames := 1, cells := 0, slots := 0, locals := 20 }) (preX D dA (ev2 OK_ (ev2 (sv_ a v n f) (sv_ b w k g))) [.int (nI i), .int (nI N), .null] [] sz) (qi_ D (nI i) (fun (_ : Unit) => []) (va_A [] sz)) 0 0 (va_A [] sz) := by
  refine Met.ofW (cc := cJ4_checkIndex) (maxL := 3) (ret := (some .int)) (by decide) rfl ?_
  intro p e s m args below meth c s₁ B hml hv
  obtain ⟨rfl, hsz, hP, hK, hD0, hE⟩ := hv
  have hx := B.exec
  have hb := B.bytes
  have hr := B.returns
  have hts := atoms_spec (ws := (ws_ yJ4_checkIndex cJ4_checkIndex 3 (some .int))) B.pre
  have hts : ∀ w ∈ lw_all, w.before _ s = true := fun w h => hts w (List.mem_cons_of_mem _ h)
  have hown : s.vm.findClass RJ4 = some m.cls := findClass_of_methodNamed B.named
  have hlocks := B.notSynchronized
  subst hsz
  have hD := hD0.self (sz := s.heap.size)
  generalize hAe : va_A [] s.heap.size = A at hD hE ⊢
  have hA : ∀ q : Nat, s.heap.size ≤ q → A q := fun q h => by rw [← hAe]; exact Or.inr h
  have hS : va_S A s.heap s.heap [] := va_S.rf
  have hP : va_P D clG [] s.heap := hP
  have hl := lv_entry ([.int (nI i), .int (nI N), .null]) (n := 3) (Nat.le_of_ble_eq_true rfl)
  rw [lg_entry_eq]
  generalize (lg_sl ([.int (nI i), .int (nI N), .null]) ++ List.replicate (3 - (lg_sl ([.int (nI i), .int (nI N), .null])).length) Slot.unset).toArray = ls at hl ⊢
  have hl : lv_has ls 3 [(0, .int (nI i)), (1, .int (nI N)), (2, .null)] := hl
  refine lv_iload_n hx hb dJ4_checkIndex_0 rfl (lv_at hl 0 rfl) ?_
  refine lv_if_lt (tgt := 9) hx hb dJ4_checkIndex_1 (by decide) (fun h9 => absurd h9 (nI_pos (by omega))) (fun _ => ?_)
  refine lv_iload_n hx hb dJ4_checkIndex_4 rfl (lv_at hl 0 rfl) ?_
  refine lv_iload_n hx hb dJ4_checkIndex_5 rfl (lv_at hl 1 rfl) ?_
  refine lv_icmp_lt (tgt := 16) hx hb dJ4_checkIndex_6 (by decide) (fun _ => ?_) (fun h9 => absurd (nI_lt hi hN) h9)
  refine lv_iload_n hx hb dJ4_checkIndex_16 rfl (lv_at hl 0 rfl) ?_
  exact W.iret (v := nI i) hx hb hr (fun t ht hW => ⟨⟨nI i, (), rfl, rfl, by rw [ht]; exact hP, hD⟩, hS.F ht⟩) hS.2.2 dJ4_checkIndex_17
set_option maxHeartbeats 4000000 in
theorem ctJ4_checkIndexR (l : Launch) (D : va_G) (dA : Nat → ClassId) (sz : Nat) (a v n : Nat) (f : AI) (b w k : Nat) (g : AI) (i N : Nat) (hi : i < N) (hN : N < 2 ^ 31) (t : Nat) : Met l yJ4_checkIndex (ws_ yJ4_checkIndex cJ4_checkIndex 3 (some .int)) ({ frames := 1, cells := 0, slots := 0, locals := 20 }) (preX D dA (ev2 OK_ (ev2 (sv_ a v n f) (sv_ b w k g))) [.int (nI i), .int (nI N), .ref t] [] sz) (qi_ D (nI i) (fun (_ : Unit) => []) (va_A [] sz)) 0 0 (va_A [] sz) := by
  refine Met.ofW (cc := cJ4_checkIndex) (maxL := 3) (ret := (some .int)) (by decide) rfl ?_
  intro p e s m args below meth c s₁ B hml hv
  obtain ⟨rfl, hsz, hP, hK, hD0, hE⟩ := hv
  have hx := B.exec
  have hb := B.bytes
  have hr := B.returns
  have hts := atoms_spec (ws := (ws_ yJ4_checkIndex cJ4_checkIndex 3 (some .int))) B.pre
  have hts : ∀ w ∈ lw_all, w.before _ s = true := fun w h => hts w (List.mem_cons_of_mem _ h)
  have hown : s.vm.findClass RJ4 = some m.cls := findClass_of_methodNamed B.named
  have hlocks := B.notSynchronized
  subst hsz
  have hD := hD0.self (sz := s.heap.size)
  generalize hAe : va_A [] s.heap.size = A at hD hE ⊢
  have hA : ∀ q : Nat, s.heap.size ≤ q → A q := fun q h => by rw [← hAe]; exact Or.inr h
  have hS : va_S A s.heap s.heap [] := va_S.rf
  have hP : va_P D clG [] s.heap := hP
  have hl := lv_entry ([.int (nI i), .int (nI N), .ref t]) (n := 3) (Nat.le_of_ble_eq_true rfl)
  rw [lg_entry_eq]
  generalize (lg_sl ([.int (nI i), .int (nI N), .ref t]) ++ List.replicate (3 - (lg_sl ([.int (nI i), .int (nI N), .ref t])).length) Slot.unset).toArray = ls at hl ⊢
  have hl : lv_has ls 3 [(0, .int (nI i)), (1, .int (nI N)), (2, .ref t)] := hl
  refine lv_iload_n hx hb dJ4_checkIndex_0 rfl (lv_at hl 0 rfl) ?_
  refine lv_if_lt (tgt := 9) hx hb dJ4_checkIndex_1 (by decide) (fun h9 => absurd h9 (nI_pos (by omega))) (fun _ => ?_)
  refine lv_iload_n hx hb dJ4_checkIndex_4 rfl (lv_at hl 0 rfl) ?_
  refine lv_iload_n hx hb dJ4_checkIndex_5 rfl (lv_at hl 1 rfl) ?_
  refine lv_icmp_lt (tgt := 16) hx hb dJ4_checkIndex_6 (by decide) (fun _ => ?_) (fun h9 => absurd (nI_lt hi hN) h9)
  refine lv_iload_n hx hb dJ4_checkIndex_16 rfl (lv_at hl 0 rfl) ?_
  exact W.iret (v := nI i) hx hb hr (fun t ht hW => ⟨⟨nI i, (), rfl, rfl, by rw [ht]; exact hP, hD⟩, hS.F ht⟩) hS.2.2 dJ4_checkIndex_17
set_option maxHeartbeats 4000000 in
theorem ctJ3_checkIndex (l : Launch) (D : va_G) (dA : Nat → ClassId) (sz : Nat) (a v n : Nat) (f : AI) (b w k : Nat) (g : AI) (i N : Nat) (hi : i < N) (hN : N < 2 ^ 31) : Met l yJ3_checkIndex (ws_ yJ3_checkIndex cJ3_checkIndex 2 none) ({ frames := 2, cells := 0, slots := 0, locals := 60 }) (preX D dA (ev2 OK_ (ev2 (sv_ a v n f) (sv_ b w k g))) [.int (nI i), .int (nI N)] [] sz) (qv_ D (fun (_ : Unit) => []) (va_A [] sz)) 0 0 (va_A [] sz) := by
  refine Met.ofW (cc := cJ3_checkIndex) (maxL := 2) (ret := none) (by decide) rfl ?_
  intro p e s m args below meth c s₁ B hml hv
  obtain ⟨rfl, hsz, hP, hK, hD0, hE⟩ := hv
  have hx := B.exec
  have hb := B.bytes
  have hr := B.returns
  have hts := atoms_spec (ws := (ws_ yJ3_checkIndex cJ3_checkIndex 2 none)) B.pre
  have hts : ∀ w ∈ lw_all, w.before _ s = true := fun w h => hts w (List.mem_cons_of_mem _ h)
  have hown : s.vm.findClass RJ3 = some m.cls := findClass_of_methodNamed B.named
  have hlocks := B.notSynchronized
  subst hsz
  have hD := hD0.self (sz := s.heap.size)
  generalize hAe : va_A [] s.heap.size = A at hD hE ⊢
  have hA : ∀ q : Nat, s.heap.size ≤ q → A q := fun q h => by rw [← hAe]; exact Or.inr h
  have hS : va_S A s.heap s.heap [] := va_S.rf
  have hP : va_P D clG [] s.heap := hP
  have hl := lv_entry ([.int (nI i), .int (nI N)]) (n := 2) (Nat.le_of_ble_eq_true rfl)
  rw [lg_entry_eq]
  generalize (lg_sl ([.int (nI i), .int (nI N)]) ++ List.replicate (2 - (lg_sl ([.int (nI i), .int (nI N)])).length) Slot.unset).toArray = ls at hl ⊢
  have hl : lv_has ls 2 [(0, .int (nI i)), (1, .int (nI N))] := hl
  refine lv_iload_n hx hb dJ3_checkIndex_0 rfl (lv_at hl 0 rfl) ?_
  refine lv_iload_n hx hb dJ3_checkIndex_1 rfl (lv_at hl 1 rfl) ?_
  rcases hE.1.2 with h | ⟨t, h⟩
  · skip
    refine va_gets hx hb h hS hown (hts _ q544) (fun _ h9 => h9) dJ3_checkIndex_2 ?_
    refine k_i0 [] (va_runS (As := [.int (nI i), .int (nI N), .null]) (rest := []) ⟨hx, hb, hml, hown, hts⟩ (ctJ4_checkIndexN l D dA _ a v n f b w k g i N hi hN) (va_cwS 3 hts (lw_S q1620 q1621 q125 q1622) rfl rfl rfl (by decide +kernel) ⟨Nat.le_of_ble_eq_true rfl, Nat.le_of_ble_eq_true rfl⟩) (preX_S (ev2_ok OK_ok (ev2_ok sv_ok sv_ok)) p_nil hK (A := A) d_nil (ev_at (ev2_ok OK_ok (ev2_ok sv_ok sv_ok)) hE hS (ev_nil hA hS))) rfl rfl hl.1 rfl (lv_room (Nat.le_of_ble_eq_true rfl)) dJ3_checkIndex_5 ⟨Nat.le_of_ble_eq_true rfl, Nat.le_of_ble_eq_true rfl⟩) hP hD hS hA rfl (fun _ => rfl) (fun u1 H locs hP hD hS => ?_)
    have hP : va_P D clG [] H := hP
    have hD : va_D A [] := hD
    refine lv_pop hx hb dJ3_checkIndex_8 rfl ?_
    exact W.vret hx hb hr (fun t ht hW => ⟨⟨(), rfl, trivial, by rw [ht]; exact hP, hD⟩, hS.F ht⟩) hS.2.2 dJ3_checkIndex_9
  · skip
    refine va_gets hx hb h hS hown (hts _ q544) (fun _ h9 => h9) dJ3_checkIndex_2 ?_
    refine k_i0 [] (va_runS (As := [.int (nI i), .int (nI N), .ref t]) (rest := []) ⟨hx, hb, hml, hown, hts⟩ (ctJ4_checkIndexR l D dA _ a v n f b w k g i N hi hN t) (va_cwS 3 hts (lw_S q1620 q1621 q125 q1622) rfl rfl rfl (by decide +kernel) ⟨Nat.le_of_ble_eq_true rfl, Nat.le_of_ble_eq_true rfl⟩) (preX_S (ev2_ok OK_ok (ev2_ok sv_ok sv_ok)) p_nil hK (A := A) d_nil (ev_at (ev2_ok OK_ok (ev2_ok sv_ok sv_ok)) hE hS (ev_nil hA hS))) rfl rfl hl.1 rfl (lv_room (Nat.le_of_ble_eq_true rfl)) dJ3_checkIndex_5 ⟨Nat.le_of_ble_eq_true rfl, Nat.le_of_ble_eq_true rfl⟩) hP hD hS hA rfl (fun _ => rfl) (fun u1 H locs hP hD hS => ?_)
    have hP : va_P D clG [] H := hP
    have hD : va_D A [] := hD
    refine lv_pop hx hb dJ3_checkIndex_8 rfl ?_
    exact W.vret hx hb hr (fun t ht hW => ⟨⟨(), rfl, trivial, by rw [ht]; exact hP, hD⟩, hS.F ht⟩) hS.2.2 dJ3_checkIndex_9
set_option maxHeartbeats 4000000 in
theorem ctJ6_charAt (l : Launch) (D : va_G) (dA : Nat → ClassId) (sz : Nat) (a v n : Nat) (f : AI) (b w k : Nat) (g : AI) (i : Nat) (hi : i < n) (hn : n < 2 ^ 31) : Met l yJ6_charAt (ws_ yJ6_charAt cJ6_charAt 2 (some .char)) ({ frames := 3, cells := 0, slots := 0, locals := 120 }) (preX D dA (ev2 OK_ (ev2 (sv_ a v n f) (sv_ b w k g))) [.ref v, .int (nI i)] [] sz) (qi_ D (chr8 (f i)) (fun (_ : Unit) => []) (va_A [] sz)) 0 0 (va_A [] sz) := by
  refine Met.ofW (cc := cJ6_charAt) (maxL := 2) (ret := (some .char)) (by decide) rfl ?_
  intro p e s m args below meth c s₁ B hml hv
  obtain ⟨rfl, hsz, hP, hK, hD0, hE⟩ := hv
  have hx := B.exec
  have hb := B.bytes
  have hr := B.returns
  have hts := atoms_spec (ws := (ws_ yJ6_charAt cJ6_charAt 2 (some .char))) B.pre
  have hts : ∀ w ∈ lw_all, w.before _ s = true := fun w h => hts w (List.mem_cons_of_mem _ h)
  have hown : s.vm.findClass RJ6 = some m.cls := findClass_of_methodNamed B.named
  have hlocks := B.notSynchronized
  subst hsz
  have hD := hD0.self (sz := s.heap.size)
  generalize hAe : va_A [] s.heap.size = A at hD hE ⊢
  have hA : ∀ q : Nat, s.heap.size ≤ q → A q := fun q h => by rw [← hAe]; exact Or.inr h
  have hS : va_S A s.heap s.heap [] := va_S.rf
  have hP : va_P D clG [] s.heap := hP
  have hl := lv_entry ([.ref v, .int (nI i)]) (n := 2) (Nat.le_of_ble_eq_true rfl)
  rw [lg_entry_eq]
  generalize (lg_sl ([.ref v, .int (nI i)]) ++ List.replicate (2 - (lg_sl ([.ref v, .int (nI i)])).length) Slot.unset).toArray = ls at hl ⊢
  have hl : lv_has ls 2 [(0, .ref v), (1, .int (nI i))] := hl
  refine lv_iload_n hx hb dJ6_charAt_0 rfl (lv_at hl 1 rfl) ?_
  refine lv_aload_n hx hb dJ6_charAt_1 rfl (lv_at hl 0 rfl) ?_
  refine va_tlen (v := nI n) hx hb hE.2.1.2.2.2 hS rfl dJ6_charAt_2 ?_
  refine k_v0 [] (va_runS (As := [.int (nI i), .int (nI n)]) (rest := []) ⟨hx, hb, hml, hown, hts⟩ (ctJ3_checkIndex l D dA _ a v n f b w k g i n hi hn) (va_cwS 2 hts (lw_S q1617 q1618 q124 q1619) rfl rfl rfl (by decide +kernel) ⟨Nat.le_of_ble_eq_true rfl, Nat.le_of_ble_eq_true rfl⟩) (preX_S (ev2_ok OK_ok (ev2_ok sv_ok sv_ok)) p_nil hK (A := A) d_nil (ev_at (ev2_ok OK_ok (ev2_ok sv_ok sv_ok)) hE hS (ev_nil hA hS))) rfl rfl hl.1 rfl (lv_room (Nat.le_of_ble_eq_true rfl)) dJ6_charAt_3 ⟨Nat.le_of_ble_eq_true rfl, Nat.le_of_ble_eq_true rfl⟩) hP hD hS hA rfl (fun _ => rfl) (fun u1 H locs hP hD hS => ?_)
  have hP : va_P D clG [] H := hP
  have hD : va_D A [] := hD
  refine lv_aload_n hx hb dJ6_charAt_6 rfl (lv_at hl 0 rfl) ?_
  refine lv_iload_n hx hb dJ6_charAt_7 rfl (lv_at hl 1 rfl) ?_
  refine va_tb hx hb hE.2.1.2.2.2 hS (vp_in_nI hi hn) (v := .int (f i)) (by rw [nI_clamp (by omega)]) dJ6_charAt_8 ?_
  refine lv_sipush (v := 255) hx hb dJ6_charAt_9 (by decide) ?_
  refine lv_iand hx hb dJ6_charAt_12 ?_
  refine lv_i2c (v := chr8 (f i)) hx hb dJ6_charAt_13 rfl ?_
  exact W.zret (v := chr8 (f i)) hx hb hr (chr8_nar _) (fun t ht hW => ⟨⟨chr8 (f i), (), rfl, rfl, by rw [ht]; exact hP, hD⟩, hS.F ht⟩) hS.2.2 dJ6_charAt_14
set_option maxHeartbeats 4000000 in
theorem ctJ3_charAt (l : Launch) (D : va_G) (dA : Nat → ClassId) (sz : Nat) (a v n : Nat) (f : AI) (b w k : Nat) (g : AI) (i : Nat) (hi : i < n) (hn : n < 2 ^ 31) : Met l yJ3_charAt (ws_ yJ3_charAt cJ3_charAt 2 (some .char)) ({ frames := 4, cells := 0, slots := 0, locals := 180 }) (preX D dA (ev2 OK_ (ev2 (sv_ a v n f) (sv_ b w k g))) [.ref a, .int (nI i)] [] sz) (qi_ D (chr8 (f i)) (fun (_ : Unit) => []) (va_A [] sz)) 0 0 (va_A [] sz) := by
  refine Met.ofW (cc := cJ3_charAt) (maxL := 2) (ret := (some .char)) (by decide) rfl ?_
  intro p e s m args below meth c s₁ B hml hv
  obtain ⟨rfl, hsz, hP, hK, hD0, hE⟩ := hv
  have hx := B.exec
  have hb := B.bytes
  have hr := B.returns
  have hts := atoms_spec (ws := (ws_ yJ3_charAt cJ3_charAt 2 (some .char))) B.pre
  have hts : ∀ w ∈ lw_all, w.before _ s = true := fun w h => hts w (List.mem_cons_of_mem _ h)
  have hown : s.vm.findClass RJ3 = some m.cls := findClass_of_methodNamed B.named
  have hlocks := B.notSynchronized
  subst hsz
  have hD := hD0.self (sz := s.heap.size)
  generalize hAe : va_A [] s.heap.size = A at hD hE ⊢
  have hA : ∀ q : Nat, s.heap.size ≤ q → A q := fun q h => by rw [← hAe]; exact Or.inr h
  have hS : va_S A s.heap s.heap [] := va_S.rf
  have hP : va_P D clG [] s.heap := hP
  have hl := lv_entry ([.ref a, .int (nI i)]) (n := 2) (Nat.le_of_ble_eq_true rfl)
  rw [lg_entry_eq]
  generalize (lg_sl ([.ref a, .int (nI i)]) ++ List.replicate (2 - (lg_sl ([.ref a, .int (nI i)])).length) Slot.unset).toArray = ls at hl ⊢
  have hl : lv_has ls 2 [(0, .ref a), (1, .int (nI i))] := hl
  refine lv_aload_n hx hb dJ3_charAt_0 rfl (lv_at hl 0 rfl) ?_
  refine k_i0 [] (va_runV (As := []) (rest := []) ⟨hx, hb, hml, hown, hts⟩ (ctJ3_isLatin1 l D dA _ a v n f b w k g) (cwV 0 hts (lw_V q631 q632 q633 q124 q634) rfl rfl rfl (by decide +kernel) ⟨Nat.le_of_ble_eq_true rfl, Nat.le_of_ble_eq_true rfl⟩) (preX_O (ev2_ok OK_ok (ev2_ok sv_ok sv_ok)) p_nil hK (A := A) d_nil (ev_at (ev2_ok OK_ok (ev2_ok sv_ok sv_ok)) hE hS (ev_nil hA hS)) (hE.2.1.1.kept hS.2.1)) rfl rfl hl.1 rfl (lv_room (Nat.le_of_ble_eq_true rfl)) dJ3_charAt_1 ⟨Nat.le_of_ble_eq_true rfl, Nat.le_of_ble_eq_true rfl⟩) hP hD hS hA rfl (fun _ => rfl) (fun u1 H locs hP hD hS => ?_)
  have hP : va_P D clG [] H := hP
  have hD : va_D A [] := hD
  refine lv_if_eq (tgt := 16) hx hb dJ3_charAt_4 (by decide) (fun h9 => absurd h9 (by decide)) (fun _ => ?_)
  refine lv_aload_n hx hb dJ3_charAt_7 rfl (lv_at hl 0 rfl) ?_
  refine vk_getf hx hb hE.2.1.2.2.1 hS hown (hts _ q598) (fun _ h9 => h9) dJ3_charAt_8 ?_
  refine lv_iload_n hx hb dJ3_charAt_11 rfl (lv_at hl 1 rfl) ?_
  refine k_i0 [] (va_runS (As := [.ref v, .int (nI i)]) (rest := []) ⟨hx, hb, hml, hown, hts⟩ (ctJ6_charAt l D dA _ a v n f b w k g i hi hn) (va_cwS 2 hts (lw_S q1614 q1615 q127 q1616) rfl rfl rfl (by decide +kernel) ⟨Nat.le_of_ble_eq_true rfl, Nat.le_of_ble_eq_true rfl⟩) (preX_S (ev2_ok OK_ok (ev2_ok sv_ok sv_ok)) p_nil hK (A := A) d_nil (ev_at (ev2_ok OK_ok (ev2_ok sv_ok sv_ok)) hE hS (ev_nil hA hS))) rfl rfl hl.1 rfl (lv_room (Nat.le_of_ble_eq_true rfl)) dJ3_charAt_12 ⟨Nat.le_of_ble_eq_true rfl, Nat.le_of_ble_eq_true rfl⟩) hP hD hS hA rfl (fun _ => rfl) (fun u1 H locs hP hD hS => ?_)
  have hP : va_P D clG [] H := hP
  have hD : va_D A [] := hD
  exact W.zret (v := chr8 (f i)) hx hb hr (chr8_nar _) (fun t ht hW => ⟨⟨chr8 (f i), (), rfl, rfl, by rw [ht]; exact hP, hD⟩, hS.F ht⟩) hS.2.2 dJ3_charAt_15
set_option maxHeartbeats 4000000 in
theorem ctJ6_equals (l : Launch) (D : va_G) (dA : Nat → ClassId) (sz : Nat) (a v n : Nat) (f : AI) (b w k : Nat) (g : AI) (hn : n < 2 ^ 31) (hk : k < 2 ^ 31) : Met l yJ6_equals (ws_ yJ6_equals cJ6_equals 3 (some .boolean)) ({ frames := 1, cells := 0, slots := 0, locals := 40 }) (preX D dA (ev2 OK_ (ev2 (sv_ a v n f) (sv_ b w k g))) [.ref v, .ref w] [] sz) (qi_ D (eqC n f k g) (fun (_ : Unit) => []) (va_A [] sz)) 0 0 (va_A [] sz) := by
  refine Met.ofW (cc := cJ6_equals) (maxL := 3) (ret := (some .boolean)) (by decide) rfl ?_
  intro p e s m args below meth c s₁ B hml hv
  obtain ⟨rfl, hsz, hP, hK, hD0, hE⟩ := hv
  have hx := B.exec
  have hb := B.bytes
  have hr := B.returns
  have hts := atoms_spec (ws := (ws_ yJ6_equals cJ6_equals 3 (some .boolean))) B.pre
  have hts : ∀ w ∈ lw_all, w.before _ s = true := fun w h => hts w (List.mem_cons_of_mem _ h)
  have hown : s.vm.findClass RJ6 = some m.cls := findClass_of_methodNamed B.named
  have hlocks := B.notSynchronized
  subst hsz
  have hD := hD0.self (sz := s.heap.size)
  generalize hAe : va_A [] s.heap.size = A at hD hE ⊢
  have hA : ∀ q : Nat, s.heap.size ≤ q → A q := fun q h => by rw [← hAe]; exact Or.inr h
  have hS : va_S A s.heap s.heap [] := va_S.rf
  have hP : va_P D clG [] s.heap := hP
  have hl := lv_entry ([.ref v, .ref w]) (n := 3) (Nat.le_of_ble_eq_true rfl)
  rw [lg_entry_eq]
  generalize (lg_sl ([.ref v, .ref w]) ++ List.replicate (3 - (lg_sl ([.ref v, .ref w])).length) Slot.unset).toArray = ls at hl ⊢
  have hl : lv_has ls 3 [(0, .ref v), (1, .ref w)] := hl
  refine lv_aload_n hx hb dJ6_equals_0 rfl (lv_at hl 0 rfl) ?_
  refine va_tlen (v := nI n) hx hb hE.2.1.2.2.2 hS rfl dJ6_equals_1 ?_
  refine lv_aload_n hx hb dJ6_equals_2 rfl (lv_at hl 1 rfl) ?_
  refine va_tlen (v := nI k) hx hb hE.2.2.2.2.2 hS rfl dJ6_equals_3 ?_
  refine lv_icmp_ne (tgt := 34) hx hb dJ6_equals_4 (by decide) (fun c1 => ?_) (fun c1 => ?_)
  · refine lv_iconst (v := 0) hx hb dJ6_equals_34 (by decide) ?_
    have e : eqC n f k g = 0 := eqC_len (fun h9 => c1 (by rw [h9]))
    rw [e]
    exact W.zret (v := 0) hx hb hr rfl (fun t ht hW => ⟨⟨0, (), rfl, rfl, by rw [ht]; exact hP, hD⟩, hS.F ht⟩) hS.2.2 dJ6_equals_35
  · have hnk : n = k := by
      rcases Nat.lt_trichotomy n k with h | h | h
      · exact absurd c1 (fun h9 => by have := (nI_eq hn hk).mp h9; omega)
      · exact h
      · exact absurd c1 (fun h9 => by have := (nI_eq hn hk).mp h9; omega)
    subst hnk
    refine lv_iconst (v := 0) hx hb dJ6_equals_7 (by decide) ?_
    refine lv_istore_n (lv' := [(2, .int 0), (0, .ref v), (1, .ref w)]) hx hb dJ6_equals_8 rfl hl (by decide) rfl (fun ls hl => ?_)
    have loop : ∀ (r i : Nat) (ls : Array Slot), i + r = n → (∀ j, j < i → f j = g j) → lv_has ls 3 [(2, .int (nI i)), (0, .ref v), (1, .ref w)] → W p l e (headSpec (ws_ yJ6_equals cJ6_equals 3 (some .boolean)) ({ frames := 1, cells := 0, slots := 0, locals := 40 })).room s m ([.ref v, .ref w] : List Value).toArray below meth c s.heap [] 0 0 (MQ below (qi_ D (eqC n f n g) (fun (_ : Unit) => []) A) ([.ref v, .ref w] : List Value).toArray s 0 0 A) (F0 m 9 ls []) := by
      intro r
      induction r with
      | zero =>
        intro i ls hi hj hl
        refine lv_iload_n hx hb dJ6_equals_9 rfl (lv_at hl 0 rfl) ?_
        refine lv_aload_n hx hb dJ6_equals_10 rfl (lv_at hl 1 rfl) ?_
        refine va_tlen (v := nI n) hx hb hE.2.1.2.2.2 hS rfl dJ6_equals_11 ?_
        refine lv_icmp_ge (tgt := 32) hx hb dJ6_equals_12 (by decide) (fun _ => ?_) (fun h9 => absurd (nI_le (by omega) (by omega)) h9)
        refine lv_iconst (v := 1) hx hb dJ6_equals_32 (by decide) ?_
        have e : eqC n f n g = 1 := eqC_yes (fun j hjn => hj j (by omega))
        rw [e]
        exact W.zret (v := 1) hx hb hr rfl (fun t ht hW => ⟨⟨1, (), rfl, rfl, by rw [ht]; exact hP, hD⟩, hS.F ht⟩) hS.2.2 dJ6_equals_33
      | succ r ih =>
        intro i ls hi hj hl
        refine lv_iload_n hx hb dJ6_equals_9 rfl (lv_at hl 0 rfl) ?_
        refine lv_aload_n hx hb dJ6_equals_10 rfl (lv_at hl 1 rfl) ?_
        refine va_tlen (v := nI n) hx hb hE.2.1.2.2.2 hS rfl dJ6_equals_11 ?_
        refine lv_icmp_ge (tgt := 32) hx hb dJ6_equals_12 (by decide) (fun h9 => absurd h9 (nI_ge (by omega) hn)) (fun _ => ?_)
        refine lv_aload_n hx hb dJ6_equals_15 rfl (lv_at hl 1 rfl) ?_
        refine lv_iload_n hx hb dJ6_equals_16 rfl (lv_at hl 0 rfl) ?_
        refine va_tb hx hb hE.2.1.2.2.2 hS (vp_in_nI (by omega) hn) (v := .int (f i)) (by rw [nI_clamp (by omega)]) dJ6_equals_17 ?_
        refine lv_aload_n hx hb dJ6_equals_18 rfl (lv_at hl 2 rfl) ?_
        refine lv_iload_n hx hb dJ6_equals_19 rfl (lv_at hl 0 rfl) ?_
        refine va_tb hx hb hE.2.2.2.2.2 hS (vp_in_nI (by omega) hn) (v := .int (g i)) (by rw [nI_clamp (by omega)]) dJ6_equals_20 ?_
        refine lv_icmp_eq (tgt := 26) hx hb dJ6_equals_21 (by decide) (fun c2 => ?_) (fun c2 => ?_)
        · refine lv_iinc (v := nI (i + 1)) (lv' := [(2, .int (nI (i + 1))), (0, .ref v), (1, .ref w)]) hx hb dJ6_equals_26 hl (k := 0) rfl (nI_succ i).symm (by decide) rfl (fun ls hl => ?_)
          refine lv_goto (tgt := 9) hx hb dJ6_equals_29 (by decide) ?_
          exact ih (i + 1) ls (by omega) (fun j hj1 => by
            rcases Nat.lt_or_ge j i with h | h
            · exact hj j h
            · have : j = i := by omega
              rw [this]; exact c2) hl
        · refine lv_iconst (v := 0) hx hb dJ6_equals_24 (by decide) ?_
          have e : eqC n f n g = 0 := eqC_no (j := i) (by omega) c2
          rw [e]
          exact W.zret (v := 0) hx hb hr rfl (fun t ht hW => ⟨⟨0, (), rfl, rfl, by rw [ht]; exact hP, hD⟩, hS.F ht⟩) hS.2.2 dJ6_equals_25
    exact loop n 0 ls (by omega) (fun j h9 => absurd h9 (Nat.not_lt_zero _)) hl
set_option maxHeartbeats 4000000 in
theorem ctJ3_equals (l : Launch) (D : va_G) (dA : Nat → ClassId) (sz : Nat) (a v n : Nat) (f : AI) (b w k : Nat) (g : AI) (hn : n < 2 ^ 31) (hk : k < 2 ^ 31) (hab : a = b → eqC n f k g = 1) : Met l yJ3_equals (ws_ yJ3_equals cJ3_equals 3 (some .boolean)) ({ frames := 2, cells := 0, slots := 0, locals := 80 }) (preX D dA (ev2 OK_ (ev2 (sv_ a v n f) (sv_ b w k g))) [.ref a, .ref b] [] sz) (qi_ D (eqC n f k g) (fun (_ : Unit) => []) (va_A [] sz)) 0 0 (va_A [] sz) := by
  refine Met.ofW (cc := cJ3_equals) (maxL := 3) (ret := (some .boolean)) (by decide) rfl ?_
  intro p e s m args below meth c s₁ B hml hv
  obtain ⟨rfl, hsz, hP, hK, hD0, hE⟩ := hv
  have hx := B.exec
  have hb := B.bytes
  have hr := B.returns
  have hts := atoms_spec (ws := (ws_ yJ3_equals cJ3_equals 3 (some .boolean))) B.pre
  have hts : ∀ w ∈ lw_all, w.before _ s = true := fun w h => hts w (List.mem_cons_of_mem _ h)
  have hown : s.vm.findClass RJ3 = some m.cls := findClass_of_methodNamed B.named
  have hlocks := B.notSynchronized
  subst hsz
  have hD := hD0.self (sz := s.heap.size)
  generalize hAe : va_A [] s.heap.size = A at hD hE ⊢
  have hA : ∀ q : Nat, s.heap.size ≤ q → A q := fun q h => by rw [← hAe]; exact Or.inr h
  have hS : va_S A s.heap s.heap [] := va_S.rf
  have hP : va_P D clG [] s.heap := hP
  have hl := lv_entry ([.ref a, .ref b]) (n := 3) (Nat.le_of_ble_eq_true rfl)
  rw [lg_entry_eq]
  generalize (lg_sl ([.ref a, .ref b]) ++ List.replicate (3 - (lg_sl ([.ref a, .ref b])).length) Slot.unset).toArray = ls at hl ⊢
  have hl : lv_has ls 3 [(0, .ref a), (1, .ref b)] := hl
  refine lv_aload_n hx hb dJ3_equals_0 rfl (lv_at hl 0 rfl) ?_
  refine lv_aload_n hx hb dJ3_equals_1 rfl (lv_at hl 1 rfl) ?_
  refine lv_acmp_ne (rx := some a) (ry := some b) (tgt := 7) hx hb dJ3_equals_2 (by decide) (fun c1 => ?_) (fun c1 => ?_)
  · refine lv_aload_n hx hb dJ3_equals_7 rfl (lv_at hl 1 rfl) ?_
    have hO : ∃ cell : Cell, s.heap[b]? = some cell ∧ cell.vm.isStatics = false ∧ s.vm.findClass "java/lang/String" = some cell.cls := by
      obtain ⟨cell, h1, h2, h3, -⟩ := hE.2.2.1
      exact ⟨cell, h1, h2, h3⟩
    refine va_instE hx hb hown (hts _ q685) hO dJ3_equals_8 ?_
    refine lv_if_eq (tgt := 54) hx hb dJ3_equals_11 (by decide) (fun h9 => absurd h9 (by decide)) (fun _ => ?_)
    refine lv_aload_n hx hb dJ3_equals_14 rfl (lv_at hl 1 rfl) ?_
    refine va_castE hx hb hown (hts _ q685) hO dJ3_equals_15 ?_
    refine lv_astore_n (lv' := [(2, .ref b), (0, .ref a), (1, .ref b)]) hx hb dJ3_equals_18 rfl hl (by decide) rfl (fun ls hl => ?_)
    refine va_gets hx hb hE.1.1 hS hown (hts _ q554) (fun _ h9 => h9) dJ3_equals_19 ?_
    refine lv_if_eq (tgt := 36) hx hb dJ3_equals_22 (by decide) (fun h9 => absurd h9 (by decide)) (fun _ => ?_)
    refine lv_aload_n hx hb dJ3_equals_25 rfl (lv_at hl 1 rfl) ?_
    refine vk_getf hx hb hE.2.1.2.1 hS hown (hts _ q599) (fun _ h9 => h9) dJ3_equals_26 ?_
    refine lv_aload_n hx hb dJ3_equals_29 rfl (lv_at hl 0 rfl) ?_
    refine vk_getf hx hb hE.2.2.2.1 hS hown (hts _ q599) (fun _ h9 => h9) dJ3_equals_30 ?_
    refine lv_icmp_ne (tgt := 54) hx hb dJ3_equals_33 (by decide) (fun h9 => absurd h9 (by decide)) (fun _ => ?_)
    refine lv_aload_n hx hb dJ3_equals_36 rfl (lv_at hl 1 rfl) ?_
    refine vk_getf hx hb hE.2.1.2.2.1 hS hown (hts _ q598) (fun _ h9 => h9) dJ3_equals_37 ?_
    refine lv_aload_n hx hb dJ3_equals_40 rfl (lv_at hl 0 rfl) ?_
    refine vk_getf hx hb hE.2.2.2.2.1 hS hown (hts _ q598) (fun _ h9 => h9) dJ3_equals_41 ?_
    refine k_i0 [] (va_runS (As := [.ref v, .ref w]) (rest := []) ⟨hx, hb, hml, hown, hts⟩ (ctJ6_equals l D dA _ a v n f b w k g hn hk) (va_cwS 2 hts (lw_S q686 q687 q127 q688) rfl rfl rfl (by decide +kernel) ⟨Nat.le_of_ble_eq_true rfl, Nat.le_of_ble_eq_true rfl⟩) (preX_S (ev2_ok OK_ok (ev2_ok sv_ok sv_ok)) p_nil hK (A := A) d_nil (ev_at (ev2_ok OK_ok (ev2_ok sv_ok sv_ok)) hE hS (ev_nil hA hS))) rfl rfl hl.1 rfl (lv_room (Nat.le_of_ble_eq_true rfl)) dJ3_equals_44 ⟨Nat.le_of_ble_eq_true rfl, Nat.le_of_ble_eq_true rfl⟩) hP hD hS hA rfl (fun _ => rfl) (fun u1 H locs hP hD hS => ?_)
    have hP : va_P D clG [] H := hP
    have hD : va_D A [] := hD
    rcases eqC_01 n f k g with e | e
    · rw [e]
      refine lv_if_eq (tgt := 54) hx hb dJ3_equals_47 (by decide) (fun _ => ?_) (fun h9 => absurd rfl h9)
      refine lv_iconst (v := 0) hx hb dJ3_equals_54 (by decide) ?_
      exact W.zret (v := 0) hx hb hr rfl (fun t ht hW => ⟨⟨0, (), rfl, rfl, by rw [ht]; exact hP, hD⟩, hS.F ht⟩) hS.2.2 dJ3_equals_55
    · rw [e]
      refine lv_if_eq (tgt := 54) hx hb dJ3_equals_47 (by decide) (fun h9 => absurd h9 (by decide)) (fun _ => ?_)
      refine lv_iconst (v := 1) hx hb dJ3_equals_50 (by decide) ?_
      refine lv_goto (tgt := 55) hx hb dJ3_equals_51 (by decide) ?_
      exact W.zret (v := 1) hx hb hr rfl (fun t ht hW => ⟨⟨1, (), rfl, rfl, by rw [ht]; exact hP, hD⟩, hS.F ht⟩) hS.2.2 dJ3_equals_55
  · refine lv_iconst (v := 1) hx hb dJ3_equals_5 (by decide) ?_
    have e := hab (Option.some.inj c1)
    rw [e]
    exact W.zret (v := 1) hx hb hr rfl (fun t ht hW => ⟨⟨1, (), rfl, rfl, by rw [ht]; exact hP, hD⟩, hS.F ht⟩) hS.2.2 dJ3_equals_6
set_option maxHeartbeats 4000000 in
theorem ctJ7_signedHashCode (l : Launch) (D : va_G) (dA : Nat → ClassId) (sz : Nat) (a v n : Nat) (f : AI) (b w k : Nat) (g : AI) (hn : n < 2 ^ 31) : Met l yJ7_signedHashCode (ws_ yJ7_signedHashCode cJ7_signedHashCode 6 (some .int)) ({ frames := 1, cells := 0, slots := 0, locals := 40 }) (preX D dA (ev2 (ev2 OK_ (ev2 (sv_ a v n f) (sv_ b w k g))) (oO_ "[B" v)) [.int 0, .ref v, .int 0, .int (nI n)] [] sz) (qi_ D (hashG n f) (fun (_ : Unit) => []) (va_A [] sz)) 0 0 (va_A [] sz) := by
  refine Met.ofW (cc := cJ7_signedHashCode) (maxL := 6) (ret := (some .int)) (by decide) rfl ?_
  intro p e s m args below meth c s₁ B hml hv
  obtain ⟨rfl, hsz, hP, hK, hD0, hE⟩ := hv
  have hx := B.exec
  have hb := B.bytes
  have hr := B.returns
  have hts := atoms_spec (ws := (ws_ yJ7_signedHashCode cJ7_signedHashCode 6 (some .int))) B.pre
  have hts : ∀ w ∈ lw_all, w.before _ s = true := fun w h => hts w (List.mem_cons_of_mem _ h)
  have hown : s.vm.findClass RJ7 = some m.cls := findClass_of_methodNamed B.named
  have hlocks := B.notSynchronized
  subst hsz
  have hD := hD0.self (sz := s.heap.size)
  generalize hAe : va_A [] s.heap.size = A at hD hE ⊢
  have hA : ∀ q : Nat, s.heap.size ≤ q → A q := fun q h => by rw [← hAe]; exact Or.inr h
  have hS : va_S A s.heap s.heap [] := va_S.rf
  have hP : va_P D clG [] s.heap := hP
  have hl := lv_entry ([.int 0, .ref v, .int 0, .int (nI n)]) (n := 6) (Nat.le_of_ble_eq_true rfl)
  rw [lg_entry_eq]
  generalize (lg_sl ([.int 0, .ref v, .int 0, .int (nI n)]) ++ List.replicate (6 - (lg_sl ([.int 0, .ref v, .int 0, .int (nI n)])).length) Slot.unset).toArray = ls at hl ⊢
  have hl : lv_has ls 6 [(0, .int 0), (1, .ref v), (2, .int 0), (3, .int (nI n))] := hl
  refine lv_iload_n hx hb dJ7_signedHashCode_0 rfl (lv_at hl 2 rfl) ?_
  refine lv_iload_n hx hb dJ7_signedHashCode_1 rfl (lv_at hl 3 rfl) ?_
  refine lv_iadd hx hb dJ7_signedHashCode_2 ?_
  refine lv_toi (v := nI n) (Int32.zero_add _) ?_
  refine lv_istore (lv' := [(4, .int (nI n)), (0, .int 0), (1, .ref v), (2, .int 0), (3, .int (nI n))]) hx hb dJ7_signedHashCode_3 hl (by decide) rfl (fun ls hl => ?_)
  refine lv_iload_n hx hb dJ7_signedHashCode_5 rfl (lv_at hl 3 rfl) ?_
  refine lv_istore (lv' := [(5, .int 0), (4, .int (nI n)), (0, .int 0), (1, .ref v), (2, .int 0), (3, .int (nI n))]) hx hb dJ7_signedHashCode_6 hl (by decide) rfl (fun ls hl => ?_)
  have hl := lv_sub (l' := [(5, .int (nI 0)), (4, .int (nI n)), (0, .int (hashG 0 f)), (1, .ref v)]) hl [0, 1, 2, 3] rfl
  have loop : ∀ (r i : Nat) (ls : Array Slot), i + r = n → lv_has ls 6 [(5, .int (nI i)), (4, .int (nI n)), (0, .int (hashG i f)), (1, .ref v)] → W p l e (headSpec (ws_ yJ7_signedHashCode cJ7_signedHashCode 6 (some .int)) ({ frames := 1, cells := 0, slots := 0, locals := 40 })).room s m ([.int 0, .ref v, .int 0, .int (nI n)] : List Value).toArray below meth c s.heap [] 0 0 (MQ below (qi_ D (hashG n f) (fun (_ : Unit) => []) A) ([.int 0, .ref v, .int 0, .int (nI n)] : List Value).toArray s 0 0 A) (F0 m 8 ls []) := by
    intro r
    induction r with
    | zero =>
      intro i ls hi hl
      have e : i = n := by omega
      subst e
      refine lv_iload hx hb dJ7_signedHashCode_8 (lv_at hl 0 rfl) ?_
      refine lv_iload hx hb dJ7_signedHashCode_10 (lv_at hl 1 rfl) ?_
      refine lv_icmp_ge (tgt := 35) hx hb dJ7_signedHashCode_12 (by decide) (fun _ => ?_) (fun h9 => absurd (nI_le (Nat.le_refl _) hn) h9)
      refine lv_iload_n hx hb dJ7_signedHashCode_35 rfl (lv_at hl 2 rfl) ?_
      exact W.iret (v := hashG i f) hx hb hr (fun t ht hW => ⟨⟨hashG i f, (), rfl, rfl, by rw [ht]; exact hP, hD⟩, hS.F ht⟩) hS.2.2 dJ7_signedHashCode_36
    | succ r ih =>
      intro i ls hi hl
      refine lv_iload hx hb dJ7_signedHashCode_8 (lv_at hl 0 rfl) ?_
      refine lv_iload hx hb dJ7_signedHashCode_10 (lv_at hl 1 rfl) ?_
      refine lv_icmp_ge (tgt := 35) hx hb dJ7_signedHashCode_12 (by decide) (fun h9 => absurd h9 (nI_ge (by omega) hn)) (fun _ => ?_)
      refine lv_bipush (v := 31) hx hb dJ7_signedHashCode_15 (by decide) ?_
      refine lv_iload_n hx hb dJ7_signedHashCode_17 rfl (lv_at hl 2 rfl) ?_
      refine lv_imul hx hb dJ7_signedHashCode_18 ?_
      refine lv_aload_n hx hb dJ7_signedHashCode_19 rfl (lv_at hl 3 rfl) ?_
      refine lv_iload hx hb dJ7_signedHashCode_20 (lv_at hl 0 rfl) ?_
      refine va_tb hx hb hE.1.2.1.2.2.2 hS (vp_in_nI (by omega) hn) (v := .int (f i)) (by rw [nI_clamp (by omega)]) dJ7_signedHashCode_22 ?_
      refine lv_sipush (v := 255) hx hb dJ7_signedHashCode_23 (by decide) ?_
      refine lv_iand hx hb dJ7_signedHashCode_26 ?_
      refine lv_iadd hx hb dJ7_signedHashCode_27 ?_
      refine lv_toi (v := hashG (i + 1) f) rfl ?_
      refine lv_istore_n (lv' := [(0, .int (hashG (i + 1) f)), (5, .int (nI i)), (4, .int (nI n)), (1, .ref v)]) hx hb dJ7_signedHashCode_28 rfl hl (by decide) rfl (fun ls hl => ?_)
      refine lv_iinc (v := nI (i + 1)) (lv' := [(5, .int (nI (i + 1))), (0, .int (hashG (i + 1) f)), (4, .int (nI n)), (1, .ref v)]) hx hb dJ7_signedHashCode_29 hl (k := 1) rfl (nI_succ i).symm (by decide) rfl (fun ls hl => ?_)
      have hl := lv_sub (l' := [(5, .int (nI (i + 1))), (4, .int (nI n)), (0, .int (hashG (i + 1) f)), (1, .ref v)]) hl [0, 2, 1, 3] rfl
      refine lv_goto (tgt := 8) hx hb dJ7_signedHashCode_32 (by decide) ?_
      exact ih (i + 1) ls (by omega) hl
  exact loop n 0 ls (by omega) hl
set_option maxHeartbeats 4000000 in
theorem ctJ7_vectorizedHashCode (l : Launch) (D : va_G) (dA : Nat → ClassId) (sz : Nat) (a v n : Nat) (f : AI) (b w k : Nat) (g : AI) (hn : n < 2 ^ 31) : Met l yJ7_vectorizedHashCode (ws_ yJ7_vectorizedHashCode cJ7_vectorizedHashCode 5 (some .int)) ({ frames := 2, cells := 0, slots := 0, locals := 100 }) (preX D dA (ev2 (ev2 OK_ (ev2 (sv_ a v n f) (sv_ b w k g))) (oO_ "[B" v)) [.ref v, .int 0, .int (nI n), .int 0, .int 4] [] sz) (qi_ D (hashG n f) (fun (_ : Unit) => []) (va_A [] sz)) 0 0 (va_A [] sz) := by
  refine Met.ofW (cc := cJ7_vectorizedHashCode) (maxL := 5) (ret := (some .int)) (by decide) rfl ?_
  intro p e s m args below meth c s₁ B hml hv
  obtain ⟨rfl, hsz, hP, hK, hD0, hE⟩ := hv
  have hx := B.exec
  have hb := B.bytes
  have hr := B.returns
  have hts := atoms_spec (ws := (ws_ yJ7_vectorizedHashCode cJ7_vectorizedHashCode 5 (some .int))) B.pre
  have hts : ∀ w ∈ lw_all, w.before _ s = true := fun w h => hts w (List.mem_cons_of_mem _ h)
  have hown : s.vm.findClass RJ7 = some m.cls := findClass_of_methodNamed B.named
  have hlocks := B.notSynchronized
  subst hsz
  have hD := hD0.self (sz := s.heap.size)
  generalize hAe : va_A [] s.heap.size = A at hD hE ⊢
  have hA : ∀ q : Nat, s.heap.size ≤ q → A q := fun q h => by rw [← hAe]; exact Or.inr h
  have hS : va_S A s.heap s.heap [] := va_S.rf
  have hP : va_P D clG [] s.heap := hP
  have hl := lv_entry ([.ref v, .int 0, .int (nI n), .int 0, .int 4]) (n := 5) (Nat.le_of_ble_eq_true rfl)
  rw [lg_entry_eq]
  generalize (lg_sl ([.ref v, .int 0, .int (nI n), .int 0, .int 4]) ++ List.replicate (5 - (lg_sl ([.ref v, .int 0, .int (nI n), .int 0, .int 4])).length) Slot.unset).toArray = ls at hl ⊢
  have hl : lv_has ls 5 [(0, .ref v), (1, .int 0), (2, .int (nI n)), (3, .int 0), (4, .int 4)] := hl
  refine lv_iload hx hb dJ7_vectorizedHashCode_0 (lv_at hl 4 rfl) ?_
  refine lv_tableIn (off := 42) (tgt := 44) hx hb dJ7_vectorizedHashCode_2 (by decide) (by decide) rfl (by decide) ?_
  refine lv_iload_n hx hb dJ7_vectorizedHashCode_44 rfl (lv_at hl 3 rfl) ?_
  refine lv_aload_n hx hb dJ7_vectorizedHashCode_45 rfl (lv_at hl 0 rfl) ?_
  have hO : ∃ cell : Cell, s.heap[v]? = some cell ∧ cell.vm.isStatics = false ∧ s.vm.findClass "[B" = some cell.cls := by
    obtain ⟨cell, h1, h2, h3, -⟩ := hE.2
    exact ⟨cell, h1, h2, h3⟩
  refine va_castE hx hb hown (hts _ q641) hO dJ7_vectorizedHashCode_46 ?_
  refine lv_iload_n hx hb dJ7_vectorizedHashCode_49 rfl (lv_at hl 1 rfl) ?_
  refine lv_iload_n hx hb dJ7_vectorizedHashCode_50 rfl (lv_at hl 2 rfl) ?_
  refine k_i0 [] (va_runS (As := [.int 0, .ref v, .int 0, .int (nI n)]) (rest := []) ⟨hx, hb, hml, hown, hts⟩ (ctJ7_signedHashCode l D dA _ a v n f b w k g hn) (va_cwS 4 hts (lw_S q642 q643 q128 q644) rfl rfl rfl (by decide +kernel) ⟨Nat.le_of_ble_eq_true rfl, Nat.le_of_ble_eq_true rfl⟩) (preX_S (ev2_ok (ev2_ok OK_ok (ev2_ok sv_ok sv_ok)) oO_ok) p_nil hK (A := A) d_nil (ev_at (ev2_ok (ev2_ok OK_ok (ev2_ok sv_ok sv_ok)) oO_ok) hE hS (ev_nil hA hS))) rfl rfl hl.1 rfl (lv_room (Nat.le_of_ble_eq_true rfl)) dJ7_vectorizedHashCode_51 ⟨Nat.le_of_ble_eq_true rfl, Nat.le_of_ble_eq_true rfl⟩) hP hD hS hA rfl (fun _ => rfl) (fun u1 H locs hP hD hS => ?_)
  have hP : va_P D clG [] H := hP
  have hD : va_D A [] := hD
  refine lv_goto (tgt := 157) hx hb dJ7_vectorizedHashCode_54 (by decide) ?_
  exact W.iret (v := hashG n f) hx hb hr (fun t ht hW => ⟨⟨hashG n f, (), rfl, rfl, by rw [ht]; exact hP, hD⟩, hS.F ht⟩) hS.2.2 dJ7_vectorizedHashCode_157
set_option maxHeartbeats 4000000 in
theorem ctJ6_hashCode (l : Launch) (D : va_G) (dA : Nat → ClassId) (sz : Nat) (a v n : Nat) (f : AI) (b w k : Nat) (g : AI) (hn : n < 2 ^ 31) : Met l yJ6_hashCode (ws_ yJ6_hashCode cJ6_hashCode 1 (some .int)) ({ frames := 3, cells := 0, slots := 0, locals := 160 }) (preX D dA (ev2 (ev2 OK_ (ev2 (sv_ a v n f) (sv_ b w k g))) (oO_ "[B" v)) [.ref v] [] sz) (qi_ D (hashG n f) (fun (_ : Unit) => []) (va_A [] sz)) 0 0 (va_A [] sz) := by
  refine Met.ofW (cc := cJ6_hashCode) (maxL := 1) (ret := (some .int)) (by decide) rfl ?_
  intro p e s m args below meth c s₁ B hml hv
  obtain ⟨rfl, hsz, hP, hK, hD0, hE⟩ := hv
  have hx := B.exec
  have hb := B.bytes
  have hr := B.returns
  have hts := atoms_spec (ws := (ws_ yJ6_hashCode cJ6_hashCode 1 (some .int))) B.pre
  have hts : ∀ w ∈ lw_all, w.before _ s = true := fun w h => hts w (List.mem_cons_of_mem _ h)
  have hown : s.vm.findClass RJ6 = some m.cls := findClass_of_methodNamed B.named
  have hlocks := B.notSynchronized
  subst hsz
  have hD := hD0.self (sz := s.heap.size)
  generalize hAe : va_A [] s.heap.size = A at hD hE ⊢
  have hA : ∀ q : Nat, s.heap.size ≤ q → A q := fun q h => by rw [← hAe]; exact Or.inr h
  have hS : va_S A s.heap s.heap [] := va_S.rf
  have hP : va_P D clG [] s.heap := hP
  have hl := lv_entry ([.ref v]) (n := 1) (Nat.le_of_ble_eq_true rfl)
  rw [lg_entry_eq]
  generalize (lg_sl ([.ref v]) ++ List.replicate (1 - (lg_sl ([.ref v])).length) Slot.unset).toArray = ls at hl ⊢
  have hl : lv_has ls 1 [(0, .ref v)] := hl
  refine lv_aload_n hx hb dJ6_hashCode_0 rfl (lv_at hl 0 rfl) ?_
  refine va_tlen (v := nI n) hx hb hE.1.2.1.2.2.2 hS rfl dJ6_hashCode_1 ?_
  by_cases n0 : n = 0
  · subst n0
    refine lv_lookup (off := 26) (tgt := 28) hx hb dJ6_hashCode_2 (by decide) (by rw [nI_toInt hn]; rfl) (by decide) ?_
    refine lv_iconst (v := 0) hx hb dJ6_hashCode_28 (by decide) ?_
    refine lv_goto (tgt := 51) hx hb dJ6_hashCode_29 (by decide) ?_
    exact W.iret (v := hashG 0 f) hx hb hr (fun t ht hW => ⟨⟨hashG 0 f, (), rfl, rfl, by rw [ht]; exact hP, hD⟩, hS.F ht⟩) hS.2.2 dJ6_hashCode_51
  by_cases n1 : n = 1
  · subst n1
    refine lv_lookup (off := 30) (tgt := 32) hx hb dJ6_hashCode_2 (by decide) (by rw [nI_toInt hn]; rfl) (by decide) ?_
    refine lv_aload_n hx hb dJ6_hashCode_32 rfl (lv_at hl 0 rfl) ?_
    refine lv_iconst (v := 0) hx hb dJ6_hashCode_33 (by decide) ?_
    refine va_tb hx hb hE.1.2.1.2.2.2 hS (vin (by decide)) (v := .int (f 0)) rfl dJ6_hashCode_34 ?_
    refine lv_sipush (v := 255) hx hb dJ6_hashCode_35 (by decide) ?_
    refine lv_iand hx hb dJ6_hashCode_38 ?_
    refine lv_goto (tgt := 51) hx hb dJ6_hashCode_39 (by decide) ?_
    refine lv_toi (v := hashG 1 f) (by show f 0 &&& 255 = 31 * 0 + (f 0 &&& 255); rw [show (31 : Int32) * 0 = 0 by decide, Int32.zero_add]) ?_
    exact W.iret (v := hashG 1 f) hx hb hr (fun t ht hW => ⟨⟨hashG 1 f, (), rfl, rfl, by rw [ht]; exact hP, hD⟩, hS.F ht⟩) hS.2.2 dJ6_hashCode_51
  refine lv_lookup (off := 40) (tgt := 42) hx hb dJ6_hashCode_2 (by decide) (by rw [lv_osw (k := 0) (fun h9 => n0 ((nI_eq hn (by decide)).mp h9)) (by decide), lv_osw (k := 1) (fun h9 => n1 ((nI_eq hn (by decide)).mp h9)) (by decide)]; rfl) (by decide) ?_
  refine lv_aload_n hx hb dJ6_hashCode_42 rfl (lv_at hl 0 rfl) ?_
  refine lv_iconst (v := 0) hx hb dJ6_hashCode_43 (by decide) ?_
  refine lv_aload_n hx hb dJ6_hashCode_44 rfl (lv_at hl 0 rfl) ?_
  refine va_tlen (v := nI n) hx hb hE.1.2.1.2.2.2 hS rfl dJ6_hashCode_45 ?_
  refine lv_iconst (v := 0) hx hb dJ6_hashCode_46 (by decide) ?_
  refine lv_iconst (v := 4) hx hb dJ6_hashCode_47 (by decide) ?_
  refine k_i0 [] (va_runS (As := [.ref v, .int 0, .int (nI n), .int 0, .int 4]) (rest := []) ⟨hx, hb, hml, hown, hts⟩ (ctJ7_vectorizedHashCode l D dA _ a v n f b w k g hn) (va_cwS 5 hts (lw_S q638 q639 q128 q640) rfl rfl rfl (by decide +kernel) ⟨Nat.le_of_ble_eq_true rfl, Nat.le_of_ble_eq_true rfl⟩) (preX_S (ev2_ok (ev2_ok OK_ok (ev2_ok sv_ok sv_ok)) oO_ok) p_nil hK (A := A) d_nil (ev_at (ev2_ok (ev2_ok OK_ok (ev2_ok sv_ok sv_ok)) oO_ok) hE hS (ev_nil hA hS))) rfl rfl hl.1 rfl (lv_room (Nat.le_of_ble_eq_true rfl)) dJ6_hashCode_48 ⟨Nat.le_of_ble_eq_true rfl, Nat.le_of_ble_eq_true rfl⟩) hP hD hS hA rfl (fun _ => rfl) (fun u1 H locs hP hD hS => ?_)
  have hP : va_P D clG [] H := hP
  have hD : va_D A [] := hD
  exact W.iret (v := hashG n f) hx hb hr (fun t ht hW => ⟨⟨hashG n f, (), rfl, rfl, by rw [ht]; exact hP, hD⟩, hS.F ht⟩) hS.2.2 dJ6_hashCode_51
set_option maxHeartbeats 4000000 in
theorem ctJ3_hashCode (l : Launch) (D : va_G) (dA : Nat → ClassId) (sz : Nat) (a v n : Nat) (f : AI) (d : Bool) (hn : n < 2 ^ 31) : Met l yJ3_hashCode (ws_ yJ3_hashCode cJ3_hashCode 2 (some .int)) ({ frames := 4, cells := 0, slots := 0, locals := 220 }) (preX D dA OK_ [.ref a] [scell a v n f d, bcell dA v n f] sz) (qi_ D (hashG n f) (fun (_ : Unit) => [scell a v n f true, bcell dA v n f]) (va_A [scell a v n f d, bcell dA v n f] sz)) 0 0 (va_A [scell a v n f d, bcell dA v n f] sz) := by
  refine Met.ofW (cc := cJ3_hashCode) (maxL := 2) (ret := (some .int)) (by decide) rfl ?_
  intro p e s m args below meth c s₁ B hml hv
  obtain ⟨rfl, hsz, hP, hK, hD0, hE⟩ := hv
  have hx := B.exec
  have hb := B.bytes
  have hr := B.returns
  have hts := atoms_spec (ws := (ws_ yJ3_hashCode cJ3_hashCode 2 (some .int))) B.pre
  have hts : ∀ w ∈ lw_all, w.before _ s = true := fun w h => hts w (List.mem_cons_of_mem _ h)
  have hown : s.vm.findClass RJ3 = some m.cls := findClass_of_methodNamed B.named
  have hlocks := B.notSynchronized
  subst hsz
  have hD := hD0.self (sz := s.heap.size)
  generalize hAe : va_A [scell a v n f d, bcell dA v n f] s.heap.size = A at hD hE ⊢
  have hA : ∀ q : Nat, s.heap.size ≤ q → A q := fun q h => by rw [← hAe]; exact Or.inr h
  have hS : va_S A s.heap s.heap [] := va_S.rf
  have hP : va_P D clG [scell a v n f d, bcell dA v n f] s.heap := hP
  have hl := lv_entry ([.ref a]) (n := 2) (Nat.le_of_ble_eq_true rfl)
  rw [lg_entry_eq]
  generalize (lg_sl ([.ref a]) ++ List.replicate (2 - (lg_sl ([.ref a])).length) Slot.unset).toArray = ls at hl ⊢
  have hl : lv_has ls 2 [(0, .ref a)] := hl
  refine lv_aload_n hx hb dJ3_hashCode_0 rfl (lv_at hl 0 rfl) ?_
  refine va_get (D := D) (ci := 13) (v := .int (hD_ d n f)) (C := RJ3) (T := TJ3) (N := 4) hx hb hts in_J3 hown hK.1 hP 0 rfl rfl 2 (by decide) (hts _ q600) (fun _ h9 => h9) rfl dJ3_hashCode_1 ?_
  refine lv_istore_n (lv' := [(1, .int (hD_ d n f)), (0, .ref a)]) hx hb dJ3_hashCode_4 rfl hl (by decide) rfl (fun ls hl => ?_)
  refine lv_iload_n hx hb dJ3_hashCode_5 rfl (lv_at hl 0 rfl) ?_
  refine lv_if_ne (tgt := 58) hx hb dJ3_hashCode_6 (by decide) (fun c1 => ?_) (fun c1 => ?_)
  · have e1 : hD_ d n f = hashG n f := hz_case.1.resolve_left c1
    have hd : d = true := by
      cases d with
      | true => rfl
      | false => exact absurd rfl c1
    subst hd
    rw [e1] at hl
    refine lv_iload_n hx hb dJ3_hashCode_58 rfl (lv_at hl 0 rfl) ?_
    exact W.iret (v := hashG n f) hx hb hr (fun t ht hW => ⟨⟨hashG n f, (), rfl, rfl, by rw [ht]; exact hP, hD⟩, hS.F ht⟩) hS.2.2 dJ3_hashCode_59
  refine lv_aload_n hx hb dJ3_hashCode_9 rfl (lv_at hl 1 rfl) ?_
  refine va_get (D := D) (ci := 13) (v := .int (zD_ d n f)) (C := RJ3) (T := TJ3) (N := 4) hx hb hts in_J3 hown hK.1 hP 0 rfl rfl 3 (by decide) (hts _ q601) (fun _ h9 => h9) rfl dJ3_hashCode_10 ?_
  refine lv_if_ne (tgt := 58) hx hb dJ3_hashCode_13 (by decide) (fun c2 => ?_) (fun c2 => ?_)
  · have e1 : hashG n f = 0 := hz_case.2.resolve_left c2
    have hd : d = true := by
      cases d with
      | true => rfl
      | false => exact absurd rfl c2
    subst hd
    rw [c1, ← e1] at hl
    refine lv_iload_n hx hb dJ3_hashCode_58 rfl (lv_at hl 0 rfl) ?_
    exact W.iret (v := hashG n f) hx hb hr (fun t ht hW => ⟨⟨hashG n f, (), rfl, rfl, by rw [ht]; exact hP, hD⟩, hS.F ht⟩) hS.2.2 dJ3_hashCode_59
  refine lv_aload_n hx hb dJ3_hashCode_16 rfl (lv_at hl 1 rfl) ?_
  have hn0 : va_P D clG [scell a v n f d, bcell dA v n f] s.heap := hP
  refine k_i0 [] (va_runV (As := []) (rest := []) ⟨hx, hb, hml, hown, hts⟩ (ctJ3_isLatin1 l D dA _ a v n f a v n f) (cwV 0 hts (lw_V q631 q632 q633 q124 q634) rfl rfl rfl (by decide +kernel) ⟨Nat.le_of_ble_eq_true rfl, Nat.le_of_ble_eq_true rfl⟩) (preX_O (ev2_ok OK_ok (ev2_ok sv_ok sv_ok)) p_nil hK (A := A) d_nil ⟨(ev_at OK_ok hE hS (ev_nil hA hS)), (sv_world hts hK hP (k1 := 0) (k2 := 1) rfl rfl rfl rfl (lt_nil (hP 0 _ rfl).lt) (lt_nil (hP 1 _ rfl).lt)), (sv_world hts hK hP (k1 := 0) (k2 := 1) rfl rfl rfl rfl (lt_nil (hP 0 _ rfl).lt) (lt_nil (hP 1 _ rfl).lt))⟩ (va_O_at hts hK hP)) rfl rfl hl.1 rfl (lv_room (Nat.le_of_ble_eq_true rfl)) dJ3_hashCode_17 ⟨Nat.le_of_ble_eq_true rfl, Nat.le_of_ble_eq_true rfl⟩) hP hD hS hA rfl (fun _ => rfl) (fun u1 H locs hP hD hS => ?_)
  have hP : va_P D clG [scell a v n f d, bcell dA v n f] H := hP
  have hD : va_D A [scell a v n f d, bcell dA v n f] := hD
  refine lv_if_eq (tgt := 33) hx hb dJ3_hashCode_20 (by decide) (fun h9 => absurd h9 (by decide)) (fun _ => ?_)
  refine lv_aload_n hx hb dJ3_hashCode_23 rfl (lv_at hl 1 rfl) ?_
  refine va_get (D := D) (ci := 13) (v := .ref v) (C := RJ3) (T := TJ3) (N := 4) hx hb hts in_J3 hown hK.1 hP 0 rfl rfl 0 (by decide) (hts _ q598) (fun _ h9 => h9) rfl dJ3_hashCode_24 ?_
  refine k_i0 [] (va_runS (As := [.ref v]) (rest := []) ⟨hx, hb, hml, hown, hts⟩ (ctJ6_hashCode l D dA _ a v n f a v n f hn) (va_cwS 1 hts (lw_S q635 q636 q127 q637) rfl rfl rfl (by decide +kernel) ⟨Nat.le_of_ble_eq_true rfl, Nat.le_of_ble_eq_true rfl⟩) (preX_S (ev2_ok (ev2_ok OK_ok (ev2_ok sv_ok sv_ok)) oO_ok) p_nil hK (A := A) d_nil ⟨⟨(ev_at OK_ok hE hS (ev_nil hA hS)), (sv_world hts hK hP (k1 := 0) (k2 := 1) rfl rfl rfl rfl (lt_nil (hP 0 _ rfl).lt) (lt_nil (hP 1 _ rfl).lt)), (sv_world hts hK hP (k1 := 0) (k2 := 1) rfl rfl rfl rfl (lt_nil (hP 0 _ rfl).lt) (lt_nil (hP 1 _ rfl).lt))⟩, oB hK hP (k2 := 1) rfl (lt_nil (hP 1 _ rfl).lt)⟩) rfl rfl hl.1 rfl (lv_room (Nat.le_of_ble_eq_true rfl)) dJ3_hashCode_27 ⟨Nat.le_of_ble_eq_true rfl, Nat.le_of_ble_eq_true rfl⟩) hP hD hS hA rfl (fun _ => rfl) (fun u2 H locs hP hD hS => ?_)
  have hP : va_P D clG [scell a v n f d, bcell dA v n f] H := hP
  have hD : va_D A [scell a v n f d, bcell dA v n f] := hD
  refine lv_goto (tgt := 40) hx hb dJ3_hashCode_30 (by decide) ?_
  refine lv_istore_n (lv' := [(1, .int (hashG n f)), (0, .ref a)]) hx hb dJ3_hashCode_40 rfl hl (by decide) rfl (fun ls hl => ?_)
  refine lv_iload_n hx hb dJ3_hashCode_41 rfl (lv_at hl 0 rfl) ?_
  refine lv_if_ne (tgt := 53) hx hb dJ3_hashCode_42 (by decide) (fun c3 => ?_) (fun c3 => ?_)
  · refine lv_aload_n hx hb dJ3_hashCode_53 rfl (lv_at hl 1 rfl) ?_
    refine lv_iload_n hx hb dJ3_hashCode_54 rfl (lv_at hl 0 rfl) ?_
    refine va_put (D := D) (ci := 13) (v := .int (hashG n f)) (ty := .int) (C := RJ3) (T := TJ3) (N := 4) hx hb hts in_J3 tyJ3 tyJ3_ok nmJ3 hown hK.1 hP hD hS 0 rfl rfl 2 (by decide) (hts _ q600) (fun _ h9 => h9) rfl (by decide +kernel) rfl rfl (Nat.le_of_ble_eq_true rfl) dJ3_hashCode_55 (fun H locs hP hD hS => ?_)
    have ec : (a, (.inr (13, [.ref v, .int 0, .int (hashG n f), .int (zD_ d n f)]) : va_E)) = scell a v n f true := by
      unfold scell
      rw [c2, show zD_ true n f = 0 from (by unfold zD_; rw [if_pos rfl, if_neg c3]), show hD_ true n f = hashG n f from if_pos rfl]
    have hP : va_P D clG [(a, .inr (13, [.ref v, .int 0, .int (hashG n f), .int (zD_ d n f)])), bcell dA v n f] H := hP
    have hD : va_D A [(a, .inr (13, [.ref v, .int 0, .int (hashG n f), .int (zD_ d n f)])), bcell dA v n f] := hD
    rw [ec] at hP hD
    refine lv_iload_n hx hb dJ3_hashCode_58 rfl (lv_at hl 0 rfl) ?_
    exact W.iret (v := hashG n f) hx hb hr (fun t ht hW => ⟨⟨hashG n f, (), rfl, rfl, by rw [ht]; exact hP, hD⟩, hS.F ht⟩) hS.2.2 dJ3_hashCode_59
  · refine lv_aload_n hx hb dJ3_hashCode_45 rfl (lv_at hl 1 rfl) ?_
    refine lv_iconst (v := 1) hx hb dJ3_hashCode_46 (by decide) ?_
    refine va_put (D := D) (ci := 13) (v := .int 1) (ty := .boolean) (C := RJ3) (T := TJ3) (N := 4) hx hb hts in_J3 tyJ3 tyJ3_ok nmJ3 hown hK.1 hP hD hS 0 rfl rfl 3 (by decide) (hts _ q601) (fun _ h9 => h9) rfl (by decide +kernel) rfl rfl (Nat.le_of_ble_eq_true rfl) dJ3_hashCode_47 (fun H locs hP hD hS => ?_)
    have ec : (a, (.inr (13, [.ref v, .int 0, .int (hD_ d n f), .int 1]) : va_E)) = scell a v n f true := by
      unfold scell
      rw [c1, show zD_ true n f = 1 from (by unfold zD_; rw [if_pos rfl, if_pos c3]), show hD_ true n f = 0 from (if_pos rfl).trans c3]
    have hP : va_P D clG [(a, .inr (13, [.ref v, .int 0, .int (hD_ d n f), .int 1])), bcell dA v n f] H := hP
    have hD : va_D A [(a, .inr (13, [.ref v, .int 0, .int (hD_ d n f), .int 1])), bcell dA v n f] := hD
    rw [ec] at hP hD
    refine lv_goto (tgt := 58) hx hb dJ3_hashCode_50 (by decide) ?_
    refine lv_iload_n hx hb dJ3_hashCode_58 rfl (lv_at hl 0 rfl) ?_
    exact W.iret (v := hashG n f) hx hb hr (fun t ht hW => ⟨⟨hashG n f, (), rfl, rfl, by rw [ht]; exact hP, hD⟩, hS.F ht⟩) hS.2.2 dJ3_hashCode_59
set_option maxHeartbeats 4000000 in
theorem ctJ5_compress_2 (l : Launch) (D : va_G) (dA : Nat → ClassId) (sz : Nat) (le b n : Nat) (ch : AI) (hn : n ≤ 8) (hch : ∀ j, j < n → ch j ≤ 255) : Met l yJ5_compress_2 (ws_ yJ5_compress_2 cJ5_compress_2 7 (some .int)) ({ frames := 1, cells := 0, slots := 0, locals := 40 }) (preX D dA T_ [.ref le, .int 0, .ref b, .int 0, .int (nI n)] [(le, .inl (dA 3, 8, .inl ch)), (b, .inl (dA 2, n, .inl (cmpF ch 0)))] sz) (qi_ D (nI n) (fun (_ : Unit) => [(le, .inl (dA 3, 8, .inl ch)), (b, .inl (dA 2, n, .inl (cmpF ch n)))]) (va_A [(le, .inl (dA 3, 8, .inl ch)), (b, .inl (dA 2, n, .inl (cmpF ch 0)))] sz)) 0 0 (va_A [(le, .inl (dA 3, 8, .inl ch)), (b, .inl (dA 2, n, .inl (cmpF ch 0)))] sz) := by
  refine Met.ofW (cc := cJ5_compress_2) (maxL := 7) (ret := (some .int)) (by decide) rfl ?_
  intro p e s m args below meth c s₁ B hml hv
  obtain ⟨rfl, hsz, hP, hK, hD0, hE⟩ := hv
  have hx := B.exec
  have hb := B.bytes
  have hr := B.returns
  have hts := atoms_spec (ws := (ws_ yJ5_compress_2 cJ5_compress_2 7 (some .int))) B.pre
  have hts : ∀ w ∈ lw_all, w.before _ s = true := fun w h => hts w (List.mem_cons_of_mem _ h)
  have hown : s.vm.findClass RJ5 = some m.cls := findClass_of_methodNamed B.named
  have hlocks := B.notSynchronized
  subst hsz
  have hD := hD0.self (sz := s.heap.size)
  generalize hAe : va_A [(le, .inl (dA 3, 8, .inl ch)), (b, .inl (dA 2, n, .inl (cmpF ch 0)))] s.heap.size = A at hD hE ⊢
  have hA : ∀ q : Nat, s.heap.size ≤ q → A q := fun q h => by rw [← hAe]; exact Or.inr h
  have hS : va_S A s.heap s.heap [] := va_S.rf
  have hP : va_P D clG [(le, .inl (dA 3, 8, .inl ch)), (b, .inl (dA 2, n, .inl (cmpF ch 0)))] s.heap := hP
  have hl := lv_entry ([.ref le, .int 0, .ref b, .int 0, .int (nI n)]) (n := 7) (Nat.le_of_ble_eq_true rfl)
  rw [lg_entry_eq]
  generalize (lg_sl ([.ref le, .int 0, .ref b, .int 0, .int (nI n)]) ++ List.replicate (7 - (lg_sl ([.ref le, .int 0, .ref b, .int 0, .int (nI n)])).length) Slot.unset).toArray = ls at hl ⊢
  have hl : lv_has ls 7 [(0, .ref le), (1, .int 0), (2, .ref b), (3, .int 0), (4, .int (nI n))] := hl
  refine lv_iconst (v := 0) hx hb dJ5_compress_2_0 (by decide) ?_
  refine lv_istore (lv' := [(5, .int 0), (0, .ref le), (1, .int 0), (2, .ref b), (3, .int 0), (4, .int (nI n))]) hx hb dJ5_compress_2_1 hl (by decide) rfl (fun ls hl => ?_)
  have hl := lv_sub (l' := [(5, .int (nI 0)), (3, .int (nI 0)), (1, .int (nI 0)), (0, .ref le), (2, .ref b), (4, .int (nI n))]) hl [0, 4, 2, 1, 3, 5] rfl
  have loop : ∀ (r i : Nat) (ls : Array Slot) (H : Heap) (locs : List Loc), i + r = n → va_P D clG [(le, .inl (dA 3, 8, .inl ch)), (b, .inl (dA 2, n, .inl (cmpF ch i)))] H → va_D A [(le, .inl (dA 3, 8, .inl ch)), (b, .inl (dA 2, n, .inl (cmpF ch i)))] → va_S A s.heap H locs → lv_has ls 7 [(5, .int (nI i)), (3, .int (nI i)), (1, .int (nI i)), (0, .ref le), (2, .ref b), (4, .int (nI n))] → W p l e (headSpec (ws_ yJ5_compress_2 cJ5_compress_2 7 (some .int)) ({ frames := 1, cells := 0, slots := 0, locals := 40 })).room s m ([.ref le, .int 0, .ref b, .int 0, .int (nI n)] : List Value).toArray below meth c H locs 0 0 (MQ below (qi_ D (nI n) (fun (_ : Unit) => [(le, .inl (dA 3, 8, .inl ch)), (b, .inl (dA 2, n, .inl (cmpF ch n)))]) A) ([.ref le, .int 0, .ref b, .int 0, .int (nI n)] : List Value).toArray s 0 0 A) (F0 m 3 ls []) := by
    intro r
    induction r with
    | zero =>
      intro i ls H locs hi hP hD hS hl
      have e : i = n := by omega
      subst e
      refine lv_iload hx hb dJ5_compress_2_3 (lv_at hl 0 rfl) ?_
      refine lv_iload hx hb dJ5_compress_2_5 (lv_at hl 5 rfl) ?_
      refine lv_icmp_ge (tgt := 44) hx hb dJ5_compress_2_7 (by decide) (fun _ => ?_) (fun h9 => absurd (nI_le (Nat.le_refl _) (by omega)) h9)
      refine lv_iload hx hb dJ5_compress_2_44 (lv_at hl 5 rfl) ?_
      exact W.iret (v := nI i) hx hb hr (fun t ht hW => ⟨⟨nI i, (), rfl, rfl, by rw [ht]; exact hP, hD⟩, hS.F ht⟩) hS.2.2 dJ5_compress_2_46
    | succ r ih =>
      intro i ls H locs hi hP hD hS hl
      refine lv_iload hx hb dJ5_compress_2_3 (lv_at hl 0 rfl) ?_
      refine lv_iload hx hb dJ5_compress_2_5 (lv_at hl 5 rfl) ?_
      refine lv_icmp_ge (tgt := 44) hx hb dJ5_compress_2_7 (by decide) (fun h9 => absurd h9 (nI_ge (by omega) (by omega))) (fun _ => ?_)
      refine lv_aload_n hx hb dJ5_compress_2_10 rfl (lv_at hl 3 rfl) ?_
      refine lv_iload_n hx hb dJ5_compress_2_11 rfl (lv_at hl 2 rfl) ?_
      refine va_cald hx hb hK.1 hP 0 3 rfl rfl (vp_in_nI (by omega) (by omega)) dJ5_compress_2_12 ?_
      refine lv_toi (v := ch i) (by rw [nI_clamp (by omega)]) ?_
      refine lv_istore (lv' := [(6, .int (ch i)), (5, .int (nI i)), (3, .int (nI i)), (1, .int (nI i)), (0, .ref le), (2, .ref b), (4, .int (nI n))]) hx hb dJ5_compress_2_13 hl (by decide) rfl (fun ls hl => ?_)
      refine lv_iload hx hb dJ5_compress_2_15 (lv_at hl 0 rfl) ?_
      refine lv_sipush (v := 255) hx hb dJ5_compress_2_17 (by decide) ?_
      refine lv_icmp_le (tgt := 26) hx hb dJ5_compress_2_20 (by decide) (fun _ => ?_) (fun h9 => absurd (hch i (by omega)) h9)
      refine lv_aload_n hx hb dJ5_compress_2_26 rfl (lv_at hl 5 rfl) ?_
      refine lv_iload_n hx hb dJ5_compress_2_27 rfl (lv_at hl 2 rfl) ?_
      refine lv_iload hx hb dJ5_compress_2_28 (lv_at hl 0 rfl) ?_
      refine lv_i2b (v := Int8.toInt32 (Int32.toInt8 (ch i))) hx hb dJ5_compress_2_30 rfl ?_
      refine va_bast hx hb hK.1 hP hD hS 1 2 rfl rfl (vp_in_nI (by omega) (by omega)) dJ5_compress_2_31 (fun H locs hP hD hS => ?_)
      rw [nI_clamp (show i < 2 ^ 31 by omega)] at hP hD
      have hP : va_P D clG [(le, .inl (dA 3, 8, .inl ch)), (b, .inl (dA 2, n, .inl (cmpF ch (i + 1))))] H := hP
      have hD : va_D A [(le, .inl (dA 3, 8, .inl ch)), (b, .inl (dA 2, n, .inl (cmpF ch (i + 1))))] := hD
      refine lv_iinc (v := nI (i + 1)) (lv' := [(1, .int (nI (i + 1))), (6, .int (ch i)), (5, .int (nI i)), (3, .int (nI i)), (0, .ref le), (2, .ref b), (4, .int (nI n))]) hx hb dJ5_compress_2_32 hl (k := 3) rfl (nI_succ i).symm (by decide) rfl (fun ls hl => ?_)
      refine lv_iinc (v := nI (i + 1)) (lv' := [(3, .int (nI (i + 1))), (1, .int (nI (i + 1))), (6, .int (ch i)), (5, .int (nI i)), (0, .ref le), (2, .ref b), (4, .int (nI n))]) hx hb dJ5_compress_2_35 hl (k := 3) rfl (nI_succ i).symm (by decide) rfl (fun ls hl => ?_)
      refine lv_iinc (v := nI (i + 1)) (lv' := [(5, .int (nI (i + 1))), (3, .int (nI (i + 1))), (1, .int (nI (i + 1))), (6, .int (ch i)), (0, .ref le), (2, .ref b), (4, .int (nI n))]) hx hb dJ5_compress_2_38 hl (k := 3) rfl (nI_succ i).symm (by decide) rfl (fun ls hl => ?_)
      have hl := lv_sub (l' := [(5, .int (nI (i + 1))), (3, .int (nI (i + 1))), (1, .int (nI (i + 1))), (0, .ref le), (2, .ref b), (4, .int (nI n))]) hl [0, 1, 2, 4, 5, 6] rfl
      refine lv_goto (tgt := 3) hx hb dJ5_compress_2_41 (by decide) ?_
      exact ih (i + 1) ls H locs (by omega) hP hD hS hl
  exact loop n 0 ls s.heap [] (by omega) hP hD hS hl
set_option maxHeartbeats 4000000 in
theorem ctJ5_compress (l : Launch) (D : va_G) (dA : Nat → ClassId) (sz : Nat) (le n : Nat) (ch : AI) (hn : n ≤ 8) (hch : ∀ j, j < n → ch j ≤ 255) : Met l yJ5_compress (ws_ yJ5_compress cJ5_compress 6 (some (.array .byte))) ({ frames := 2, cells := 1, slots := 8, locals := 120 }) (preX D dA T_ [.ref le, .int 0, .int (nI n)] [(le, .inl (dA 3, 8, .inl ch))] sz) (qr_ D (fun (u : Nat) => u) (fun (u : Nat) => [(le, .inl (dA 3, 8, .inl ch))] ++ [(u, .inl (dA 2, n, .inl (cmpF ch n)))]) (va_A [(le, .inl (dA 3, 8, .inl ch))] sz)) 1 8 (va_A [(le, .inl (dA 3, 8, .inl ch))] sz) := by
  refine Met.ofW (cc := cJ5_compress) (maxL := 6) (ret := (some (.array .byte))) (by decide) rfl ?_
  intro p e s m args below meth c s₁ B hml hv
  obtain ⟨rfl, hsz, hP, hK, hD0, hE⟩ := hv
  have hx := B.exec
  have hb := B.bytes
  have hr := B.returns
  have hts := atoms_spec (ws := (ws_ yJ5_compress cJ5_compress 6 (some (.array .byte)))) B.pre
  have hts : ∀ w ∈ lw_all, w.before _ s = true := fun w h => hts w (List.mem_cons_of_mem _ h)
  have hown : s.vm.findClass RJ5 = some m.cls := findClass_of_methodNamed B.named
  have hlocks := B.notSynchronized
  subst hsz
  have hD := hD0.self (sz := s.heap.size)
  generalize hAe : va_A [(le, .inl (dA 3, 8, .inl ch))] s.heap.size = A at hD hE ⊢
  have hA : ∀ q : Nat, s.heap.size ≤ q → A q := fun q h => by rw [← hAe]; exact Or.inr h
  have hS : va_S A s.heap s.heap [] := va_S.rf
  have hP : va_P D clG [(le, .inl (dA 3, 8, .inl ch))] s.heap := hP
  have hl := lv_entry ([.ref le, .int 0, .int (nI n)]) (n := 6) (Nat.le_of_ble_eq_true rfl)
  rw [lg_entry_eq]
  generalize (lg_sl ([.ref le, .int 0, .int (nI n)]) ++ List.replicate (6 - (lg_sl ([.ref le, .int 0, .int (nI n)])).length) Slot.unset).toArray = ls at hl ⊢
  have hl : lv_has ls 6 [(0, .ref le), (1, .int 0), (2, .int (nI n))] := hl
  refine lv_iload_n hx hb dJ5_compress_0 rfl (lv_at hl 2 rfl) ?_
  refine va_newa (atype := .byte) (ty := .byte) (a0 := (n, .inl (fun _ => 0))) (N' := n) hx hb (hts _ q225) rfl hK.1 hP hD hS hA (fun _ => rfl) (nI_pos (by omega)) (nI_clamp (by omega)) (by show n * 1 ≤ _; omega) (Nat.le_of_ble_eq_true rfl) (by show 0 + n ≤ 8; omega) dJ5_compress_1 (fun q1 cA H hK9 hP hD hS => ?_)
  obtain rfl := k_cls 2 hK9 rfl
  have hP : va_P D clG [(le, .inl (dA 3, 8, .inl ch)), (q1, .inl (dA 2, n, .inl (cmpF ch 0)))] H := hP
  have hD : va_D A [(le, .inl (dA 3, 8, .inl ch)), (q1, .inl (dA 2, n, .inl (cmpF ch 0)))] := hD
  refine W.widen (k := 1) (n := 8) (Nat.le_of_ble_eq_true rfl) (by omega) ?_
  refine lv_astore_n (lv' := [(3, .ref q1), (0, .ref le), (1, .int 0), (2, .int (nI n))]) hx hb dJ5_compress_3 rfl hl (by decide) rfl (fun ls hl => ?_)
  refine lv_aload_n hx hb dJ5_compress_4 rfl (lv_at hl 1 rfl) ?_
  refine lv_iload_n hx hb dJ5_compress_5 rfl (lv_at hl 2 rfl) ?_
  refine lv_aload_n hx hb dJ5_compress_6 rfl (lv_at hl 0 rfl) ?_
  refine lv_iconst (v := 0) hx hb dJ5_compress_7 (by decide) ?_
  refine lv_iload_n hx hb dJ5_compress_8 rfl (lv_at hl 3 rfl) ?_
  refine k_i0 [0, 1] (va_runS (As := [.ref le, .int 0, .ref q1, .int 0, .int (nI n)]) (rest := []) ⟨hx, hb, hml, hown, hts⟩ (ctJ5_compress_2 l D dA _ le q1 n ch hn hch) (va_cwS 5 hts (lw_S q559 q560 q126 q561) rfl rfl rfl (by decide +kernel) ⟨Nat.le_of_ble_eq_true rfl, Nat.le_of_ble_eq_true rfl⟩) (preX_S T_ok (hP.sub [0, 1] rfl) hK (hD.sub [0, 1] (by decide) rfl) trivial) rfl rfl hl.1 rfl (lv_room (Nat.le_of_ble_eq_true rfl)) dJ5_compress_9 ⟨Nat.le_of_ble_eq_true rfl, Nat.le_of_ble_eq_true rfl⟩) hP hD hS hA rfl (fun _ => rfl) (fun u1 H locs hP hD hS => ?_)
  have hP : va_P D clG [(le, .inl (dA 3, 8, .inl ch)), (q1, .inl (dA 2, n, .inl (cmpF ch n)))] H := hP
  have hD : va_D A [(le, .inl (dA 3, 8, .inl ch)), (q1, .inl (dA 2, n, .inl (cmpF ch n)))] := hD
  refine lv_istore (lv' := [(4, .int (nI n)), (3, .ref q1), (0, .ref le), (1, .int 0), (2, .int (nI n))]) hx hb dJ5_compress_12 hl (by decide) rfl (fun ls hl => ?_)
  refine lv_iload hx hb dJ5_compress_14 (lv_at hl 0 rfl) ?_
  refine lv_iload_n hx hb dJ5_compress_16 rfl (lv_at hl 4 rfl) ?_
  refine lv_icmp_eq (tgt := 57) hx hb dJ5_compress_17 (by decide) (fun _ => ?_) (fun h9 => absurd rfl h9)
  refine lv_aload_n hx hb dJ5_compress_57 rfl (lv_at hl 1 rfl) ?_
  exact W.aret (v := .ref q1) hx hb hr (Or.inr ⟨_, rfl⟩) (Or.inr ⟨_, rfl⟩) (fun t ht hW => ⟨⟨q1, q1, rfl, trivial, rfl, by rw [ht]; exact hP, hD⟩, hS.F ht⟩) hS.2.2 dJ5_compress_58
set_option maxHeartbeats 4000000 in
theorem ctJ5_coderFromArrayLen (l : Launch) (D : va_G) (dA : Nat → ClassId) (sz : Nat) (b n : Nat) (f : AI) : Met l yJ5_coderFromArrayLen (ws_ yJ5_coderFromArrayLen cJ5_coderFromArrayLen 2 (some .byte)) ({ frames := 1, cells := 0, slots := 0, locals := 20 }) (preX D dA T_ [.ref b, .int (nI n)] [(b, .inl (dA 2, n, .inl f))] sz) (qi_ D 0 (fun (_ : Unit) => [(b, .inl (dA 2, n, .inl f))]) (va_A [(b, .inl (dA 2, n, .inl f))] sz)) 0 0 (va_A [(b, .inl (dA 2, n, .inl f))] sz) := by
  refine Met.ofW (cc := cJ5_coderFromArrayLen) (maxL := 2) (ret := (some .byte)) (by decide) rfl ?_
  intro p e s m args below meth c s₁ B hml hv
  obtain ⟨rfl, hsz, hP, hK, hD0, hE⟩ := hv
  have hx := B.exec
  have hb := B.bytes
  have hr := B.returns
  have hts := atoms_spec (ws := (ws_ yJ5_coderFromArrayLen cJ5_coderFromArrayLen 2 (some .byte))) B.pre
  have hts : ∀ w ∈ lw_all, w.before _ s = true := fun w h => hts w (List.mem_cons_of_mem _ h)
  have hown : s.vm.findClass RJ5 = some m.cls := findClass_of_methodNamed B.named
  have hlocks := B.notSynchronized
  subst hsz
  have hD := hD0.self (sz := s.heap.size)
  generalize hAe : va_A [(b, .inl (dA 2, n, .inl f))] s.heap.size = A at hD hE ⊢
  have hA : ∀ q : Nat, s.heap.size ≤ q → A q := fun q h => by rw [← hAe]; exact Or.inr h
  have hS : va_S A s.heap s.heap [] := va_S.rf
  have hP : va_P D clG [(b, .inl (dA 2, n, .inl f))] s.heap := hP
  have hl := lv_entry ([.ref b, .int (nI n)]) (n := 2) (Nat.le_of_ble_eq_true rfl)
  rw [lg_entry_eq]
  generalize (lg_sl ([.ref b, .int (nI n)]) ++ List.replicate (2 - (lg_sl ([.ref b, .int (nI n)])).length) Slot.unset).toArray = ls at hl ⊢
  have hl : lv_has ls 2 [(0, .ref b), (1, .int (nI n))] := hl
  refine lv_iload_n hx hb dJ5_coderFromArrayLen_0 rfl (lv_at hl 1 rfl) ?_
  refine lv_aload_n hx hb dJ5_coderFromArrayLen_1 rfl (lv_at hl 0 rfl) ?_
  refine va_alen (v := nI n) hx hb hK.1 hP 0 2 rfl rfl rfl dJ5_coderFromArrayLen_2 ?_
  refine lv_isub hx hb dJ5_coderFromArrayLen_3 ?_
  refine lv_toi (v := 0) (Int32.sub_self _) ?_
  refine lv_bipush (v := 31) hx hb dJ5_coderFromArrayLen_4 (by decide) ?_
  refine lv_iushr (v := 0) hx hb dJ5_coderFromArrayLen_6 (by decide) ?_
  refine lv_i2b (v := 0) hx hb dJ5_coderFromArrayLen_7 (by decide) ?_
  exact W.zret (v := 0) hx hb hr rfl (fun t ht hW => ⟨⟨0, (), rfl, rfl, by rw [ht]; exact hP, hD⟩, hS.F ht⟩) hS.2.2 dJ5_coderFromArrayLen_8
set_option maxHeartbeats 4000000 in
theorem ctJ4_checkFromIndexSizeN (l : Launch) (D : va_G) (dA : Nat → ClassId) (sz : Nat) (n : Nat) (hn : n ≤ 8)  : Met l yJ4_checkFromIndexSize (ws_ yJ4_checkFromIndexSize cJ4_checkFromIndexSize 4 (some .int)) ({ frames := 1, cells := 0, slots := 0, locals := 20 }) (preX D dA T_ [.int 0, .int (nI n), .int 8, .null] [] sz) (qi_ D 0 (fun (_ : Unit) => []) (va_A [] sz)) 0 0 (va_A [] sz) := by
  refine Met.ofW (cc := cJ4_checkFromIndexSize) (maxL := 4) (ret := (some .int)) (by decide) rfl ?_
  intro p e s m args below meth c s₁ B hml hv
  obtain ⟨rfl, hsz, hP, hK, hD0, hE⟩ := hv
  have hx := B.exec
  have hb := B.bytes
  have hr := B.returns
  have hts := atoms_spec (ws := (ws_ yJ4_checkFromIndexSize cJ4_checkFromIndexSize 4 (some .int))) B.pre
  have hts : ∀ w ∈ lw_all, w.before _ s = true := fun w h => hts w (List.mem_cons_of_mem _ h)
  have hown : s.vm.findClass RJ4 = some m.cls := findClass_of_methodNamed B.named
  have hlocks := B.notSynchronized
  subst hsz
  have hD := hD0.self (sz := s.heap.size)
  generalize hAe : va_A [] s.heap.size = A at hD hE ⊢
  have hA : ∀ q : Nat, s.heap.size ≤ q → A q := fun q h => by rw [← hAe]; exact Or.inr h
  have hS : va_S A s.heap s.heap [] := va_S.rf
  have hP : va_P D clG [] s.heap := hP
  have hl := lv_entry ([.int 0, .int (nI n), .int 8, .null]) (n := 4) (Nat.le_of_ble_eq_true rfl)
  rw [lg_entry_eq]
  generalize (lg_sl ([.int 0, .int (nI n), .int 8, .null]) ++ List.replicate (4 - (lg_sl ([.int 0, .int (nI n), .int 8, .null])).length) Slot.unset).toArray = ls at hl ⊢
  have hl : lv_has ls 4 [(0, .int 0), (1, .int (nI n)), (2, .int 8), (3, .null)] := hl
  refine lv_iload_n hx hb dJ4_checkFromIndexSize_0 rfl (lv_at hl 2 rfl) ?_
  refine lv_iload_n hx hb dJ4_checkFromIndexSize_1 rfl (lv_at hl 0 rfl) ?_
  refine lv_ior hx hb dJ4_checkFromIndexSize_2 ?_
  refine lv_iload_n hx hb dJ4_checkFromIndexSize_3 rfl (lv_at hl 1 rfl) ?_
  refine lv_ior hx hb dJ4_checkFromIndexSize_4 ?_
  refine lv_if_lt (tgt := 15) hx hb dJ4_checkFromIndexSize_5 (by decide) (fun h9 => absurd h9 ((by decide : ∀ n, n < 9 → ¬ ((8 : Int32) ||| 0 ||| nI n) < 0) n (by omega))) (fun _ => ?_)
  refine lv_iload_n hx hb dJ4_checkFromIndexSize_8 rfl (lv_at hl 1 rfl) ?_
  refine lv_iload_n hx hb dJ4_checkFromIndexSize_9 rfl (lv_at hl 2 rfl) ?_
  refine lv_iload_n hx hb dJ4_checkFromIndexSize_10 rfl (lv_at hl 0 rfl) ?_
  refine lv_isub hx hb dJ4_checkFromIndexSize_11 ?_
  refine lv_icmp_le (tgt := 23) hx hb dJ4_checkFromIndexSize_12 (by decide) (fun _ => ?_) (fun h9 => absurd ((by decide : ∀ n, n < 9 → nI n ≤ (8 : Int32) - 0) n (by omega)) h9)
  refine lv_iload_n hx hb dJ4_checkFromIndexSize_23 rfl (lv_at hl 0 rfl) ?_
  exact W.iret (v := 0) hx hb hr (fun t ht hW => ⟨⟨0, (), rfl, rfl, by rw [ht]; exact hP, hD⟩, hS.F ht⟩) hS.2.2 dJ4_checkFromIndexSize_24
set_option maxHeartbeats 4000000 in
theorem ctJ4_checkFromIndexSizeR (l : Launch) (D : va_G) (dA : Nat → ClassId) (sz : Nat) (n : Nat) (hn : n ≤ 8)  (t : Nat) : Met l yJ4_checkFromIndexSize (ws_ yJ4_checkFromIndexSize cJ4_checkFromIndexSize 4 (some .int)) ({ frames := 1, cells := 0, slots := 0, locals := 20 }) (preX D dA T_ [.int 0, .int (nI n), .int 8, .ref t] [] sz) (qi_ D 0 (fun (_ : Unit) => []) (va_A [] sz)) 0 0 (va_A [] sz) := by
  refine Met.ofW (cc := cJ4_checkFromIndexSize) (maxL := 4) (ret := (some .int)) (by decide) rfl ?_
  intro p e s m args below meth c s₁ B hml hv
  obtain ⟨rfl, hsz, hP, hK, hD0, hE⟩ := hv
  have hx := B.exec
  have hb := B.bytes
  have hr := B.returns
  have hts := atoms_spec (ws := (ws_ yJ4_checkFromIndexSize cJ4_checkFromIndexSize 4 (some .int))) B.pre
  have hts : ∀ w ∈ lw_all, w.before _ s = true := fun w h => hts w (List.mem_cons_of_mem _ h)
  have hown : s.vm.findClass RJ4 = some m.cls := findClass_of_methodNamed B.named
  have hlocks := B.notSynchronized
  subst hsz
  have hD := hD0.self (sz := s.heap.size)
  generalize hAe : va_A [] s.heap.size = A at hD hE ⊢
  have hA : ∀ q : Nat, s.heap.size ≤ q → A q := fun q h => by rw [← hAe]; exact Or.inr h
  have hS : va_S A s.heap s.heap [] := va_S.rf
  have hP : va_P D clG [] s.heap := hP
  have hl := lv_entry ([.int 0, .int (nI n), .int 8, .ref t]) (n := 4) (Nat.le_of_ble_eq_true rfl)
  rw [lg_entry_eq]
  generalize (lg_sl ([.int 0, .int (nI n), .int 8, .ref t]) ++ List.replicate (4 - (lg_sl ([.int 0, .int (nI n), .int 8, .ref t])).length) Slot.unset).toArray = ls at hl ⊢
  have hl : lv_has ls 4 [(0, .int 0), (1, .int (nI n)), (2, .int 8), (3, .ref t)] := hl
  refine lv_iload_n hx hb dJ4_checkFromIndexSize_0 rfl (lv_at hl 2 rfl) ?_
  refine lv_iload_n hx hb dJ4_checkFromIndexSize_1 rfl (lv_at hl 0 rfl) ?_
  refine lv_ior hx hb dJ4_checkFromIndexSize_2 ?_
  refine lv_iload_n hx hb dJ4_checkFromIndexSize_3 rfl (lv_at hl 1 rfl) ?_
  refine lv_ior hx hb dJ4_checkFromIndexSize_4 ?_
  refine lv_if_lt (tgt := 15) hx hb dJ4_checkFromIndexSize_5 (by decide) (fun h9 => absurd h9 ((by decide : ∀ n, n < 9 → ¬ ((8 : Int32) ||| 0 ||| nI n) < 0) n (by omega))) (fun _ => ?_)
  refine lv_iload_n hx hb dJ4_checkFromIndexSize_8 rfl (lv_at hl 1 rfl) ?_
  refine lv_iload_n hx hb dJ4_checkFromIndexSize_9 rfl (lv_at hl 2 rfl) ?_
  refine lv_iload_n hx hb dJ4_checkFromIndexSize_10 rfl (lv_at hl 0 rfl) ?_
  refine lv_isub hx hb dJ4_checkFromIndexSize_11 ?_
  refine lv_icmp_le (tgt := 23) hx hb dJ4_checkFromIndexSize_12 (by decide) (fun _ => ?_) (fun h9 => absurd ((by decide : ∀ n, n < 9 → nI n ≤ (8 : Int32) - 0) n (by omega)) h9)
  refine lv_iload_n hx hb dJ4_checkFromIndexSize_23 rfl (lv_at hl 0 rfl) ?_
  exact W.iret (v := 0) hx hb hr (fun t ht hW => ⟨⟨0, (), rfl, rfl, by rw [ht]; exact hP, hD⟩, hS.F ht⟩) hS.2.2 dJ4_checkFromIndexSize_24
set_option maxHeartbeats 4000000 in
theorem ctJ3_checkBoundsOffCount (l : Launch) (D : va_G) (dA : Nat → ClassId) (sz : Nat) (n : Nat) (hn : n ≤ 8) : Met l yJ3_checkBoundsOffCount (ws_ yJ3_checkBoundsOffCount cJ3_checkBoundsOffCount 3 (some .int)) ({ frames := 2, cells := 0, slots := 0, locals := 60 }) (preX D dA OK_ [.int 0, .int (nI n), .int 8] [] sz) (qi_ D 0 (fun (_ : Unit) => []) (va_A [] sz)) 0 0 (va_A [] sz) := by
  refine Met.ofW (cc := cJ3_checkBoundsOffCount) (maxL := 3) (ret := (some .int)) (by decide) rfl ?_
  intro p e s m args below meth c s₁ B hml hv
  obtain ⟨rfl, hsz, hP, hK, hD0, hE⟩ := hv
  have hx := B.exec
  have hb := B.bytes
  have hr := B.returns
  have hts := atoms_spec (ws := (ws_ yJ3_checkBoundsOffCount cJ3_checkBoundsOffCount 3 (some .int))) B.pre
  have hts : ∀ w ∈ lw_all, w.before _ s = true := fun w h => hts w (List.mem_cons_of_mem _ h)
  have hown : s.vm.findClass RJ3 = some m.cls := findClass_of_methodNamed B.named
  have hlocks := B.notSynchronized
  subst hsz
  have hD := hD0.self (sz := s.heap.size)
  generalize hAe : va_A [] s.heap.size = A at hD hE ⊢
  have hA : ∀ q : Nat, s.heap.size ≤ q → A q := fun q h => by rw [← hAe]; exact Or.inr h
  have hS : va_S A s.heap s.heap [] := va_S.rf
  have hP : va_P D clG [] s.heap := hP
  have hl := lv_entry ([.int 0, .int (nI n), .int 8]) (n := 3) (Nat.le_of_ble_eq_true rfl)
  rw [lg_entry_eq]
  generalize (lg_sl ([.int 0, .int (nI n), .int 8]) ++ List.replicate (3 - (lg_sl ([.int 0, .int (nI n), .int 8])).length) Slot.unset).toArray = ls at hl ⊢
  have hl : lv_has ls 3 [(0, .int 0), (1, .int (nI n)), (2, .int 8)] := hl
  refine lv_iload_n hx hb dJ3_checkBoundsOffCount_0 rfl (lv_at hl 0 rfl) ?_
  refine lv_iload_n hx hb dJ3_checkBoundsOffCount_1 rfl (lv_at hl 1 rfl) ?_
  refine lv_iload_n hx hb dJ3_checkBoundsOffCount_2 rfl (lv_at hl 2 rfl) ?_
  rcases hE.2 with h | ⟨t, h⟩
  · skip
    refine va_gets hx hb h hS hown (hts _ q544) (fun _ h9 => h9) dJ3_checkBoundsOffCount_3 ?_
    refine k_i0 [] (va_runS (As := [.int 0, .int (nI n), .int 8, .null]) (rest := []) ⟨hx, hb, hml, hown, hts⟩ (ctJ4_checkFromIndexSizeN l D dA _ n hn) (va_cwS 4 hts (lw_S q546 q547 q125 q548) rfl rfl rfl (by decide +kernel) ⟨Nat.le_of_ble_eq_true rfl, Nat.le_of_ble_eq_true rfl⟩) (preX_S T_ok p_nil hK (A := A) d_nil trivial) rfl rfl hl.1 rfl (lv_room (Nat.le_of_ble_eq_true rfl)) dJ3_checkBoundsOffCount_6 ⟨Nat.le_of_ble_eq_true rfl, Nat.le_of_ble_eq_true rfl⟩) hP hD hS hA rfl (fun _ => rfl) (fun u1 H locs hP hD hS => ?_)
    have hP : va_P D clG [] H := hP
    have hD : va_D A [] := hD
    exact W.iret (v := 0) hx hb hr (fun t ht hW => ⟨⟨0, (), rfl, rfl, by rw [ht]; exact hP, hD⟩, hS.F ht⟩) hS.2.2 dJ3_checkBoundsOffCount_9
  · skip
    refine va_gets hx hb h hS hown (hts _ q544) (fun _ h9 => h9) dJ3_checkBoundsOffCount_3 ?_
    refine k_i0 [] (va_runS (As := [.int 0, .int (nI n), .int 8, .ref t]) (rest := []) ⟨hx, hb, hml, hown, hts⟩ (ctJ4_checkFromIndexSizeR l D dA _ n hn t) (va_cwS 4 hts (lw_S q546 q547 q125 q548) rfl rfl rfl (by decide +kernel) ⟨Nat.le_of_ble_eq_true rfl, Nat.le_of_ble_eq_true rfl⟩) (preX_S T_ok p_nil hK (A := A) d_nil trivial) rfl rfl hl.1 rfl (lv_room (Nat.le_of_ble_eq_true rfl)) dJ3_checkBoundsOffCount_6 ⟨Nat.le_of_ble_eq_true rfl, Nat.le_of_ble_eq_true rfl⟩) hP hD hS hA rfl (fun _ => rfl) (fun u1 H locs hP hD hS => ?_)
    have hP : va_P D clG [] H := hP
    have hD : va_D A [] := hD
    exact W.iret (v := 0) hx hb hr (fun t ht hW => ⟨⟨0, (), rfl, rfl, by rw [ht]; exact hP, hD⟩, hS.F ht⟩) hS.2.2 dJ3_checkBoundsOffCount_9
set_option maxHeartbeats 4000000 in
theorem ctJ3_rangeCheck (l : Launch) (D : va_G) (dA : Nat → ClassId) (sz : Nat) (le n : Nat) (ch : AI) (hn : n ≤ 8) : Met l yJ3_rangeCheck (ws_ yJ3_rangeCheck cJ3_rangeCheck 3 (some (.object "java/lang/Void"))) ({ frames := 3, cells := 0, slots := 0, locals := 120 }) (preX D dA OK_ [.ref le, .int 0, .int (nI n)] [(le, .inl (dA 3, 8, .inl ch))] sz) (qz_ D (fun (_ : Unit) => some .null) (fun _ => True) (fun (_ : Unit) => [(le, .inl (dA 3, 8, .inl ch))]) (va_A [(le, .inl (dA 3, 8, .inl ch))] sz)) 0 0 (va_A [(le, .inl (dA 3, 8, .inl ch))] sz) := by
  refine Met.ofW (cc := cJ3_rangeCheck) (maxL := 3) (ret := (some (.object "java/lang/Void"))) (by decide) rfl ?_
  intro p e s m args below meth c s₁ B hml hv
  obtain ⟨rfl, hsz, hP, hK, hD0, hE⟩ := hv
  have hx := B.exec
  have hb := B.bytes
  have hr := B.returns
  have hts := atoms_spec (ws := (ws_ yJ3_rangeCheck cJ3_rangeCheck 3 (some (.object "java/lang/Void")))) B.pre
  have hts : ∀ w ∈ lw_all, w.before _ s = true := fun w h => hts w (List.mem_cons_of_mem _ h)
  have hown : s.vm.findClass RJ3 = some m.cls := findClass_of_methodNamed B.named
  have hlocks := B.notSynchronized
  subst hsz
  have hD := hD0.self (sz := s.heap.size)
  generalize hAe : va_A [(le, .inl (dA 3, 8, .inl ch))] s.heap.size = A at hD hE ⊢
  have hA : ∀ q : Nat, s.heap.size ≤ q → A q := fun q h => by rw [← hAe]; exact Or.inr h
  have hS : va_S A s.heap s.heap [] := va_S.rf
  have hP : va_P D clG [(le, .inl (dA 3, 8, .inl ch))] s.heap := hP
  have hl := lv_entry ([.ref le, .int 0, .int (nI n)]) (n := 3) (Nat.le_of_ble_eq_true rfl)
  rw [lg_entry_eq]
  generalize (lg_sl ([.ref le, .int 0, .int (nI n)]) ++ List.replicate (3 - (lg_sl ([.ref le, .int 0, .int (nI n)])).length) Slot.unset).toArray = ls at hl ⊢
  have hl : lv_has ls 3 [(0, .ref le), (1, .int 0), (2, .int (nI n))] := hl
  refine lv_iload_n hx hb dJ3_rangeCheck_0 rfl (lv_at hl 1 rfl) ?_
  refine lv_iload_n hx hb dJ3_rangeCheck_1 rfl (lv_at hl 2 rfl) ?_
  refine lv_aload_n hx hb dJ3_rangeCheck_2 rfl (lv_at hl 0 rfl) ?_
  refine va_alen (v := 8) hx hb hK.1 hP 0 3 rfl rfl rfl dJ3_rangeCheck_3 ?_
  refine k_i0 [] (va_runS (As := [.int 0, .int (nI n), .int 8]) (rest := []) ⟨hx, hb, hml, hown, hts⟩ (ctJ3_checkBoundsOffCount l D dA _ n hn) (va_cwS 3 hts (lw_S q541 q542 q124 q543) rfl rfl rfl (by decide +kernel) ⟨Nat.le_of_ble_eq_true rfl, Nat.le_of_ble_eq_true rfl⟩) (preX_S OK_ok p_nil hK (A := A) d_nil (ev_at OK_ok hE hS (ev_nil hA hS))) rfl rfl hl.1 rfl (lv_room (Nat.le_of_ble_eq_true rfl)) dJ3_rangeCheck_4 ⟨Nat.le_of_ble_eq_true rfl, Nat.le_of_ble_eq_true rfl⟩) hP hD hS hA rfl (fun _ => rfl) (fun u1 H locs hP hD hS => ?_)
  have hP : va_P D clG [(le, .inl (dA 3, 8, .inl ch))] H := hP
  have hD : va_D A [(le, .inl (dA 3, 8, .inl ch))] := hD
  refine lv_pop hx hb dJ3_rangeCheck_7 rfl ?_
  refine lv_null hx hb dJ3_rangeCheck_8 ?_
  exact W.aret (v := .null) hx hb hr (Or.inl ⟨_, rfl⟩) (Or.inl rfl) (fun t ht hW => ⟨⟨(), rfl, trivial, by rw [ht]; exact hP, hD⟩, hS.F ht⟩) hS.2.2 dJ3_rangeCheck_9
set_option maxHeartbeats 4000000 in
theorem ctJ3_init_2 (l : Launch) (D : va_G) (dA : Nat → ClassId) (sz : Nat) (a le n : Nat) (ch : AI) (h0 : 0 < n) (hn : n ≤ 8) (hch : ∀ j, j < n → ch j ≤ 255) : Met l yJ3_init_2 (ws_ yJ3_init_2 cJ3_init_2 6 none) ({ frames := 3, cells := 1, slots := 8, locals := 180 }) (preX D dA OK_ [.ref a, .ref le, .int 0, .int (nI n), .null] [(a, .inr (13, [.null, .int 0, .int 0, .int 0])), (le, .inl (dA 3, 8, .inl ch))] sz) (qv_ D (fun (u : Nat) => [(a, .inr (13, [.ref u, .int 0, .int 0, .int 0])), (le, .inl (dA 3, 8, .inl ch))] ++ [(u, .inl (dA 2, n, .inl (cmpF ch n)))]) (va_A [(a, .inr (13, [.null, .int 0, .int 0, .int 0])), (le, .inl (dA 3, 8, .inl ch))] sz)) 1 8 (va_A [(a, .inr (13, [.null, .int 0, .int 0, .int 0])), (le, .inl (dA 3, 8, .inl ch))] sz) := by
  refine Met.ofW (cc := cJ3_init_2) (maxL := 6) (ret := none) (by decide) rfl ?_
  intro p e s m args below meth c s₁ B hml hv
  obtain ⟨rfl, hsz, hP, hK, hD0, hE⟩ := hv
  have hx := B.exec
  have hb := B.bytes
  have hr := B.returns
  have hts := atoms_spec (ws := (ws_ yJ3_init_2 cJ3_init_2 6 none)) B.pre
  have hts : ∀ w ∈ lw_all, w.before _ s = true := fun w h => hts w (List.mem_cons_of_mem _ h)
  have hown : s.vm.findClass RJ3 = some m.cls := findClass_of_methodNamed B.named
  have hlocks := B.notSynchronized
  have hin : meth.name = "<init>" := (name_of_methodNamed B.named B.method).1
  subst hsz
  have hD := hD0.self (sz := s.heap.size)
  generalize hAe : va_A [(a, .inr (13, [.null, .int 0, .int 0, .int 0])), (le, .inl (dA 3, 8, .inl ch))] s.heap.size = A at hD hE ⊢
  have hA : ∀ q : Nat, s.heap.size ≤ q → A q := fun q h => by rw [← hAe]; exact Or.inr h
  have hS : va_S A s.heap s.heap [] := va_S.rf
  have hP : va_P D clG [(a, .inr (13, [.null, .int 0, .int 0, .int 0])), (le, .inl (dA 3, 8, .inl ch))] s.heap := hP
  have hl := lv_entry ([.ref a, .ref le, .int 0, .int (nI n), .null]) (n := 6) (Nat.le_of_ble_eq_true rfl)
  rw [lg_entry_eq]
  generalize (lg_sl ([.ref a, .ref le, .int 0, .int (nI n), .null]) ++ List.replicate (6 - (lg_sl ([.ref a, .ref le, .int 0, .int (nI n), .null])).length) Slot.unset).toArray = ls at hl ⊢
  have hl : lv_has ls 6 [(0, .ref a), (1, .ref le), (2, .int 0), (3, .int (nI n)), (4, .null)] := hl
  refine lv_aload_n hx hb dJ3_init_2_0 rfl (lv_at hl 0 rfl) ?_
  refine W.objInit hx hb hown (hts _ q552) (hts _ q144) (hts _ q145) rfl (by rw [hml]; exact hl.1) rfl dJ3_init_2_1 (Nat.le_of_ble_eq_true rfl) (Nat.le_of_ble_eq_true rfl) ?_
  refine W.eq (g2 := F0 m 4 ls []) rfl ?_
  refine lv_iload_n hx hb dJ3_init_2_4 rfl (lv_at hl 3 rfl) ?_
  refine lv_if_ne (tgt := 27) hx hb dJ3_init_2_5 (by decide) (fun _ => ?_) (fun h9 => absurd h9 (nI_ne0 h0 (by omega)))
  refine va_gets hx hb hE.1 hS hown (hts _ q554) (fun _ h9 => h9) dJ3_init_2_27 ?_
  refine lv_if_eq (tgt := 58) hx hb dJ3_init_2_30 (by decide) (fun h9 => absurd h9 (by decide)) (fun _ => ?_)
  refine lv_aload_n hx hb dJ3_init_2_33 rfl (lv_at hl 1 rfl) ?_
  refine lv_iload_n hx hb dJ3_init_2_34 rfl (lv_at hl 2 rfl) ?_
  refine lv_iload_n hx hb dJ3_init_2_35 rfl (lv_at hl 3 rfl) ?_
  refine k_r [1] (va_runS (As := [.ref le, .int 0, .int (nI n)]) (rest := []) ⟨hx, hb, hml, hown, hts⟩ (ctJ5_compress l D dA _ le n ch hn hch) (va_cwS 3 hts (lw_S q556 q557 q126 q558) rfl rfl rfl (by decide +kernel) ⟨Nat.le_of_ble_eq_true rfl, Nat.le_of_ble_eq_true rfl⟩) (preX_S T_ok (hP.sub [1] rfl) hK (hD.sub [1] (by decide) rfl) trivial) rfl rfl hl.1 rfl (lv_room (Nat.le_of_ble_eq_true rfl)) dJ3_init_2_36 ⟨Nat.le_of_ble_eq_true rfl, Nat.le_of_ble_eq_true rfl⟩) hP hD hS hA rfl (fun _ => rfl) (fun u1 H locs hP hD hS => ?_)
  have hP : va_P D clG [(a, .inr (13, [.null, .int 0, .int 0, .int 0])), (le, .inl (dA 3, 8, .inl ch)), (u1, .inl (dA 2, n, .inl (cmpF ch n)))] H := hP
  have hD : va_D A [(a, .inr (13, [.null, .int 0, .int 0, .int 0])), (le, .inl (dA 3, 8, .inl ch)), (u1, .inl (dA 2, n, .inl (cmpF ch n)))] := hD
  refine W.widen (k := 1) (n := 8) (Nat.le_of_ble_eq_true rfl) (Nat.le_of_ble_eq_true rfl) ?_
  refine lv_astore (lv' := [(5, .ref u1), (0, .ref a), (1, .ref le), (2, .int 0), (3, .int (nI n)), (4, .null)]) hx hb dJ3_init_2_39 hl (by decide) rfl (fun ls hl => ?_)
  refine lv_aload_n hx hb dJ3_init_2_41 rfl (lv_at hl 1 rfl) ?_
  refine lv_aload hx hb dJ3_init_2_42 (lv_at hl 0 rfl) ?_
  refine lv_iload_n hx hb dJ3_init_2_44 rfl (lv_at hl 4 rfl) ?_
  refine k_i0 [2] (va_runS (As := [.ref u1, .int (nI n)]) (rest := [.ref a]) ⟨hx, hb, hml, hown, hts⟩ (ctJ5_coderFromArrayLen l D dA _ u1 n (cmpF ch n)) (va_cwS 2 hts (lw_S q594 q595 q126 q596) rfl rfl rfl (by decide +kernel) ⟨Nat.le_of_ble_eq_true rfl, Nat.le_of_ble_eq_true rfl⟩) (preX_S T_ok (hP.sub [2] rfl) hK (hD.sub [2] (by decide) rfl) trivial) rfl rfl hl.1 rfl (lv_room (Nat.le_of_ble_eq_true rfl)) dJ3_init_2_45 ⟨Nat.le_of_ble_eq_true rfl, Nat.le_of_ble_eq_true rfl⟩) hP hD hS hA rfl (fun _ => rfl) (fun u2 H locs hP hD hS => ?_)
  have hP : va_P D clG [(a, .inr (13, [.null, .int 0, .int 0, .int 0])), (le, .inl (dA 3, 8, .inl ch)), (u1, .inl (dA 2, n, .inl (cmpF ch n)))] H := hP
  have hD : va_D A [(a, .inr (13, [.null, .int 0, .int 0, .int 0])), (le, .inl (dA 3, 8, .inl ch)), (u1, .inl (dA 2, n, .inl (cmpF ch n)))] := hD
  refine va_putF (D := D) (ci := 13) (v := .int 0) (ty := .byte) (C := RJ3) (T := TJ3) (N := 4) hx hb hts in_J3 tyJ3 tyJ3_ok nmJ3 hown hK.1 hP hD hS 0 rfl rfl 1 (by decide) (hts _ q599) (fun _ h9 => h9) rfl hin rfl (by decide +kernel) rfl rfl (Nat.le_of_ble_eq_true rfl) dJ3_init_2_48 (fun H locs hP hD hS => ?_)
  have hP : va_P D clG [(a, .inr (13, [.null, .int 0, .int 0, .int 0])), (le, .inl (dA 3, 8, .inl ch)), (u1, .inl (dA 2, n, .inl (cmpF ch n)))] H := hP
  have hD : va_D A [(a, .inr (13, [.null, .int 0, .int 0, .int 0])), (le, .inl (dA 3, 8, .inl ch)), (u1, .inl (dA 2, n, .inl (cmpF ch n)))] := hD
  refine lv_aload_n hx hb dJ3_init_2_51 rfl (lv_at hl 1 rfl) ?_
  refine lv_aload hx hb dJ3_init_2_52 (lv_at hl 0 rfl) ?_
  refine va_putF (D := D) (ci := 13) (v := .ref u1) (ty := (.array .byte)) (C := RJ3) (T := TJ3) (N := 4) hx hb hts in_J3 tyJ3 tyJ3_ok nmJ3 hown hK.1 hP hD hS 0 rfl rfl 0 (by decide) (hts _ q598) (fun _ h9 => h9) rfl hin rfl (by decide +kernel) rfl rfl (Nat.le_of_ble_eq_true rfl) dJ3_init_2_54 (fun H locs hP hD hS => ?_)
  have hP : va_P D clG [(a, .inr (13, [.ref u1, .int 0, .int 0, .int 0])), (le, .inl (dA 3, 8, .inl ch)), (u1, .inl (dA 2, n, .inl (cmpF ch n)))] H := hP
  have hD : va_D A [(a, .inr (13, [.ref u1, .int 0, .int 0, .int 0])), (le, .inl (dA 3, 8, .inl ch)), (u1, .inl (dA 2, n, .inl (cmpF ch n)))] := hD
  exact W.vret hx hb hr (fun t ht hW => ⟨⟨u1, rfl, trivial, by rw [ht]; exact hP, hD⟩, hS.F ht⟩) hS.2.2 dJ3_init_2_57
set_option maxHeartbeats 4000000 in
theorem ctJ3_init (l : Launch) (D : va_G) (dA : Nat → ClassId) (sz : Nat) (a le n : Nat) (ch : AI) (h0 : 0 < n) (hn : n ≤ 8) (hch : ∀ j, j < n → ch j ≤ 255) : Met l yJ3_init (ws_ yJ3_init cJ3_init 4 none) ({ frames := 4, cells := 1, slots := 8, locals := 260 }) (preX D dA OK_ [.ref a, .ref le, .int 0, .int (nI n)] [(a, .inr (13, [.null, .int 0, .int 0, .int 0])), (le, .inl (dA 3, 8, .inl ch))] sz) (qv_ D (fun (u : Nat) => [(a, .inr (13, [.ref u, .int 0, .int 0, .int 0])), (le, .inl (dA 3, 8, .inl ch))] ++ [(u, .inl (dA 2, n, .inl (cmpF ch n)))]) (va_A [(a, .inr (13, [.null, .int 0, .int 0, .int 0])), (le, .inl (dA 3, 8, .inl ch))] sz)) 1 8 (va_A [(a, .inr (13, [.null, .int 0, .int 0, .int 0])), (le, .inl (dA 3, 8, .inl ch))] sz) := by
  refine Met.ofW (cc := cJ3_init) (maxL := 4) (ret := none) (by decide) rfl ?_
  intro p e s m args below meth c s₁ B hml hv
  obtain ⟨rfl, hsz, hP, hK, hD0, hE⟩ := hv
  have hx := B.exec
  have hb := B.bytes
  have hr := B.returns
  have hts := atoms_spec (ws := (ws_ yJ3_init cJ3_init 4 none)) B.pre
  have hts : ∀ w ∈ lw_all, w.before _ s = true := fun w h => hts w (List.mem_cons_of_mem _ h)
  have hown : s.vm.findClass RJ3 = some m.cls := findClass_of_methodNamed B.named
  have hlocks := B.notSynchronized
  have hin : meth.name = "<init>" := (name_of_methodNamed B.named B.method).1
  subst hsz
  have hD := hD0.self (sz := s.heap.size)
  generalize hAe : va_A [(a, .inr (13, [.null, .int 0, .int 0, .int 0])), (le, .inl (dA 3, 8, .inl ch))] s.heap.size = A at hD hE ⊢
  have hA : ∀ q : Nat, s.heap.size ≤ q → A q := fun q h => by rw [← hAe]; exact Or.inr h
  have hS : va_S A s.heap s.heap [] := va_S.rf
  have hP : va_P D clG [(a, .inr (13, [.null, .int 0, .int 0, .int 0])), (le, .inl (dA 3, 8, .inl ch))] s.heap := hP
  have hl := lv_entry ([.ref a, .ref le, .int 0, .int (nI n)]) (n := 4) (Nat.le_of_ble_eq_true rfl)
  rw [lg_entry_eq]
  generalize (lg_sl ([.ref a, .ref le, .int 0, .int (nI n)]) ++ List.replicate (4 - (lg_sl ([.ref a, .ref le, .int 0, .int (nI n)])).length) Slot.unset).toArray = ls at hl ⊢
  have hl : lv_has ls 4 [(0, .ref a), (1, .ref le), (2, .int 0), (3, .int (nI n))] := hl
  refine lv_aload_n hx hb dJ3_init_0 rfl (lv_at hl 0 rfl) ?_
  refine lv_aload_n hx hb dJ3_init_1 rfl (lv_at hl 1 rfl) ?_
  refine lv_iload_n hx hb dJ3_init_2 rfl (lv_at hl 2 rfl) ?_
  refine lv_iload_n hx hb dJ3_init_3 rfl (lv_at hl 3 rfl) ?_
  refine lv_aload_n hx hb dJ3_init_4 rfl (lv_at hl 1 rfl) ?_
  refine lv_iload_n hx hb dJ3_init_5 rfl (lv_at hl 2 rfl) ?_
  refine lv_iload_n hx hb dJ3_init_6 rfl (lv_at hl 3 rfl) ?_
  refine k_z0 [1] (va_runS (As := [.ref le, .int 0, .int (nI n)]) (rest := [.int (nI n), .int 0, .ref le, .ref a]) ⟨hx, hb, hml, hown, hts⟩ (ctJ3_rangeCheck l D dA _ le n ch hn) (va_cwS 3 hts (lw_S q538 q539 q124 q540) rfl rfl rfl (by decide +kernel) ⟨Nat.le_of_ble_eq_true rfl, Nat.le_of_ble_eq_true rfl⟩) (preX_S OK_ok (hP.sub [1] rfl) hK (hD.sub [1] (by decide) rfl) (ev_at OK_ok hE hS (k_free hD hS hA [1] rfl))) rfl rfl hl.1 rfl (lv_room (Nat.le_of_ble_eq_true rfl)) dJ3_init_7 ⟨Nat.le_of_ble_eq_true rfl, Nat.le_of_ble_eq_true rfl⟩) hP hD hS hA rfl (fun _ _ => rfl) (fun u1 H locs _ hP hD hS => ?_)
  have hP : va_P D clG [(a, .inr (13, [.null, .int 0, .int 0, .int 0])), (le, .inl (dA 3, 8, .inl ch))] H := hP
  have hD : va_D A [(a, .inr (13, [.null, .int 0, .int 0, .int 0])), (le, .inl (dA 3, 8, .inl ch))] := hD
  refine W.eq (g2 := F0 m 10 ls [.null, .int (nI n), .int 0, .ref le, .ref a]) rfl ?_
  refine k_v [0, 1] (va_runI (As := [.ref le, .int 0, .int (nI n), .null]) (rest := []) ⟨hx, hb, hml, hown, hts⟩ (ctJ3_init_2 l D dA _ a le n ch h0 hn hch) (cwI 4 hts (lw_meth q551) rfl rfl rfl (hts _ q124) (hts _ q549) (hts _ q550) rfl (by decide +kernel) ⟨Nat.le_of_ble_eq_true rfl, Nat.le_of_ble_eq_true rfl⟩) (preX_S OK_ok (hP.sub [0, 1] rfl) hK (hD.sub [0, 1] (by decide) rfl) (ev_at OK_ok hE hS (k_free hD hS hA [0, 1] rfl))) rfl rfl hl.1 rfl (lv_room (Nat.le_of_ble_eq_true rfl)) dJ3_init_10 ⟨Nat.le_of_ble_eq_true rfl, Nat.le_of_ble_eq_true rfl⟩) hP hD hS hA rfl (fun _ => rfl) (fun u2 H locs hP hD hS => ?_)
  have hP : va_P D clG [(a, .inr (13, [.ref u2, .int 0, .int 0, .int 0])), (le, .inl (dA 3, 8, .inl ch)), (u2, .inl (dA 2, n, .inl (cmpF ch n)))] H := hP
  have hD : va_D A [(a, .inr (13, [.ref u2, .int 0, .int 0, .int 0])), (le, .inl (dA 3, 8, .inl ch)), (u2, .inl (dA 2, n, .inl (cmpF ch n)))] := hD
  refine W.widen (k := 1) (n := 8) (Nat.le_of_ble_eq_true rfl) (Nat.le_of_ble_eq_true rfl) ?_
  exact W.vret hx hb hr (fun t ht hW => ⟨⟨u2, rfl, trivial, by rw [ht]; exact hP, hD⟩, hS.F ht⟩) hS.2.2 dJ3_init_13
