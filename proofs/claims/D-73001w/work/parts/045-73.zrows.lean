set_option maxRecDepth 100000
def klen : Nat → Nat := fun i => ([0, 4, 6, 4, 5, 5, 4, 4, 5, 3, 5, 4, 6, 6, 3, 4, 2, 4] : List Nat).getD i 0
def kbyl : List (List Int32) := [[], [99, 105, 116, 121], [112, 101, 114, 115, 111, 110], [110, 101, 97, 114], [97, 115, 107, 101, 100], [104, 101, 97, 114, 100], [119, 101, 110, 116], [104, 111, 117, 114], [103, 105, 118, 101, 115], [99, 97, 116], [112, 108, 97, 105, 110], [115, 104, 117, 116], [119, 97, 108, 108, 101, 100], [100, 111, 99, 116, 111, 114], [104, 97, 115], [100, 105, 101, 115], [97, 116], [103, 105, 118, 101]]
def kby : Nat → AI := fun i j => (kbyl.getD i []).getD j 0
def ktx : Nat → String := fun i => (["", "city", "person", "near", "asked", "heard", "went", "hour", "gives", "cat", "plain", "shut", "walled", "doctor", "has", "dies", "at", "give"] : List String).getD i ""
def kixZ : Nat → Nat := fun i => ([59, 90, 92, 94, 96, 98, 100, 152, 157, 102, 161, 168, 173, 178, 195, 202, 245, 265] : List Nat).getD i 0
def kixM : Nat → Nat := fun i => ([0, 134, 136, 138, 140, 142, 144, 191, 196, 146, 204, 206, 208, 210, 212, 214, 253, 258] : List Nat).getD i 0
/-- the constants: their places, and what they hold -/
def kE (ka kv : Nat → Nat) : EV := fun A U H => ∀ i, i < 18 → sv_ (ka i) (kv i) (klen i) (kby i) A U H
theorem kE_ok {ka kv : Nat → Nat} : EVok (kE ka kv) := ⟨fun A u U H h q i hi => sv_ok.1 A u U H h (q i hi), fun A U H H1 q h i hi => sv_ok.2.1 A U H H1 (q i hi) h, fun A B U H q h i hi => sv_ok.2.2 A B U H (q i hi) h⟩
def kR (own : String) (kix : Nat → Nat) (lo : Nat) (ka : Nat → Nat) : EV := fun _ U _ => ∀ i, lo ≤ i → i < 18 → vk_R own (kix i) (ktx i) (ka i) U
theorem kR_ok {own : String} {kix : Nat → Nat} {lo : Nat} {ka : Nat → Nat} : EVok (kR own kix lo ka) := ⟨fun A u U H h q i h0 hi => by
    rcases h with h | h
    · exact vk_R.warm h (q i h0 hi)
    · exact vk_R.same h (q i h0 hi), fun A U H H1 q h => q, fun A B U H q h => q⟩
def kC : EV := fun _ U _ => ∀ i, i < 4 → va_Nw (.castable (["LastAsked$Plain", "LastAsked$Shut", "LastAsked$Walled", "LastAsked$Doctor"].getD i "") "LastAsked$Person") U
theorem kC_ok : EVok kC := ⟨fun A u U H h q i hi => by
    rcases h with h | h
    · exact va_Nw.warmC h (q i hi)
    · exact va_Nw.same rfl h.symm (q i hi), fun A U H H1 q h => q, fun A B U H q h => q⟩
def ZE (ka kv : Nat → Nat) : EV := ev2 OK_ (ev2 (kE ka kv) (ev2 (kR "LastAsked$Scanner" kixZ 0 ka) kC))
theorem ZE_ok {ka kv : Nat → Nat} : EVok (ZE ka kv) := ev2_ok OK_ok (ev2_ok kE_ok (ev2_ok kR_ok kC_ok))
def ME (ka kv : Nat → Nat) : EV := ev2 OK_ (ev2 (kE ka kv) (kR "LastAskedModel" kixM 1 ka))
theorem ME_ok {ka kv : Nat → Nat} : EVok (ME ka kv) := ev2_ok OK_ok (ev2_ok kE_ok kR_ok)
theorem w_free {A : Nat → Prop} {ws : va_W} {H0 H : Heap} {locs : List Loc} (hD : va_D A ws) (hS : va_S A H0 H locs) (hA : ∀ q, H0.size ≤ q → A q) : ∀ q, va_A ws H.size q → A q := by
  intro q h
  rcases h with ⟨k, e, h⟩ | h
  · exact hD.2 k _ h
  · exact hA q (Nat.le_trans hS.1 h)
abbrev ZT : Type := Int32 × Int32 × Int32 × Int32 × Int32 × Value × Value × Value × AI
/-- where a scanner has thrown -/
def tw (dA : Nat → ClassId) (za : Nat → Nat) (tx : AI) (e : Int32 × Int32) (u : ZT) : va_W := [
  (za 0, .inr (1, [.ref (za 1), .ref (za 2), .ref (za 3), .int u.1, .int u.2.1, .int u.2.2.1, .int u.2.2.2.1, .int u.2.2.2.2.1, u.2.2.2.2.2.1, u.2.2.2.2.2.2.1, u.2.2.2.2.2.2.2.1])),
  (za 1, .inr (2, [.null, .null, .null, .null, .null, .int 0, .int e.1, .int e.2])),
  (za 2, .inl (dA 2, 900, .inl tx)), (za 3, .inl (dA 3, 8, .inl u.2.2.2.2.2.2.2.2))]
def zQ (D : va_G) (dA : Nat → ClassId) (za : Nat → Nat) (tx : AI) (e : Int32 × Int32) (A : Nat → Prop) : Addr → String → State → State → Prop := vy_X (fun (_ : ZT) => True) (fun q E u t => q = za 1 ∧ E = "LastAsked$Refused" ∧ va_P D clG (tw dA za tx e u) t.heap ∧ va_D A (tw dA za tx e u)) A
section ZL
variable {p : Program} {l : Launch} {e : Env} {R : Room} {s : State} {m : MethodId} {args : Array Value} {below : List Frame} {meth : Method} {c : Code} {H : Heap} {locs : List Loc} {cells slots : Nat} {Q : State → Prop} {cc : ByteArray} {pc : Nat} {ls : Array Slot} {rest : List Value}
theorem va_ldcSW (hexec : p.tables.exec = Jvm.exec) (hb : c.code = cc) {own tx : String} {index q : Nat} (hown : s.vm.findClass own = some m.cls) (hZ : vk_R own index tx q s) (hdg : decode cc pc = .ok (.ldc_w index, 3))
    (k : W p l e R s m args below meth c H locs cells slots Q (F0 m (pc + 3) ls (.ref q :: rest))) : W p l e R s m args below meth c H locs cells slots Q (F0 m pc ls rest) := by
  intro T hT X
  obtain ⟨t, a1, b1⟩ := k T hT X
  exact ⟨t, X.ldcStringW hexec hown (text := tx) (a := q) hZ.1 hZ.2 (g := F0 m pc ls rest) rfl (by rw [hb]; exact hdg) t a1, b1⟩
end ZL
section ZR
variable {p : Program} {l : Launch} {e : Env} {R : Room} {s : State} {m : MethodId} {args : Array Value} {below : List Frame} {meth : Method} {c : Code} {H : Heap} {locs : List Loc} {cells slots : Nat}
variable {pc : Nat} {ls : Array Slot} {rest st0 : List Value} {a : Array Value} {A : Nat → Prop} {mc ms k n : Nat} {D : va_G} {ws : va_W} {dA : Nat → ClassId} {za : Nat → Nat} {tx : AI} {er : Int32 × Int32} {Qc : Array Value → State → Outcome → State → Prop}
/-- thrown here: it goes on to the caller -/
theorem z_pass {E : String} {ce : Cell} {q : Nat} {u : ZT} (hout : ∀ x ∈ c.exceptionTable.toList, False) (hlocks : meth.locks = false) (hq : q = za 1) (hE : E = "LastAsked$Refused") (hP : va_P D clG (tw dA za tx er u) H) (hD : va_D A (tw dA za tx er u)) (hS : va_S A s.heap H locs) (hce : H[q]? = some ce) (hcv : ce.vm = .none) (hcl : s.vm.findClass E = some ce.cls) (hc : cells ≤ k) (hs : slots ≤ n) :
    vy_W p l e R s m args below meth c H locs cells slots (vy_MQ below Qc (zQ D dA za tx er A) args s k n A) (F0 m pc ls rest) q :=
  vy_out (fun x hx => (hout x hx).elim) hlocks hce hcv hcl (fun t ht _ => ⟨u, trivial, ⟨hq, hE, by rw [ht]; exact hP, hD⟩, hS.F ht⟩) hS.2.2 hc hs
/-- a call that throws: it goes on to the caller -/
theorem z_err (hr : vy_Run p l e R s m args below meth c H locs cells slots mc ms (F0 m pc ls st0) rest (fun _ _ _ => False) (zQ D dA za tx er (va_A ws H.size)) (va_A ws H.size)) (hD : va_D A ws) (hS : va_S A s.heap H locs) (hA : ∀ q, s.heap.size ≤ q → A q) (hout : ∀ x ∈ c.exceptionTable.toList, False) (hlocks : meth.locks = false) (hc : cells + mc ≤ k) (hs : slots + ms ≤ n) :
    W p l e R s m args below meth c H locs cells slots (vy_MQ below Qc (zQ D dA za tx er A) args s k n A) (F0 m pc ls st0) := by
  have hF := w_free hD hS hA
  intro T hT X
  rcases hr T hT X with ⟨v, st₀, t, T', L, h0, X', hL, e1, e2, hf, st⟩ | ⟨q, st₀, t, T', L, E, ce, h0, X', hL, e1, e2, ⟨u, -, ⟨hq, hE, hP1, hD1⟩, hFF⟩, hce, hcv, hcl, st⟩
  · exact hf.elim
  · obtain ⟨k1, k2, k3⟩ := vy_keep h0 e1 hS (fun q _ h => hF q h) (fun q h => hF q h) hL hFF
    obtain ⟨t2, a1, b1⟩ := z_pass (Qc := Qc) (k := k) (n := n) hout hlocks hq hE (by rw [e1]; exact hP1) (hD1.weaken (fun _ x _ h => hF x.1 h)) k3 (by rw [e1]; exact hce) hcv hcl hc hs T' rfl X'
    exact ⟨t2, st.trans a1, b1⟩
/-- athrow of the scanner's own -/
theorem z_throw {cc : ByteArray} {h : ZH} {sz : ZS} {k9 : Int32 × Int32 × Int32} (hx : p.tables.exec = Jvm.exec) (hb : c.code = cc) (hdg : decode cc pc = .ok (.athrow, 1)) (hK : KK D dA s) (hP : va_P D clG (zw dA za k9 tx h sz) H) (hD : va_D A (zw dA za k9 tx h sz)) (hS : va_S A s.heap H locs) (hout : ∀ x ∈ c.exceptionTable.toList, False) (hlocks : meth.locks = false) (he : (k9.2.1, k9.2.2) = er) (hc : cells ≤ k) (hs : slots ≤ n) :
    W p l e R s m args below meth c H locs cells slots (vy_MQ below Qc (zQ D dA za tx er A) args s k n A) (F0 m pc ls (.ref (za 1) :: rest)) := by
  subst he
  refine vy_athrow hx hb hdg ?_
  obtain ⟨r, g1, cell, q1, q2, q3, q4⟩ := hP 1 _ rfl
  have hr : r = (RX3, TX3, 8) := Option.some.inj (g1.symm.trans rfl)
  subst hr
  obtain ⟨hS3, hfc, -⟩ := hK.1.1 2 (RX3, TX3, 8) rfl
  exact z_pass (u := (k9.1, sz.1, sz.2.1, sz.2.2.1, sz.2.2.2.1, zwv h sz.2.2.2.2.1, .ref (za 4), zav h sz.2.2.2.2.2.1, sz.2.2.2.2.2.2.1)) (ce := cell) hout hlocks rfl rfl (hP.sub [0, 1, 2, 3] rfl) (hD.sub [0, 1, 2, 3] (by decide) rfl) hS q1 q3 (by rw [q2]; exact hfc) hc hs
end ZR
/-! the order of a world doesn't matter -/
theorem va_P_of {D : va_G} {cl : List vw_C} {ws : va_W} {H : Heap} : va_P D cl ws H ↔ ∀ q ∈ ws, va_at D cl q H :=
  ⟨fun h q hq => by
    obtain ⟨k, hk, e⟩ := List.mem_iff_getElem.mp hq
    exact h k q (by rw [List.getElem?_eq_getElem hk, e]), fun h k q hk => h q (List.mem_of_getElem? hk)⟩
theorem va_D_of {A : Nat → Prop} {ws : va_W} : va_D A ws ↔ (ws.map (·.1)).Nodup ∧ ∀ q ∈ ws, A q.1 := by
  constructor
  · intro h
    refine ⟨List.nodup_iff_pairwise_ne.mpr ?_, fun q hq => ?_⟩
    · rw [List.pairwise_iff_getElem]
      intro i j hi hj hij e
      rw [List.length_map] at hi hj
      rw [List.getElem_map, List.getElem_map] at e
      have := h.1 i j _ _ (List.getElem?_eq_getElem hi) (List.getElem?_eq_getElem hj) e
      omega
    · obtain ⟨k, hk, e⟩ := List.mem_iff_getElem.mp hq
      exact h.2 k q (by rw [List.getElem?_eq_getElem hk, e])
  · intro h
    refine ⟨fun i j p q hi hj e => ?_, fun k q hk => h.2 q (List.mem_of_getElem? hk)⟩
    have h1 := List.pairwise_iff_getElem.mp (List.nodup_iff_pairwise_ne.mp h.1)
    obtain ⟨li, ei⟩ := List.getElem?_eq_some_iff.mp hi
    obtain ⟨lj, ej⟩ := List.getElem?_eq_some_iff.mp hj
    rcases Nat.lt_trichotomy i j with g | g | g
    · exact absurd (by rw [List.getElem_map, List.getElem_map, ei, ej]; exact e) (h1 i j (by simpa using li) (by simpa using lj) g)
    · exact g
    · exact absurd (by rw [List.getElem_map, List.getElem_map, ei, ej]; exact e.symm) (h1 j i (by simpa using lj) (by simpa using li) g)
theorem va_P.perm {D : va_G} {cl : List vw_C} {ws w2 : va_W} {H : Heap} (h : va_P D cl ws H) (p : ws.Perm w2) : va_P D cl w2 H := va_P_of.mpr fun q hq => va_P_of.mp h q (p.mem_iff.mpr hq)
theorem va_D.perm {A : Nat → Prop} {ws w2 : va_W} (h : va_D A ws) (p : ws.Perm w2) : va_D A w2 :=
  va_D_of.mpr ⟨((p.map _).nodup_iff).mp (va_D_of.mp h).1, fun q hq => (va_D_of.mp h).2 q (p.mem_iff.mpr hq)⟩
theorem pair_P {D : va_G} {cl : List vw_C} {a b : Nat × va_E} {H : Heap} (ha : va_at D cl a H) (hb : va_at D cl b H) : va_P D cl [a, b] H := va_P_of.mpr fun q hq => by
  rcases List.mem_cons.mp hq with h | h
  · rw [h]; exact ha
  · rw [List.mem_singleton.mp h]; exact hb
theorem nd2 {i j : Nat} (h : i < j) : va_nd [i, j] = true := by
  simp [va_nd]
  omega
theorem klen_lt (w : Nat) : klen w < 2 ^ 31 := by
  unfold klen
  rcases Nat.lt_or_ge w 18 with h | h
  · exact (by decide : ∀ w, w < 18 → ([0, 4, 6, 4, 5, 5, 4, 4, 5, 3, 5, 4, 6, 6, 3, 4, 2, 4] : List Nat).getD w 0 < 2 ^ 31) w h
  · rw [List.getD_eq_getElem?_getD, List.getElem?_eq_none (by simpa using h)]
    decide
/-- a word is stale -/
def zst (h : ZH) (v : Value) : ZH := (h.1, h.2.1, h.2.2.1, h.2.2.2.1, v, h.2.2.2.2.2)
theorem zext_st {h : ZH} {v : Value} {s r : ZS} (h1 : s.2.2.2.2.2.2.2.2.2.2.2.2.2.2.2.2.2.2.2.2.2.2.2.2.2.2.2.2.1 = r.2.2.2.2.2.2.2.2.2.2.2.2.2.2.2.2.2.2.2.2.2.2.2.2.2.2.2.2.1) (h2 : s.2.2.2.2.2.2.2.2.2.2.2.2.2.2.2.2.2.2.2.1 = r.2.2.2.2.2.2.2.2.2.2.2.2.2.2.2.2.2.2.2.1) : zext h (zst h v) s r := ⟨fun _ _ => rfl, fun _ _ => rfl, Nat.le_of_eq h1, Nat.le_of_eq h2⟩
def gall {α : Type} (P : Prop) [Decidable P] (k : Option α) : Option α := if P then k else none
theorem gall_inv {α : Type} {P : Prop} [Decidable P] {k : Option α} {r : α} (h : gall P k = some r) : P ∧ k = some r := by
  unfold gall at h
  by_cases c : P
  · rw [if_pos c] at h; exact ⟨c, h⟩
  · rw [if_neg c] at h; cases h
def zpush (s : ZS) (n : Nat) : ZS := (s.1, s.2.1, s.2.2.1, s.2.2.2.1, none, s.2.2.2.2.2.1, s.2.2.2.2.2.2.1, s.2.2.2.2.2.2.2.1, s.2.2.2.2.2.2.2.2.1, s.2.2.2.2.2.2.2.2.2.1, s.2.2.2.2.2.2.2.2.2.2.1, s.2.2.2.2.2.2.2.2.2.2.2.1, s.2.2.2.2.2.2.2.2.2.2.2.2.1, s.2.2.2.2.2.2.2.2.2.2.2.2.2.1, s.2.2.2.2.2.2.2.2.2.2.2.2.2.2.1, s.2.2.2.2.2.2.2.2.2.2.2.2.2.2.2.1, s.2.2.2.2.2.2.2.2.2.2.2.2.2.2.2.2.1, s.2.2.2.2.2.2.2.2.2.2.2.2.2.2.2.2.2.1, s.2.2.2.2.2.2.2.2.2.2.2.2.2.2.2.2.2.2.1, s.2.2.2.2.2.2.2.2.2.2.2.2.2.2.2.2.2.2.2.1, s.2.2.2.2.2.2.2.2.2.2.2.2.2.2.2.2.2.2.2.2.1, s.2.2.2.2.2.2.2.2.2.2.2.2.2.2.2.2.2.2.2.2.2.1, s.2.2.2.2.2.2.2.2.2.2.2.2.2.2.2.2.2.2.2.2.2.2.1, s.2.2.2.2.2.2.2.2.2.2.2.2.2.2.2.2.2.2.2.2.2.2.2.1, s.2.2.2.2.2.2.2.2.2.2.2.2.2.2.2.2.2.2.2.2.2.2.2.2.1, s.2.2.2.2.2.2.2.2.2.2.2.2.2.2.2.2.2.2.2.2.2.2.2.2.2.1, s.2.2.2.2.2.2.2.2.2.2.2.2.2.2.2.2.2.2.2.2.2.2.2.2.2.2.1, s.2.2.2.2.2.2.2.2.2.2.2.2.2.2.2.2.2.2.2.2.2.2.2.2.2.2.2.1, s.2.2.2.2.2.2.2.2.2.2.2.2.2.2.2.2.2.2.2.2.2.2.2.2.2.2.2.2.1 + 1, updF s.2.2.2.2.2.2.2.2.2.2.2.2.2.2.2.2.2.2.2.2.2.2.2.2.2.2.2.2.2.1 s.2.2.2.2.2.2.2.2.2.2.2.2.2.2.2.2.2.2.2.2.2.2.2.2.2.2.2.2.1 n, updF s.2.2.2.2.2.2.2.2.2.2.2.2.2.2.2.2.2.2.2.2.2.2.2.2.2.2.2.2.2.2.1 s.2.2.2.2.2.2.2.2.2.2.2.2.2.2.2.2.2.2.2.2.2.2.2.2.2.2.2.2.1 (cmpF s.2.2.2.2.2.2.1 n), s.2.2.2.2.2.2.2.2.2.2.2.2.2.2.2.2.2.2.2.2.2.2.2.2.2.2.2.2.2.2.2)
def hpush (h : ZH) (s : ZS) (q b : Nat) : ZH := (updF h.1 s.2.2.2.2.2.2.2.2.2.2.2.2.2.2.2.2.2.2.2.2.2.2.2.2.2.2.2.2.1 q, updF h.2.1 s.2.2.2.2.2.2.2.2.2.2.2.2.2.2.2.2.2.2.2.2.2.2.2.2.2.2.2.2.1 b, updF h.2.2.1 s.2.2.2.2.2.2.2.2.2.2.2.2.2.2.2.2.2.2.2.2.2.2.2.2.2.2.2.2.1 false, h.2.2.2.1, zwv h s.2.2.2.2.1, h.2.2.2.2.2)
theorem zext_push {h : ZH} {s : ZS} {q b n : Nat} : zext h (hpush h s q b) s (zpush s n) :=
  ⟨fun j hj => updF_n (by omega), fun _ _ => rfl, Nat.le_succ _, Nat.le_refl _⟩
theorem spO_push {n q b L : Nat} {sa sv sl : Nat → Nat} {sf : Nat → AI} {sd : Nat → Bool} {f : AI} : spO (n + 1) (updF sa n q) (updF sv n b) (updF sl n L) (updF sf n f) (updF sd n false) = spO n sa sv sl sf sd ++ [scell q b L f false] := by
  unfold spO
  rw [List.range_succ, List.map_append]
  congr 1
  · apply List.map_congr_left
    intro j hj
    have hj : j ≠ n := by have := List.mem_range.mp hj; omega
    rw [updF_n hj, updF_n hj, updF_n hj, updF_n hj, updF_n hj]
  · simp [updF_s]
theorem spB_push {dA : Nat → ClassId} {n b L : Nat} {sv sl : Nat → Nat} {sf : Nat → AI} {f : AI} : spB dA (n + 1) (updF sv n b) (updF sl n L) (updF sf n f) = spB dA n sv sl sf ++ [bcell dA b L f] := by
  unfold spB
  rw [List.range_succ, List.map_append]
  congr 1
  · apply List.map_congr_left
    intro j hj
    have hj : j ≠ n := by have := List.mem_range.mp hj; omega
    rw [updF_n hj, updF_n hj, updF_n hj]
  · simp [updF_s]
theorem ppool_names {np : Nat} {pa pk : Nat → Nat} {pn pn' : Nat → Value} {pu pw pd pr ps pt : AI} (h : ∀ k, k < np → pn k = pn' k) : ppool np pa pk pn pu pw pd pr ps pt = ppool np pa pk pn' pu pw pd pr ps pt := by
  unfold ppool
  apply List.map_congr_left
  intro j hj
  unfold ppc
  rw [h j (List.mem_range.mp hj)]
theorem perm_push {X O B P : va_W} {c b : Nat × va_E} : ((((X ++ O) ++ B) ++ P) ++ [c] ++ [b]).Perm (((X ++ (O ++ [c])) ++ (B ++ [b])) ++ P) := by
  simp only [List.append_assoc]
  refine List.Perm.append_left X (List.Perm.append_left O ?_)
  have h1 : (B ++ (P ++ ([c] ++ [b]))).Perm (([c] ++ [b]) ++ (B ++ P)) := by rw [← List.append_assoc]; exact List.perm_append_comm
  refine h1.trans ?_
  simp only [List.append_assoc]
  refine List.Perm.append_left [c] ?_
  rw [← List.append_assoc, ← List.append_assoc]
  exact List.Perm.append_right P List.perm_append_comm
theorem zw_push {dA : Nat → ClassId} {za : Nat → Nat} {k9 : Int32 × Int32 × Int32} {tx : AI} {h : ZH} {s : ZS} {q b n : Nat} (hni : ∀ k, k < s.2.2.2.2.2.2.2.2.2.2.2.2.2.2.2.2.2.2.2.1 → s.2.2.2.2.2.2.2.2.2.2.2.2.2.2.2.2.2.2.2.2.2.1 k < s.2.2.2.2.2.2.2.2.2.2.2.2.2.2.2.2.2.2.2.2.2.2.2.2.2.2.2.2.1) : (zw dA za k9 tx h s ++ [scell q b n (cmpF s.2.2.2.2.2.2.1 n) false] ++ [bcell dA b n (cmpF s.2.2.2.2.2.2.1 n)]).Perm (zw dA za k9 tx (hpush h s q b) (zpush s n)) := by
  have e : zw dA za k9 tx (hpush h s q b) (zpush s n) = ((zlit dA za k9 tx h s ++ (spO s.2.2.2.2.2.2.2.2.2.2.2.2.2.2.2.2.2.2.2.2.2.2.2.2.2.2.2.2.1 h.1 h.2.1 s.2.2.2.2.2.2.2.2.2.2.2.2.2.2.2.2.2.2.2.2.2.2.2.2.2.2.2.2.2.1 s.2.2.2.2.2.2.2.2.2.2.2.2.2.2.2.2.2.2.2.2.2.2.2.2.2.2.2.2.2.2.1 h.2.2.1 ++ [scell q b n (cmpF s.2.2.2.2.2.2.1 n) false])) ++ (spB dA s.2.2.2.2.2.2.2.2.2.2.2.2.2.2.2.2.2.2.2.2.2.2.2.2.2.2.2.2.1 h.2.1 s.2.2.2.2.2.2.2.2.2.2.2.2.2.2.2.2.2.2.2.2.2.2.2.2.2.2.2.2.2.1 s.2.2.2.2.2.2.2.2.2.2.2.2.2.2.2.2.2.2.2.2.2.2.2.2.2.2.2.2.2.2.1 ++ [bcell dA b n (cmpF s.2.2.2.2.2.2.1 n)])) ++ ppool s.2.2.2.2.2.2.2.2.2.2.2.2.2.2.2.2.2.2.2.1 h.2.2.2.1 s.2.2.2.2.2.2.2.2.2.2.2.2.2.2.2.2.2.2.2.2.1 (fun k => .ref (h.1 (s.2.2.2.2.2.2.2.2.2.2.2.2.2.2.2.2.2.2.2.2.2.1 k))) s.2.2.2.2.2.2.2.2.2.2.2.2.2.2.2.2.2.2.2.2.2.2.1 s.2.2.2.2.2.2.2.2.2.2.2.2.2.2.2.2.2.2.2.2.2.2.2.1 s.2.2.2.2.2.2.2.2.2.2.2.2.2.2.2.2.2.2.2.2.2.2.2.2.1 s.2.2.2.2.2.2.2.2.2.2.2.2.2.2.2.2.2.2.2.2.2.2.2.2.2.1 s.2.2.2.2.2.2.2.2.2.2.2.2.2.2.2.2.2.2.2.2.2.2.2.2.2.2.1 s.2.2.2.2.2.2.2.2.2.2.2.2.2.2.2.2.2.2.2.2.2.2.2.2.2.2.2.1 := by
    rw [← spO_push, ← spB_push, ppool_names (pn' := fun k => .ref ((hpush h s q b).1 (s.2.2.2.2.2.2.2.2.2.2.2.2.2.2.2.2.2.2.2.2.2.1 k))) (fun k hk => by
      show Value.ref (h.1 _) = Value.ref (updF h.1 _ q _)
      rw [updF_n (Nat.ne_of_lt (hni k hk))])]
    rfl
  rw [e]
  exact perm_push
theorem nd2' {i j : Nat} (h : i ≠ j) : va_nd [i, j] = true := by
  simp [va_nd]
  exact h
theorem zw_len {dA : Nat → ClassId} {za : Nat → Nat} {k9 : Int32 × Int32 × Int32} {tx : AI} {h : ZH} {s : ZS} : (zw dA za k9 tx h s).length = 11 + s.2.2.2.2.2.2.2.2.2.2.2.2.2.2.2.2.2.2.2.2.2.2.2.2.2.2.2.2.1 + s.2.2.2.2.2.2.2.2.2.2.2.2.2.2.2.2.2.2.2.2.2.2.2.2.2.2.2.2.1 + s.2.2.2.2.2.2.2.2.2.2.2.2.2.2.2.2.2.2.2.1 := by
  unfold zw
  rw [List.length_append, zX_len]
  simp [ppool]
/-- a new person -/
def zok (o : Option Nat) (n : Nat) : Bool := match o with | none => true | some i => decide (i < n)
def zpers (s : ZS) (kd nm : Nat) (num : Int32) : ZS := (s.1, s.2.1, s.2.2.1, s.2.2.2.1, s.2.2.2.2.1, s.2.2.2.2.2.1, s.2.2.2.2.2.2.1, s.2.2.2.2.2.2.2.1, s.2.2.2.2.2.2.2.2.1, s.2.2.2.2.2.2.2.2.2.1, s.2.2.2.2.2.2.2.2.2.2.1, s.2.2.2.2.2.2.2.2.2.2.2.1, s.2.2.2.2.2.2.2.2.2.2.2.2.1, s.2.2.2.2.2.2.2.2.2.2.2.2.2.1, s.2.2.2.2.2.2.2.2.2.2.2.2.2.2.1, s.2.2.2.2.2.2.2.2.2.2.2.2.2.2.2.1, s.2.2.2.2.2.2.2.2.2.2.2.2.2.2.2.2.1, s.2.2.2.2.2.2.2.2.2.2.2.2.2.2.2.2.2.1, s.2.2.2.2.2.2.2.2.2.2.2.2.2.2.2.2.2.2.1, s.2.2.2.2.2.2.2.2.2.2.2.2.2.2.2.2.2.2.2.1 + 1, updF s.2.2.2.2.2.2.2.2.2.2.2.2.2.2.2.2.2.2.2.2.1 s.2.2.2.2.2.2.2.2.2.2.2.2.2.2.2.2.2.2.2.1 kd, updF s.2.2.2.2.2.2.2.2.2.2.2.2.2.2.2.2.2.2.2.2.2.1 s.2.2.2.2.2.2.2.2.2.2.2.2.2.2.2.2.2.2.2.1 nm, upd s.2.2.2.2.2.2.2.2.2.2.2.2.2.2.2.2.2.2.2.2.2.2.1 s.2.2.2.2.2.2.2.2.2.2.2.2.2.2.2.2.2.2.2.1 num, upd s.2.2.2.2.2.2.2.2.2.2.2.2.2.2.2.2.2.2.2.2.2.2.2.1 s.2.2.2.2.2.2.2.2.2.2.2.2.2.2.2.2.2.2.2.1 0, upd s.2.2.2.2.2.2.2.2.2.2.2.2.2.2.2.2.2.2.2.2.2.2.2.2.1 s.2.2.2.2.2.2.2.2.2.2.2.2.2.2.2.2.2.2.2.1 0, upd s.2.2.2.2.2.2.2.2.2.2.2.2.2.2.2.2.2.2.2.2.2.2.2.2.2.1 s.2.2.2.2.2.2.2.2.2.2.2.2.2.2.2.2.2.2.2.1 0, upd s.2.2.2.2.2.2.2.2.2.2.2.2.2.2.2.2.2.2.2.2.2.2.2.2.2.2.1 s.2.2.2.2.2.2.2.2.2.2.2.2.2.2.2.2.2.2.2.1 0, upd s.2.2.2.2.2.2.2.2.2.2.2.2.2.2.2.2.2.2.2.2.2.2.2.2.2.2.2.1 s.2.2.2.2.2.2.2.2.2.2.2.2.2.2.2.2.2.2.2.1 (-1), s.2.2.2.2.2.2.2.2.2.2.2.2.2.2.2.2.2.2.2.2.2.2.2.2.2.2.2.2.1, s.2.2.2.2.2.2.2.2.2.2.2.2.2.2.2.2.2.2.2.2.2.2.2.2.2.2.2.2.2.1, s.2.2.2.2.2.2.2.2.2.2.2.2.2.2.2.2.2.2.2.2.2.2.2.2.2.2.2.2.2.2.1, s.2.2.2.2.2.2.2.2.2.2.2.2.2.2.2.2.2.2.2.2.2.2.2.2.2.2.2.2.2.2.2)
def hpers (h : ZH) (s : ZS) (q : Nat) : ZH := (h.1, h.2.1, h.2.2.1, updF h.2.2.2.1 s.2.2.2.2.2.2.2.2.2.2.2.2.2.2.2.2.2.2.2.1 q, h.2.2.2.2)
theorem zext_pers {h : ZH} {s : ZS} {q kd nm : Nat} {num : Int32} : zext h (hpers h s q) s (zpers s kd nm num) :=
  ⟨fun _ _ => rfl, fun j hj => updF_n (by omega), Nat.le_refl _, Nat.le_succ _⟩
theorem ppool_push {n q kd : Nat} {pa pk : Nat → Nat} {pn : Nat → Value} {pu pw pd pr ps pt : AI} {nm : Value} {a1 a2 a3 a4 a5 a6 : Int32} : ppool (n + 1) (updF pa n q) (updF pk n kd) (updF pn n nm) (upd pu n a1) (upd pw n a2) (upd pd n a3) (upd pr n a4) (upd ps n a5) (upd pt n a6) = ppool n pa pk pn pu pw pd pr ps pt ++ [(q, .inr (7 + kd, [nm, .int a1, .int a2, .int a3, .int a4, .int a5, .int a6]))] := by
  unfold ppool
  rw [List.range_succ, List.map_append]
  congr 1
  · apply List.map_congr_left
    intro j hj
    have hj : j ≠ n := by have := List.mem_range.mp hj; omega
    unfold ppc
    rw [updF_n hj, updF_n hj, updF_n hj, upd_ne hj, upd_ne hj, upd_ne hj, upd_ne hj, upd_ne hj, upd_ne hj]
  · simp [ppc, updF_s, upd_eq]
theorem zw_pers {dA : Nat → ClassId} {za : Nat → Nat} {k9 : Int32 × Int32 × Int32} {tx : AI} {h : ZH} {s : ZS} {q kd nm : Nat} {num : Int32} (hak : zok s.2.2.2.2.2.1 s.2.2.2.2.2.2.2.2.2.2.2.2.2.2.2.2.2.2.2.1 = true) (hcn : s.2.2.2.2.2.2.2.2.2.2.2.2.2.2.2.2.2.2.2.2.2.2.2.2.2.2.2.2.2.2.2 ≤ s.2.2.2.2.2.2.2.2.2.2.2.2.2.2.2.2.2.2.2.1) : zw dA za k9 tx h s ++ [(q, .inr (7 + kd, [.ref (h.1 nm), .int num, .int 0, .int 0, .int 0, .int 0, .int (-1)]))] = zw dA za k9 tx (hpers h s q) (zpers s kd nm num) := by
  have e1 : pref s.2.2.2.2.2.2.2.2.2.2.2.2.2.2.2.2.2.2.2.2.2.2.2.2.2.2.2.2.2.2.2 (updF h.2.2.2.1 s.2.2.2.2.2.2.2.2.2.2.2.2.2.2.2.2.2.2.2.1 q) = pref s.2.2.2.2.2.2.2.2.2.2.2.2.2.2.2.2.2.2.2.2.2.2.2.2.2.2.2.2.2.2.2 h.2.2.2.1 := by
    funext j
    unfold pref
    by_cases hj : j < s.2.2.2.2.2.2.2.2.2.2.2.2.2.2.2.2.2.2.2.2.2.2.2.2.2.2.2.2.2.2.2
    · rw [if_pos hj, if_pos hj, updF_n (by omega)]
    · rw [if_neg hj, if_neg hj]
  have e2 : zav (hpers h s q) s.2.2.2.2.2.1 = zav h s.2.2.2.2.2.1 := by
    cases ha : s.2.2.2.2.2.1 with
    | none => rfl
    | some i =>
      rw [ha] at hak
      have hi : i < s.2.2.2.2.2.2.2.2.2.2.2.2.2.2.2.2.2.2.2.1 := by simpa [zok] using hak
      show Value.ref (updF h.2.2.2.1 _ q i) = Value.ref _
      rw [updF_n (Nat.ne_of_lt hi)]
  have e3 : zlit dA za k9 tx (hpers h s q) (zpers s kd nm num) = zlit dA za k9 tx h s := by
    show [_, _, _, _, _, _, _, _, _, _, _] = [_, _, _, _, _, _, _, _, _, _, _]
    rw [show zav (hpers h s q) (zpers s kd nm num).2.2.2.2.2.1 = zav h s.2.2.2.2.2.1 from e2, show pref (zpers s kd nm num).2.2.2.2.2.2.2.2.2.2.2.2.2.2.2.2.2.2.2.2.2.2.2.2.2.2.2.2.2.2.2 (hpers h s q).2.2.2.1 = pref s.2.2.2.2.2.2.2.2.2.2.2.2.2.2.2.2.2.2.2.2.2.2.2.2.2.2.2.2.2.2.2 h.2.2.2.1 from e1]
    rfl
  have e4 : (fun k => Value.ref ((hpers h s q).1 ((zpers s kd nm num).2.2.2.2.2.2.2.2.2.2.2.2.2.2.2.2.2.2.2.2.2.1 k))) = updF (fun k => Value.ref (h.1 (s.2.2.2.2.2.2.2.2.2.2.2.2.2.2.2.2.2.2.2.2.2.1 k))) s.2.2.2.2.2.2.2.2.2.2.2.2.2.2.2.2.2.2.2.1 (.ref (h.1 nm)) := by
    funext k
    by_cases hk : k = s.2.2.2.2.2.2.2.2.2.2.2.2.2.2.2.2.2.2.2.1
    · subst hk
      rw [updF_s]
      show Value.ref (h.1 (updF s.2.2.2.2.2.2.2.2.2.2.2.2.2.2.2.2.2.2.2.2.2.1 _ nm _)) = _
      rw [updF_s]
    · rw [updF_n hk]
      show Value.ref (h.1 (updF s.2.2.2.2.2.2.2.2.2.2.2.2.2.2.2.2.2.2.2.2.2.1 _ nm _)) = _
      rw [updF_n hk]
  show _ = ((zlit dA za k9 tx (hpers h s q) (zpers s kd nm num) ++ _) ++ _) ++ ppool _ _ _ (fun k => Value.ref ((hpers h s q).1 ((zpers s kd nm num).2.2.2.2.2.2.2.2.2.2.2.2.2.2.2.2.2.2.2.2.2.1 k))) _ _ _ _ _ _
  rw [e3, e4]
  show _ = _ ++ ppool (s.2.2.2.2.2.2.2.2.2.2.2.2.2.2.2.2.2.2.2.1 + 1) (updF h.2.2.2.1 s.2.2.2.2.2.2.2.2.2.2.2.2.2.2.2.2.2.2.2.1 q) (updF s.2.2.2.2.2.2.2.2.2.2.2.2.2.2.2.2.2.2.2.2.1 s.2.2.2.2.2.2.2.2.2.2.2.2.2.2.2.2.2.2.2.1 kd) _ (upd s.2.2.2.2.2.2.2.2.2.2.2.2.2.2.2.2.2.2.2.2.2.2.1 s.2.2.2.2.2.2.2.2.2.2.2.2.2.2.2.2.2.2.2.1 num) (upd s.2.2.2.2.2.2.2.2.2.2.2.2.2.2.2.2.2.2.2.2.2.2.2.1 s.2.2.2.2.2.2.2.2.2.2.2.2.2.2.2.2.2.2.2.1 0) (upd s.2.2.2.2.2.2.2.2.2.2.2.2.2.2.2.2.2.2.2.2.2.2.2.2.1 s.2.2.2.2.2.2.2.2.2.2.2.2.2.2.2.2.2.2.2.1 0) (upd s.2.2.2.2.2.2.2.2.2.2.2.2.2.2.2.2.2.2.2.2.2.2.2.2.2.1 s.2.2.2.2.2.2.2.2.2.2.2.2.2.2.2.2.2.2.2.1 0) (upd s.2.2.2.2.2.2.2.2.2.2.2.2.2.2.2.2.2.2.2.2.2.2.2.2.2.2.1 s.2.2.2.2.2.2.2.2.2.2.2.2.2.2.2.2.2.2.2.1 0) (upd s.2.2.2.2.2.2.2.2.2.2.2.2.2.2.2.2.2.2.2.2.2.2.2.2.2.2.2.1 s.2.2.2.2.2.2.2.2.2.2.2.2.2.2.2.2.2.2.2.1 (-1))
  rw [ppool_push, ← List.append_assoc]
  rfl
theorem pref_push {n : Nat} {pa : Nat → Nat} {i : Nat} (hi : i = n) : va_up (pref n pa) i (some (pa n)) = pref (n + 1) pa := by
  subst hi
  funext j
  unfold va_up pref
  by_cases h1 : j = i
  · rw [if_pos h1, if_pos (by omega), h1]
  · rw [if_neg h1]
    by_cases h2 : j < i
    · rw [if_pos h2, if_pos (by omega)]
    · rw [if_neg h2, if_neg (by omega)]
def zcn (s : ZS) : ZS := (s.1, s.2.1, s.2.2.1, s.2.2.2.1, s.2.2.2.2.1, s.2.2.2.2.2.1, s.2.2.2.2.2.2.1, s.2.2.2.2.2.2.2.1, s.2.2.2.2.2.2.2.2.1, s.2.2.2.2.2.2.2.2.2.1, s.2.2.2.2.2.2.2.2.2.2.1, s.2.2.2.2.2.2.2.2.2.2.2.1, s.2.2.2.2.2.2.2.2.2.2.2.2.1, s.2.2.2.2.2.2.2.2.2.2.2.2.2.1, s.2.2.2.2.2.2.2.2.2.2.2.2.2.2.1, s.2.2.2.2.2.2.2.2.2.2.2.2.2.2.2.1, s.2.2.2.2.2.2.2.2.2.2.2.2.2.2.2.2.1, s.2.2.2.2.2.2.2.2.2.2.2.2.2.2.2.2.2.1, s.2.2.2.2.2.2.2.2.2.2.2.2.2.2.2.2.2.2.1, s.2.2.2.2.2.2.2.2.2.2.2.2.2.2.2.2.2.2.2.1, s.2.2.2.2.2.2.2.2.2.2.2.2.2.2.2.2.2.2.2.2.1, s.2.2.2.2.2.2.2.2.2.2.2.2.2.2.2.2.2.2.2.2.2.1, s.2.2.2.2.2.2.2.2.2.2.2.2.2.2.2.2.2.2.2.2.2.2.1, s.2.2.2.2.2.2.2.2.2.2.2.2.2.2.2.2.2.2.2.2.2.2.2.1, s.2.2.2.2.2.2.2.2.2.2.2.2.2.2.2.2.2.2.2.2.2.2.2.2.1, s.2.2.2.2.2.2.2.2.2.2.2.2.2.2.2.2.2.2.2.2.2.2.2.2.2.1, s.2.2.2.2.2.2.2.2.2.2.2.2.2.2.2.2.2.2.2.2.2.2.2.2.2.2.1, s.2.2.2.2.2.2.2.2.2.2.2.2.2.2.2.2.2.2.2.2.2.2.2.2.2.2.2.1, s.2.2.2.2.2.2.2.2.2.2.2.2.2.2.2.2.2.2.2.2.2.2.2.2.2.2.2.2.1, s.2.2.2.2.2.2.2.2.2.2.2.2.2.2.2.2.2.2.2.2.2.2.2.2.2.2.2.2.2.1, s.2.2.2.2.2.2.2.2.2.2.2.2.2.2.2.2.2.2.2.2.2.2.2.2.2.2.2.2.2.2.1, s.2.2.2.2.2.2.2.2.2.2.2.2.2.2.2.2.2.2.2.2.2.2.2.2.2.2.2.2.2.2.2 + 1)
theorem one_P {D : va_G} {cl : List vw_C} {a : Nat × va_E} {H : Heap} (ha : va_at D cl a H) : va_P D cl [a] H := va_P_of.mpr fun q hq => by rw [List.mem_singleton.mp hq]; exact ha
section ZS_
variable {p : Program} {l : Launch} {e : Env} {R : Room} {s0 : State} {m : MethodId} {args : Array Value} {below : List Frame} {meth : Method} {c : Code} {H : Heap} {locs : List Loc} {cells slots : Nat} {Q : State → Prop}
variable {pc : Nat} {ls : Array Slot} {rest st0 : List Value} {a : Array Value} {A : Nat → Prop} {H0 : Heap} {D : va_G} {dA : Nat → ClassId} {za : Nat → Nat} {k9 : Int32 × Int32 × Int32} {tx : AI} {h : ZH} {s : ZS} {q n : Nat}
set_option maxHeartbeats 4000000 in
theorem z_ast {K : Nat} {cc : ByteArray} {i : Int32} (hx : p.tables.exec = Jvm.exec) (hb : c.code = cc) (hK : KK D dA s0) (hP : va_P D clG (zw dA za k9 tx h s) H) (hD : va_D A (zw dA za k9 tx h s)) (hS : va_S A H0 H locs) (hC : kC A s0 s0.heap) (h1 : K < s.2.2.2.2.2.2.2.2.2.2.2.2.2.2.2.2.2.2.2.1) (h4 : s.2.2.2.2.2.2.2.2.2.2.2.2.2.2.2.2.2.2.2.2.1 K < 4) (hk : K = s.2.2.2.2.2.2.2.2.2.2.2.2.2.2.2.2.2.2.2.2.2.2.2.2.2.2.2.2.2.2.2) (hi : i.toNatClampNeg = s.2.2.2.2.2.2.2.2.2.2.2.2.2.2.2.2.2.2.2.2.2.2.2.2.2.2.2.2.2.2.2) (hin : vp_in i 6) (hdg : decode cc pc = .ok (.aastore, 1))
    (kk : ∀ (H1 : Heap) (locs1 : List Loc), va_P D clG (zw dA za k9 tx h (zcn s)) H1 → va_D A (zw dA za k9 tx h (zcn s)) → va_S A H0 H1 locs1 → W p l e R s0 m args below meth c H1 locs1 cells slots Q (F0 m (pc + 1) ls rest)) : W p l e R s0 m args below meth c H locs cells slots Q (F0 m pc ls (.ref (h.2.2.2.1 K) :: .int i :: .ref (za 5) :: rest)) := by
  have he : (zw dA za k9 tx h s)[11 + s.2.2.2.2.2.2.2.2.2.2.2.2.2.2.2.2.2.2.2.2.2.2.2.2.2.2.2.2.1 + s.2.2.2.2.2.2.2.2.2.2.2.2.2.2.2.2.2.2.2.2.2.2.2.2.2.2.2.2.1 + K]? = some (h.2.2.2.1 K, .inr (7 + s.2.2.2.2.2.2.2.2.2.2.2.2.2.2.2.2.2.2.2.2.1 K, _)) := pp_get zX_len h1
  have eU : va_up (pref s.2.2.2.2.2.2.2.2.2.2.2.2.2.2.2.2.2.2.2.2.2.2.2.2.2.2.2.2.2.2.2 h.2.2.2.1) i.toNatClampNeg (some (h.2.2.2.1 K)) = pref (s.2.2.2.2.2.2.2.2.2.2.2.2.2.2.2.2.2.2.2.2.2.2.2.2.2.2.2.2.2.2.2 + 1) h.2.2.2.1 := by rw [hk]; exact pref_push hi
  have fin : ∀ (H1 : Heap) (locs1 : List Loc), va_P D clG ((zw dA za k9 tx h s).set 5 (za 5, .inl (dA 4, 6, .inr (.inr (.inr (.inr (va_up (pref s.2.2.2.2.2.2.2.2.2.2.2.2.2.2.2.2.2.2.2.2.2.2.2.2.2.2.2.2.2.2.2 h.2.2.2.1) i.toNatClampNeg (some (h.2.2.2.1 K))))))))) H1 → va_D A ((zw dA za k9 tx h s).set 5 (za 5, .inl (dA 4, 6, .inr (.inr (.inr (.inr (va_up (pref s.2.2.2.2.2.2.2.2.2.2.2.2.2.2.2.2.2.2.2.2.2.2.2.2.2.2.2.2.2.2.2 h.2.2.2.1) i.toNatClampNeg (some (h.2.2.2.1 K))))))))) → va_S A H0 H1 locs1 → W p l e R s0 m args below meth c H1 locs1 cells slots Q (F0 m (pc + 1) ls rest) := by
    intro H1 locs1 hP1 hD1 hS1
    rw [eU] at hP1 hD1
    exact kk H1 locs1 hP1 hD1 hS1
  rcases (show s.2.2.2.2.2.2.2.2.2.2.2.2.2.2.2.2.2.2.2.2.1 K = 0 ∨ s.2.2.2.2.2.2.2.2.2.2.2.2.2.2.2.2.2.2.2.2.1 K = 1 ∨ s.2.2.2.2.2.2.2.2.2.2.2.2.2.2.2.2.2.2.2.2.1 K = 2 ∨ s.2.2.2.2.2.2.2.2.2.2.2.2.2.2.2.2.2.2.2.2.1 K = 3 by omega) with q | q | q | q
  · rw [q] at he
    exact va_astqO (r := (RX10, TX10, 7)) hx hb hK.1 hP hD hS 5 4 _ 7 (E := "LastAsked$Person") rfl rfl (hC 0 (by decide)) he rfl hin hdg fin
  · rw [q] at he
    exact va_astqO (r := (RX11, TX11, 7)) hx hb hK.1 hP hD hS 5 4 _ 8 (E := "LastAsked$Person") rfl rfl (hC 1 (by decide)) he rfl hin hdg fin
  · rw [q] at he
    exact va_astqO (r := (RX12, TX12, 7)) hx hb hK.1 hP hD hS 5 4 _ 9 (E := "LastAsked$Person") rfl rfl (hC 2 (by decide)) he rfl hin hdg fin
  · rw [q] at he
    exact va_astqO (r := (RX13, TX13, 7)) hx hb hK.1 hP hD hS 5 4 _ 10 (E := "LastAsked$Person") rfl rfl (hC 3 (by decide)) he rfl hin hdg fin
def nulS (q : Nat) : Nat × va_E := (q, .inr (13, [.null, .int 0, .int 0, .int 0]))
/-- a new word goes to the strings -/
theorem z_str (hr : va_Run p l e R s0 m args below meth c H locs cells slots 1 8 (F0 m pc ls st0) rest (qv_ D (fun (u : Nat) => [(q, .inr (13, [.ref u, .int 0, .int 0, .int 0])), (za 3, .inl (dA 3, 8, .inl s.2.2.2.2.2.2.1))] ++ [(u, .inl (dA 2, n, .inl (cmpF s.2.2.2.2.2.2.1 n)))]) (va_A [nulS q, (za 3, .inl (dA 3, 8, .inl s.2.2.2.2.2.2.1))] H.size) a) (va_A [nulS q, (za 3, .inl (dA 3, 8, .inl s.2.2.2.2.2.2.1))] H.size))
    (hP : va_P D clG (zw dA za k9 tx h s ++ [nulS q]) H) (hD : va_D A (zw dA za k9 tx h s ++ [nulS q])) (hS : va_S A H0 H locs) (hA : ∀ q, H0.size ≤ q → A q) (hni : ∀ k, k < s.2.2.2.2.2.2.2.2.2.2.2.2.2.2.2.2.2.2.2.1 → s.2.2.2.2.2.2.2.2.2.2.2.2.2.2.2.2.2.2.2.2.2.1 k < s.2.2.2.2.2.2.2.2.2.2.2.2.2.2.2.2.2.2.2.2.2.2.2.2.2.2.2.2.1)
    (kk : ∀ (u : ZH) (H1 : Heap) (locs1 : List Loc), zext h u s (zpush s n) → u.1 s.2.2.2.2.2.2.2.2.2.2.2.2.2.2.2.2.2.2.2.2.2.2.2.2.2.2.2.2.1 = q → va_P D clG (zw dA za k9 tx u (zpush s n)) H1 → va_D A (zw dA za k9 tx u (zpush s n)) → va_S A H0 H1 locs1 → W p l e R s0 m args below meth c H1 locs1 (cells + 1) (slots + 8) Q (F0 m (pc + 3) ls rest)) : W p l e R s0 m args below meth c H locs cells slots Q (F0 m pc ls st0) := by
  have hC : [(zw dA za k9 tx h s).length, 3].map (fun i => (zw dA za k9 tx h s ++ [nulS q])[i]?) = [nulS q, (za 3, (.inl (dA 3, 8, .inl s.2.2.2.2.2.2.1) : va_E))].map some := by
    rw [List.map_cons, List.map_cons, List.map_nil, List.getElem?_concat_length]
    rfl
  refine k_v [(zw dA za k9 tx h s).length, 3] hr hP hD hS hA hC (fun _ => rfl) (fun u H1 locs1 hP hD hS => ?_)
  have e : putAt (zw dA za k9 tx h s ++ [nulS q]) [(zw dA za k9 tx h s).length, 3] [(q, .inr (13, [.ref u, .int 0, .int 0, .int 0])), (za 3, .inl (dA 3, 8, .inl s.2.2.2.2.2.2.1))] = zw dA za k9 tx h s ++ [scell q u n (cmpF s.2.2.2.2.2.2.1 n) false] := by
    rw [putAt, putAt, putAt, List.set_append_right _ _ (Nat.le_refl _), Nat.sub_self]
    rfl
  rw [e] at hP hD
  have pm := zw_push (dA := dA) (za := za) (k9 := k9) (tx := tx) (h := h) (s := s) (q := q) (b := u) (n := n) hni
  exact kk (hpush h s q u) H1 locs1 zext_push updF_s (hP.perm pm) (hD.perm pm) hS
end ZS_
