set_option maxRecDepth 100000
/-! the classes whose objects the worlds hold; the array classes; the words that do not ride in the lists; call rows of my own -/
def clG : List vw_C := [(RX1, TX1, 20), (RX2, TX2, 11), (RX3, TX3, 8), (RX4, TX4, 8), (RX5, TX5, 2), (RX6, TX6, 8), (RX8, TX8, 13), (RX10, TX10, 7), (RX11, TX11, 7), (RX12, TX12, 7), (RX13, TX13, 7), (RX7, TX7, 37), (RX14, TX14, 17), (RJ3, TJ3, 4)]
def tyG (dA : Nat → ClassId) : List (ClassId × FieldType) := [(dA 0, .int), (dA 1, .long), (dA 2, .byte), (dA 3, .char), (dA 4, .object "LastAsked$Person"), (dA 5, .object "LastAsked$Town")]
def nwG : List Cond := [.declares ⟨"java/lang/RuntimeException", "<init>", "()V"⟩, .declares ⟨"java/lang/RuntimeException", "<init>", "(Ljava/lang/String;)V"⟩, .declares ⟨"java/lang/Exception", "<init>", "()V"⟩, .declares ⟨"java/lang/Exception", "<init>", "(Ljava/lang/String;)V"⟩, .declares ⟨"java/lang/Throwable", "<init>", "()V"⟩, .declares ⟨"java/lang/Throwable", "<init>", "(Ljava/lang/String;)V"⟩, .methodLinkNest "LastAsked" 32 ⟨"LastAsked$Town", "<init>", "()V"⟩ "LastAsked", .methodLinkNest "LastAsked" 45 ⟨"LastAsked$Night", "<init>", "()V"⟩ "LastAsked", .methodLinkNest "LastAsked$Night" 11 ⟨"LastAsked$Town", "<init>", "()V"⟩ "LastAsked", .arrayOver (.object "LastAsked$Town"), .methodLinkNest "LastAsked$Asks" 25 ⟨"LastAsked$Town", "<init>", "()V"⟩ "LastAsked", .methodLinkNest "LastAsked$Scanner" 123 ⟨"LastAsked$City", "<init>", "()V"⟩ "LastAsked", .arrayOver (.object "LastAsked$Person"), .methodLinkNest "LastAsked$Scanner" 36 ⟨"LastAsked", "in", "(III)Z"⟩ "LastAsked", .declares ⟨"jdk/internal/access/JavaLangAccess", "getUTF16Char", "([BI)C"⟩, .methodLinkNest "LastAsked$Scanner" 222 ⟨"LastAsked", "has", "(II)Z"⟩ "LastAsked", .declares ⟨"LastAsked$Person", "mayBeAskedBy", "(I)Z"⟩, .methodLinkNest "LastAsked$Walled" 21 ⟨"LastAsked", "has", "(II)Z"⟩ "LastAsked", .declares ⟨"LastAsked$Person", "kind", "()I"⟩, .methodLinkNest "LastAsked$Town" 64 ⟨"LastAsked", "has", "(II)Z"⟩ "LastAsked", .methodLinkNest "LastAsked$Night" 32 ⟨"LastAsked", "has", "(II)Z"⟩ "LastAsked", .methodLinkNest "LastAsked$Asks" 79 ⟨"LastAsked", "has", "(II)Z"⟩ "LastAsked", .methodLinkNest "LastAsked" 246 ⟨"LastAsked$Asks", "apart", "(LLastAsked$City;II)I"⟩ "LastAsked", .fieldLinkNest "LastAskedModel" 152 "LastAskedModel$City" "hour" "I" "LastAskedModel", .fieldLinkNest "LastAskedModel" 198 "LastAskedModel$City" "gives" "I" "LastAskedModel", .fieldLinkNest "LastAskedModel" 170 "LastAskedModel$City" "people" "I" "LastAskedModel", .fieldLinkNest "LastAskedModel" 227 "LastAskedModel$City" "nears" "I" "LastAskedModel", .fieldLinkNest "LastAskedModel" 247 "LastAskedModel$City" "askeds" "I" "LastAskedModel", .fieldLinkNest "LastAskedModel" 255 "LastAskedModel$City" "heards" "I" "LastAskedModel", .fieldLinkNest "LastAskedModel" 270 "LastAskedModel$City" "wents" "I" "LastAskedModel", .fieldLinkNest "LastAskedModel" 220 "LastAskedModel$City" "kind" "[I" "LastAskedModel", .fieldLinkNest "LastAskedModel" 223 "LastAskedModel$City" "has" "[I" "LastAskedModel", .fieldLinkNest "LastAskedModel" 225 "LastAskedModel$City" "dies" "[I" "LastAskedModel", .fieldLinkNest "LastAskedModel" 233 "LastAskedModel$City" "near" "[I" "LastAskedModel", .fieldLinkNest "LastAskedModel" 268 "LastAskedModel$City" "went" "[I" "LastAskedModel", .fieldLinkNest "LastAskedModel" 242 "LastAskedModel$City" "asked" "[I" "LastAskedModel", .fieldLinkNest "LastAskedModel" 260 "LastAskedModel$City" "by" "[I" "LastAskedModel", .fieldLinkNest "LastAskedModel" 263 "LastAskedModel$City" "of" "[I" "LastAskedModel", .fieldLinkNest "LastAskedModel" 266 "LastAskedModel$City" "give" "[I" "LastAskedModel", .fieldLinkNest "LastAskedModel" 216 "LastAskedModel$City" "name" "[J" "LastAskedModel", .methodLinkNest "LastAskedModel$City" 50 ⟨"LastAskedModel", "bit", "(II)Z"⟩ "LastAskedModel"]
def NW (U : State) : Prop := ∀ w ∈ nwG, va_Nw w U
theorem NW.warm {s U : State} (hW : s.WarmedH U.vm) (h : NW s) : NW U := by
  intro w hw
  have h0 := h w hw
  simp only [nwG, List.mem_cons, List.not_mem_nil, or_false] at hw
  rcases hw with rfl | rfl | rfl | rfl | rfl | rfl | rfl | rfl | rfl | rfl | rfl | rfl | rfl | rfl | rfl | rfl | rfl | rfl | rfl | rfl | rfl | rfl | rfl | rfl | rfl | rfl | rfl | rfl | rfl | rfl | rfl | rfl | rfl | rfl | rfl | rfl | rfl | rfl | rfl | rfl | rfl
  · exact va_Nw.warmD hW h0
  · exact va_Nw.warmD hW h0
  · exact va_Nw.warmD hW h0
  · exact va_Nw.warmD hW h0
  · exact va_Nw.warmD hW h0
  · exact va_Nw.warmD hW h0
  · exact va_Nw.warmM hW h0
  · exact va_Nw.warmM hW h0
  · exact va_Nw.warmM hW h0
  · exact va_AO.moved hW.alike h0
  · exact va_Nw.warmM hW h0
  · exact va_Nw.warmM hW h0
  · exact va_AO.moved hW.alike h0
  · exact va_Nw.warmM hW h0
  · exact va_Nw.warmD hW h0
  · exact va_Nw.warmM hW h0
  · exact va_Nw.warmD hW h0
  · exact va_Nw.warmM hW h0
  · exact va_Nw.warmD hW h0
  · exact va_Nw.warmM hW h0
  · exact va_Nw.warmM hW h0
  · exact va_Nw.warmM hW h0
  · exact va_Nw.warmM hW h0
  · exact va_Nw.warmF hW h0
  · exact va_Nw.warmF hW h0
  · exact va_Nw.warmF hW h0
  · exact va_Nw.warmF hW h0
  · exact va_Nw.warmF hW h0
  · exact va_Nw.warmF hW h0
  · exact va_Nw.warmF hW h0
  · exact va_Nw.warmF hW h0
  · exact va_Nw.warmF hW h0
  · exact va_Nw.warmF hW h0
  · exact va_Nw.warmF hW h0
  · exact va_Nw.warmF hW h0
  · exact va_Nw.warmF hW h0
  · exact va_Nw.warmF hW h0
  · exact va_Nw.warmF hW h0
  · exact va_Nw.warmF hW h0
  · exact va_Nw.warmF hW h0
  · exact va_Nw.warmM hW h0
theorem NW.same {u U : State} (hv : u.vm = U.vm) (h : NW u) : NW U := by
  intro w hw
  have h0 := h w hw
  simp only [nwG, List.mem_cons, List.not_mem_nil, or_false] at hw
  rcases hw with rfl | rfl | rfl | rfl | rfl | rfl | rfl | rfl | rfl | rfl | rfl | rfl | rfl | rfl | rfl | rfl | rfl | rfl | rfl | rfl | rfl | rfl | rfl | rfl | rfl | rfl | rfl | rfl | rfl | rfl | rfl | rfl | rfl | rfl | rfl | rfl | rfl | rfl | rfl | rfl | rfl
  · exact va_Nw.same rfl hv h0
  · exact va_Nw.same rfl hv h0
  · exact va_Nw.same rfl hv h0
  · exact va_Nw.same rfl hv h0
  · exact va_Nw.same rfl hv h0
  · exact va_Nw.same rfl hv h0
  · exact va_Nw.same rfl hv h0
  · exact va_Nw.same rfl hv h0
  · exact va_Nw.same rfl hv h0
  · exact va_AO.moved (by rw [hv]; exact Vm.Alike.refl _) h0
  · exact va_Nw.same rfl hv h0
  · exact va_Nw.same rfl hv h0
  · exact va_AO.moved (by rw [hv]; exact Vm.Alike.refl _) h0
  · exact va_Nw.same rfl hv h0
  · exact va_Nw.same rfl hv h0
  · exact va_Nw.same rfl hv h0
  · exact va_Nw.same rfl hv h0
  · exact va_Nw.same rfl hv h0
  · exact va_Nw.same rfl hv h0
  · exact va_Nw.same rfl hv h0
  · exact va_Nw.same rfl hv h0
  · exact va_Nw.same rfl hv h0
  · exact va_Nw.same rfl hv h0
  · exact va_Nw.same rfl hv h0
  · exact va_Nw.same rfl hv h0
  · exact va_Nw.same rfl hv h0
  · exact va_Nw.same rfl hv h0
  · exact va_Nw.same rfl hv h0
  · exact va_Nw.same rfl hv h0
  · exact va_Nw.same rfl hv h0
  · exact va_Nw.same rfl hv h0
  · exact va_Nw.same rfl hv h0
  · exact va_Nw.same rfl hv h0
  · exact va_Nw.same rfl hv h0
  · exact va_Nw.same rfl hv h0
  · exact va_Nw.same rfl hv h0
  · exact va_Nw.same rfl hv h0
  · exact va_Nw.same rfl hv h0
  · exact va_Nw.same rfl hv h0
  · exact va_Nw.same rfl hv h0
  · exact va_Nw.same rfl hv h0
/-- what is known of the tables all through the run -/
def KK (D : va_G) (dA : Nat → ClassId) (U : State) : Prop := va_K D clG (tyG dA) U ∧ NW U
theorem KK.warm {D : va_G} {dA : Nat → ClassId} {s U : State} (hW : s.WarmedH U.vm) (h : KK D dA s) : KK D dA U := ⟨va_K.moved hW.alike h.1, NW.warm hW h.2⟩
theorem KK.same {D : va_G} {dA : Nat → ClassId} {u U : State} (hv : u.vm = U.vm) (h : KK D dA u) : KK D dA U := ⟨va_K.moved (u := u) (U := U) (by rw [hv]; exact Vm.Alike.refl U.vm) h.1, NW.same hv h.2⟩
theorem KK.nw {D : va_G} {dA : Nat → ClassId} {s : State} (h : KK D dA s) (i : Nat) {w : Cond} (hw : nwG[i]? = some w) : va_Nw w s := h.2 w (List.mem_of_getElem? hw)
/-- a contract's start -/
def pre_ (D : va_G) (dA : Nat → ClassId) (av : List Value) (ws : va_W) (sz : Nat) : Array Value → State → Prop := va_Pc av (fun U => U.heap.size = sz ∧ va_P D clG ws U.heap ∧ KK D dA U ∧ va_D (fun _ => True) ws)
theorem pre_blind {D : va_G} {dA : Nat → ClassId} {av : List Value} {ws : va_W} {sz : Nat} : FrameBlind (pre_ D dA av ws sz) := fun a U g mk q => by
  obtain ⟨q0, q1, qP, qK, qD⟩ := q
  exact ⟨q0, q1, qP, KK.same (u := U) (U := U.calling g mk a) rfl qK, qD⟩
theorem pre_S {D : va_G} {dA : Nat → ClassId} {As : List Value} {wc : va_W} {A : Nat → Prop} {s : State} {H : Heap} (hP : va_P D clG wc H) (hK : KK D dA s) (hD : va_D A wc) : PreS s H (pre_ D dA As wc H.size) As :=
  ⟨pre_blind, fun U hU hW => ⟨rfl, by rw [hU], by rw [hU]; exact hP, KK.warm hW hK, hD.weaken (fun _ _ _ _ => trivial)⟩⟩
theorem pre_V {D : va_G} {dA : Nat → ClassId} {b q0 ci : Nat} {As : List Value} {q : vw_C} {fs : List Value} {wc : va_W} {A : Nat → Prop} {s : State} {H : Heap} (hP : va_P D clG wc H) (hK : KK D dA s) (hD : va_D A wc) (hc : clG[ci]? = some q) (he : wc[q0]? = some (b, .inr (ci, fs))) : PreV s H q.1 b (pre_ D dA (.ref b :: As) wc H.size) As :=
  ⟨pre_blind, va_recv hK.1 hP hc he, (pre_S hP hK hD).2⟩
/-- a contract's end: an answer that is known, a world with what was made -/
def qi_ {S : Type} (D : va_G) (r0 : Int32) (w : S → va_W) (A : Nat → Prop) : Array Value → State → Outcome → State → Prop := va_Qi (fun r (_ : S) => r = r0) (fun u t => va_P D clG (w u) t.heap ∧ va_D A (w u)) A
def ql_ {S : Type} (D : va_G) (r0 : Int64) (w : S → va_W) (A : Nat → Prop) : Array Value → State → Outcome → State → Prop := va_Ql (fun r (_ : S) => r = r0) (fun u t => va_P D clG (w u) t.heap ∧ va_D A (w u)) A
def qv_ {S : Type} (D : va_G) (w : S → va_W) (A : Nat → Prop) : Array Value → State → Outcome → State → Prop := va_Qv (fun (_ : S) => True) (fun u t => va_P D clG (w u) t.heap ∧ va_D A (w u)) A
def qr_ {S : Type} (D : va_G) (r0 : S → Nat) (w : S → va_W) (A : Nat → Prop) : Array Value → State → Outcome → State → Prop := va_Qr (fun (_ : S) => True) (fun u a t => a = r0 u ∧ va_P D clG (w u) t.heap ∧ va_D A (w u)) A
/-- cells put at their places -/
def putAt : va_W → List Nat → va_W → va_W
  | ws, [], _ => ws
  | ws, _ :: _, [] => ws
  | ws, i :: is, c :: cs => putAt (ws.set i c) is cs
theorem putAt_mem : ∀ (is : List Nat) (ws c1 : va_W) (k : Nat) (q : Nat × va_E), is.length ≤ c1.length → (putAt ws is c1)[k]? = some q → (∃ j : Nat, j < is.length ∧ c1[j]? = some q) ∨ (ws[k]? = some q ∧ k ∉ is)
  | [], ws, c1, k, q, _, h => Or.inr ⟨by simpa [putAt] using h, List.not_mem_nil⟩
  | i :: is, ws, [], k, q, hl, h => by simp at hl
  | i :: is, ws, c :: cs, k, q, hl, h => by
    rcases putAt_mem is (ws.set i c) cs k q (by simpa using hl) h with ⟨j, hj, h1⟩ | ⟨h1, h2⟩
    · exact Or.inl ⟨j + 1, by simp; omega, by simpa using h1⟩
    · by_cases hk : k = i
      · subst hk
        have hlt : k < (ws.set k c).length := (List.getElem?_eq_some_iff.mp h1).1
        rw [List.length_set] at hlt
        rw [List.getElem?_set_self hlt] at h1
        exact Or.inl ⟨0, by simp, by simpa using h1⟩
      · rw [List.getElem?_set_ne (Ne.symm hk)] at h1
        exact Or.inr ⟨h1, by simp [hk, h2]⟩
theorem putAt_len : ∀ (is : List Nat) (ws c1 : va_W), (putAt ws is c1).length = ws.length
  | [], ws, c1 => by simp [putAt]
  | i :: is, ws, [] => by simp [putAt]
  | i :: is, ws, c :: cs => by rw [putAt, putAt_len is, List.length_set]
theorem putAt_fst : ∀ (is : List Nat) (ws c1 : va_W), is.map (fun i => (ws[i]?).map (·.1)) = c1.map (fun c => some c.1) → (putAt ws is c1).map (·.1) = ws.map (·.1)
  | [], ws, c1, _ => by simp [putAt]
  | i :: is, ws, [], h => by simp at h
  | i :: is, ws, c :: cs, h => by
    simp only [List.map_cons, List.cons.injEq] at h
    have e : (ws.set i c).map (·.1) = ws.map (·.1) := by
      apply List.ext_getElem?
      intro k
      rw [List.getElem?_map, List.getElem?_map, List.getElem?_set]
      split
      · rename_i hk
        subst hk
        split
        · rw [h.1]; rfl
        · rename_i hl
          rw [List.getElem?_eq_none (by omega)]
      · rfl
    have e2 : ∀ j : Nat, ((ws.set i c)[j]?).map (·.1) = (ws[j]?).map (·.1) := fun j => by rw [← List.getElem?_map, e, List.getElem?_map]
    rw [putAt, putAt_fst is (ws.set i c) cs (by rw [← h.2]; exact List.map_congr_left fun j _ => e2 j), e]
/-- behind a call: the callee's cells at their places, what it made at the end; all else is as it was -/
theorem k_join {A0 : Nat → Prop} {D : va_G} {cl : List vw_C} {ws wc c1 ex : va_W} {H H1 : Heap} (hP : va_P D cl ws H) (hD : va_D A0 ws) (is : List Nat) (hC : is.map (fun i => ws[i]?) = wc.map some) (hf : c1.map (·.1) = wc.map (·.1))
    (hk : ∀ q : Nat, q < H.size → ¬ va_A wc H.size q → H1[q]? = H[q]?) (hF : ∀ q, va_A wc H.size q → A0 q) (hP1 : va_P D cl (c1 ++ ex) H1) (hD1 : va_D (va_A wc H.size) (c1 ++ ex)) : va_P D cl (putAt ws is c1 ++ ex) H1 ∧ va_D A0 (putAt ws is c1 ++ ex) := by
  have hlen : is.length = wc.length := by have := congrArg List.length hC; simpa using this
  have hlen1 : c1.length = wc.length := by have := congrArg List.length hf; simpa using this
  have hcw : ∀ (j a : Nat) (e : va_E), wc[j]? = some (a, e) → ∃ i, is[j]? = some i ∧ ws[i]? = some (a, e) := by
    intro j a e h
    have h1 : (is.map (fun i => ws[i]?))[j]? = some (some (a, e)) := by rw [hC, List.getElem?_map, h]; rfl
    rw [List.getElem?_map] at h1
    cases hi : is[j]? with
    | none => rw [hi] at h1; cases h1
    | some i => rw [hi] at h1; exact ⟨i, rfl, Option.some.inj h1⟩
  have hfst : (putAt ws is c1).map (·.1) = ws.map (·.1) := by
    refine putAt_fst is ws c1 ?_
    have e1 : is.map (fun i => (ws[i]?).map (·.1)) = (is.map (fun i => ws[i]?)).map (Option.map (·.1)) := by rw [List.map_map]; rfl
    have e2 : c1.map (fun c => some c.1) = (c1.map (·.1)).map some := by rw [List.map_map]; rfl
    rw [e1, hC, e2, hf, List.map_map, List.map_map]; rfl
  have apart : ∀ (k : Nat) (q : Nat × va_E), ws[k]? = some q → k ∉ is → q.1 < H.size ∧ ¬ va_A wc H.size q.1 := by
    intro k q hq hn
    have hl := (hP k q hq).lt
    refine ⟨hl, fun h => ?_⟩
    rcases h with ⟨k2, e, h⟩ | h
    · obtain ⟨i, h3, h4⟩ := hcw k2 q.1 e h
      have := hD.1 k i q (q.1, e) hq h4 rfl
      subst this
      exact hn (List.mem_of_getElem? h3)
    · omega
  have exge : ∀ (j : Nat) (q : Nat × va_E), ex[j]? = some q → H.size ≤ q.1 := by
    intro j q hq
    have h0 : (c1 ++ ex)[c1.length + j]? = some q := by rw [List.getElem?_append_right (by omega)]; simpa using hq
    rcases hD1.2 _ q h0 with ⟨k2, e, h⟩ | h
    · have hk2 : k2 < c1.length := by rw [hlen1]; exact (List.getElem?_eq_some_iff.mp h).1
      have h2 : (c1.map (·.1))[k2]? = some q.1 := by rw [hf, List.getElem?_map, h]; rfl
      rw [List.getElem?_map] at h2
      cases hc : c1[k2]? with
      | none => rw [hc] at h2; cases h2
      | some x =>
        rw [hc] at h2
        have hx : x.1 = q.1 := Option.some.inj h2
        have h3 : (c1 ++ ex)[k2]? = some x := by rw [List.getElem?_append_left hk2]; exact hc
        have := hD1.1 _ _ x q h3 h0 hx
        omega
    · exact h
  have hpl : (putAt ws is c1).length = ws.length := putAt_len is ws c1
  have split : ∀ (k : Nat) (q : Nat × va_E), (putAt ws is c1 ++ ex)[k]? = some q → (k < ws.length ∧ (putAt ws is c1)[k]? = some q ∧ ∃ x, ws[k]? = some x ∧ x.1 = q.1) ∨ (ws.length ≤ k ∧ ex[k - ws.length]? = some q) := by
    intro k q hq
    by_cases hl : k < ws.length
    · rw [List.getElem?_append_left (by omega)] at hq
      refine Or.inl ⟨hl, hq, ?_⟩
      have h1 : ((putAt ws is c1).map (·.1))[k]? = some q.1 := by rw [List.getElem?_map, hq]; rfl
      rw [hfst, List.getElem?_map] at h1
      cases hx : ws[k]? with
      | none => rw [hx] at h1; cases h1
      | some x => rw [hx] at h1; exact ⟨x, rfl, Option.some.inj h1⟩
    · rw [List.getElem?_append_right (by omega), hpl] at hq
      exact Or.inr ⟨by omega, hq⟩
  refine ⟨fun k q hq => ?_, fun i j x y hi hj hxy => ?_, fun k q hq => ?_⟩
  · rcases split k q hq with ⟨h1, h2, -⟩ | ⟨h1, h2⟩
    · rcases putAt_mem is ws c1 k q (by omega) h2 with ⟨j, h3, h4⟩ | ⟨h3, h4⟩
      · exact hP1 j q (by rw [List.getElem?_append_left (by omega)]; exact h4)
      · obtain ⟨g1, g2⟩ := apart k q h3 h4
        exact (hP k q h3).kept (hk q.1 g1 g2)
    · exact hP1 (c1.length + (k - ws.length)) q (by rw [List.getElem?_append_right (by omega)]; simpa using h2)
  · rcases split i x hi with ⟨h1, -, x0, h2, h3⟩ | ⟨h1, h2⟩ <;> rcases split j y hj with ⟨g1, -, y0, g2, g3⟩ | ⟨g1, g2⟩
    · exact hD.1 i j x0 y0 h2 g2 (by rw [h3, g3, hxy])
    · have := (hP i x0 h2).lt
      have := exge _ y g2
      omega
    · have := (hP j y0 g2).lt
      have := exge _ x h2
      omega
    · have := hD1.1 (c1.length + (i - ws.length)) (c1.length + (j - ws.length)) x y (by rw [List.getElem?_append_right (by omega)]; simpa using h2) (by rw [List.getElem?_append_right (by omega)]; simpa using g2) hxy
      omega
  · rcases split k q hq with ⟨h1, -, x0, h2, h3⟩ | ⟨h1, h2⟩
    · rw [← h3]; exact hD.2 k x0 h2
    · exact hF q.1 (hD1.2 (c1.length + (k - ws.length)) q (by rw [List.getElem?_append_right (by omega)]; simpa using h2))
theorem putAt_out : ∀ (is : List Nat) (X c1 : va_W) (k : Nat), k ∉ is → (putAt X is c1)[k]? = X[k]?
  | [], X, c1, k, _ => by simp [putAt]
  | i :: is, X, [], k, _ => by simp [putAt]
  | i :: is, X, c :: cs, k, h => by
    rw [List.mem_cons, not_or] at h
    rw [putAt, putAt_out is (X.set i c) cs k h.2, List.getElem?_set_ne (Ne.symm h.1)]
theorem putAt_get : ∀ (is : List Nat) (X c1 : va_W) (j k : Nat), (∀ i j a : Nat, is[i]? = some a → is[j]? = some a → i = j) → is.length ≤ c1.length → (∀ i ∈ is, i < X.length) → is[j]? = some k → (putAt X is c1)[k]? = c1[j]?
  | [], X, c1, j, k, _, _, _, h => by simp at h
  | i :: is, X, [], j, k, _, hl, _, h => by simp at hl
  | i :: is, X, c :: cs, 0, k, hn, hl, hlt, h => by
    have e : i = k := by simpa using h
    subst e
    have ho : i ∉ is := fun hm => by
      obtain ⟨j, hj, e⟩ := List.mem_iff_getElem.mp hm
      have := hn 0 (j + 1) i rfl (by rw [List.getElem?_cons_succ, List.getElem?_eq_getElem hj, e])
      omega
    rw [putAt, putAt_out is (X.set i c) cs i ho, List.getElem?_set_self (hlt i (List.mem_cons_self ..))]
    rfl
  | i :: is, X, c :: cs, j + 1, k, hn, hl, hlt, h => by
    have h : is[j]? = some k := by simpa using h
    rw [putAt, putAt_get is (X.set i c) cs j k (fun a b x ha hb => by
      have := hn (a + 1) (b + 1) x (by simpa using ha) (by simpa using hb)
      omega) (by simpa using hl) (fun a ha => by rw [List.length_set]; exact hlt a (List.mem_cons_of_mem _ ha)) h]
    rfl
theorem putAt_Y {X Y c1 : va_W} (is js : List Nat) (hn : va_nd is = true) (hl : Y.length = X.length) (h1 : is.map (fun i => Y[i]?) = c1.map some) (h2 : js.map (fun i => Y[i]?) = js.map (fun i => X[i]?)) (hc : (List.range X.length).all (fun k => is.contains k || js.contains k) = true) : putAt X is c1 = Y := by
  have hlen : is.length = c1.length := by have := congrArg List.length h1; simpa using this
  have hat : ∀ j k : Nat, is[j]? = some k → ∃ q, Y[k]? = some q ∧ c1[j]? = some q := by
    intro j k h
    have h3 : (is.map (fun i => Y[i]?))[j]? = (c1.map some)[j]? := by rw [h1]
    rw [List.getElem?_map, List.getElem?_map, h] at h3
    cases hq : c1[j]? with
    | none => rw [hq] at h3; cases h3
    | some q => rw [hq] at h3; exact ⟨q, Option.some.inj h3, rfl⟩
  have hlt : ∀ i ∈ is, i < X.length := by
    intro i hi
    obtain ⟨j, hj, e⟩ := List.mem_iff_getElem.mp hi
    obtain ⟨q, h3, -⟩ := hat j i (by rw [List.getElem?_eq_getElem hj, e])
    rw [← hl]
    exact (List.getElem?_eq_some_iff.mp h3).1
  apply List.ext_getElem?
  intro k
  by_cases hm : k ∈ is
  · obtain ⟨j, hj, e⟩ := List.mem_iff_getElem.mp hm
    have hjk : is[j]? = some k := by rw [List.getElem?_eq_getElem hj, e]
    obtain ⟨q, h3, h4⟩ := hat j k hjk
    rw [putAt_get is X c1 j k (va_nd_inj is hn) (by omega) hlt hjk, h3, h4]
  · rw [putAt_out is X c1 k hm]
    by_cases hk : k < X.length
    · have h3 := List.all_eq_true.mp hc k (List.mem_range.mpr hk)
      rw [Bool.or_eq_true, List.contains_iff_mem, List.contains_iff_mem] at h3
      exact (List.map_inj_left.mp h2 k (h3.resolve_left hm)).symm
    · rw [List.getElem?_eq_none (by omega), List.getElem?_eq_none (by omega)]
theorem put_P {D : va_G} {cl : List vw_C} {H : Heap} {X Y P c1 : va_W} {n : Nat} (is js : List Nat) (hP : va_P D cl (putAt X is c1 ++ P) H) (hn : va_nd is = true) (hX : X.length = n) (hl : Y.length = n) (h1 : is.map (fun i => Y[i]?) = c1.map some) (h2 : js.map (fun i => Y[i]?) = js.map (fun i => X[i]?)) (hc : (List.range n).all (fun k => is.contains k || js.contains k) = true) : va_P D cl (Y ++ P) H := by
  rw [← putAt_Y is js hn (hl.trans hX.symm) h1 h2 (by rw [hX]; exact hc)]; exact hP
theorem put_D {A : Nat → Prop} {X Y P c1 : va_W} {n : Nat} (is js : List Nat) (hP : va_D A (putAt X is c1 ++ P)) (hn : va_nd is = true) (hX : X.length = n) (hl : Y.length = n) (h1 : is.map (fun i => Y[i]?) = c1.map some) (h2 : js.map (fun i => Y[i]?) = js.map (fun i => X[i]?)) (hc : (List.range n).all (fun k => is.contains k || js.contains k) = true) : va_D A (Y ++ P) := by
  rw [← putAt_Y is js hn (hl.trans hX.symm) h1 h2 (by rw [hX]; exact hc)]; exact hP
theorem put_P0 {D : va_G} {cl : List vw_C} {H : Heap} {X Y c1 : va_W} {n : Nat} (is js : List Nat) (hP : va_P D cl (putAt X is c1) H) (hn : va_nd is = true) (hX : X.length = n) (hl : Y.length = n) (h1 : is.map (fun i => Y[i]?) = c1.map some) (h2 : js.map (fun i => Y[i]?) = js.map (fun i => X[i]?)) (hc : (List.range n).all (fun k => is.contains k || js.contains k) = true) : va_P D cl Y H := by
  rw [← putAt_Y is js hn (hl.trans hX.symm) h1 h2 (by rw [hX]; exact hc)]; exact hP
theorem put_D0 {A : Nat → Prop} {X Y c1 : va_W} {n : Nat} (is js : List Nat) (hP : va_D A (putAt X is c1)) (hn : va_nd is = true) (hX : X.length = n) (hl : Y.length = n) (h1 : is.map (fun i => Y[i]?) = c1.map some) (h2 : js.map (fun i => Y[i]?) = js.map (fun i => X[i]?)) (hc : (List.range n).all (fun k => is.contains k || js.contains k) = true) : va_D A Y := by
  rw [← putAt_Y is js hn (hl.trans hX.symm) h1 h2 (by rw [hX]; exact hc)]; exact hP
theorem k_free {A0 : Nat → Prop} {ws wc : va_W} {H0 H : Heap} {locs : List Loc} (hD : va_D A0 ws) (hS : va_S A0 H0 H locs) (hA : ∀ q, H0.size ≤ q → A0 q) (is : List Nat) (hC : is.map (fun i => ws[i]?) = wc.map some) : ∀ q, va_A wc H.size q → A0 q := va_free hD hS hA is hC
section KC
variable {p : Program} {l : Launch} {e : Env} {R : Room} {s : State} {m : MethodId} {args : Array Value} {below : List Frame} {meth : Method} {c : Code} {H : Heap} {locs : List Loc} {cells slots : Nat} {Q : State → Prop}
variable {pc : Nat} {ls : Array Slot} {rest st0 : List Value} {a : Array Value} {A : Nat → Prop} {H0 : Heap} {mc ms : Nat} {D : va_G} {ws wc : va_W}
theorem k_i {S : Type} {r0 : Int32} {c1 ex : S → va_W} (is : List Nat) (hr : va_Run p l e R s m args below meth c H locs cells slots mc ms (F0 m pc ls st0) rest (qi_ D r0 (fun u => c1 u ++ ex u) (va_A wc H.size) a) (va_A wc H.size))
    (hP : va_P D clG ws H) (hD : va_D A ws) (hS : va_S A H0 H locs) (hA : ∀ q, H0.size ≤ q → A q) (hC : is.map (fun i => ws[i]?) = wc.map some) (hf : ∀ u, (c1 u).map (·.1) = wc.map (·.1))
    (kk : ∀ (u : S) (H1 : Heap) (locs1 : List Loc), va_P D clG (putAt ws is (c1 u) ++ ex u) H1 → va_D A (putAt ws is (c1 u) ++ ex u) → va_S A H0 H1 locs1 → W p l e R s m args below meth c H1 locs1 (cells + mc) (slots + ms) Q (F0 m (pc + 3) ls (.int r0 :: rest))) : W p l e R s m args below meth c H locs cells slots Q (F0 m pc ls st0) := by
  have hF := k_free hD hS hA is hC
  refine va_calli hr hS (fun q _ h => hF q h) hF (fun r u t H1 locs1 ht _ hpost hB hz hk hS1 => ?_)
  subst hpost
  obtain ⟨hP1, hD1⟩ := hB
  rw [ht] at hP1
  obtain ⟨hP2, hD2⟩ := k_join hP hD is hC (hf u) hk hF hP1 hD1
  exact kk u H1 locs1 hP2 hD2 hS1
theorem k_l {S : Type} {r0 : Int64} {c1 ex : S → va_W} (is : List Nat) (hr : va_Run p l e R s m args below meth c H locs cells slots mc ms (F0 m pc ls st0) rest (ql_ D r0 (fun u => c1 u ++ ex u) (va_A wc H.size) a) (va_A wc H.size))
    (hP : va_P D clG ws H) (hD : va_D A ws) (hS : va_S A H0 H locs) (hA : ∀ q, H0.size ≤ q → A q) (hC : is.map (fun i => ws[i]?) = wc.map some) (hf : ∀ u, (c1 u).map (·.1) = wc.map (·.1))
    (kk : ∀ (u : S) (H1 : Heap) (locs1 : List Loc), va_P D clG (putAt ws is (c1 u) ++ ex u) H1 → va_D A (putAt ws is (c1 u) ++ ex u) → va_S A H0 H1 locs1 → W p l e R s m args below meth c H1 locs1 (cells + mc) (slots + ms) Q (F0 m (pc + 3) ls (.long r0 :: rest))) : W p l e R s m args below meth c H locs cells slots Q (F0 m pc ls st0) := by
  have hF := k_free hD hS hA is hC
  refine va_calll hr hS (fun q _ h => hF q h) hF (fun r u t H1 locs1 ht _ hpost hB hz hk hS1 => ?_)
  subst hpost
  obtain ⟨hP1, hD1⟩ := hB
  rw [ht] at hP1
  obtain ⟨hP2, hD2⟩ := k_join hP hD is hC (hf u) hk hF hP1 hD1
  exact kk u H1 locs1 hP2 hD2 hS1
theorem k_v {S : Type} {c1 ex : S → va_W} (is : List Nat) (hr : va_Run p l e R s m args below meth c H locs cells slots mc ms (F0 m pc ls st0) rest (qv_ D (fun u => c1 u ++ ex u) (va_A wc H.size) a) (va_A wc H.size))
    (hP : va_P D clG ws H) (hD : va_D A ws) (hS : va_S A H0 H locs) (hA : ∀ q, H0.size ≤ q → A q) (hC : is.map (fun i => ws[i]?) = wc.map some) (hf : ∀ u, (c1 u).map (·.1) = wc.map (·.1))
    (kk : ∀ (u : S) (H1 : Heap) (locs1 : List Loc), va_P D clG (putAt ws is (c1 u) ++ ex u) H1 → va_D A (putAt ws is (c1 u) ++ ex u) → va_S A H0 H1 locs1 → W p l e R s m args below meth c H1 locs1 (cells + mc) (slots + ms) Q (F0 m (pc + 3) ls rest)) : W p l e R s m args below meth c H locs cells slots Q (F0 m pc ls st0) := by
  have hF := k_free hD hS hA is hC
  refine va_callv hr hS (fun q _ h => hF q h) hF (fun u t H1 locs1 ht _ hpost hB hz hk hS1 => ?_)
  obtain ⟨hP1, hD1⟩ := hB
  rw [ht] at hP1
  obtain ⟨hP2, hD2⟩ := k_join hP hD is hC (hf u) hk hF hP1 hD1
  exact kk u H1 locs1 hP2 hD2 hS1
theorem k_r {S : Type} {r0 : S → Nat} {c1 ex : S → va_W} (is : List Nat) (hr : va_Run p l e R s m args below meth c H locs cells slots mc ms (F0 m pc ls st0) rest (qr_ D r0 (fun u => c1 u ++ ex u) (va_A wc H.size) a) (va_A wc H.size))
    (hP : va_P D clG ws H) (hD : va_D A ws) (hS : va_S A H0 H locs) (hA : ∀ q, H0.size ≤ q → A q) (hC : is.map (fun i => ws[i]?) = wc.map some) (hf : ∀ u, (c1 u).map (·.1) = wc.map (·.1))
    (kk : ∀ (u : S) (H1 : Heap) (locs1 : List Loc), va_P D clG (putAt ws is (c1 u) ++ ex u) H1 → va_D A (putAt ws is (c1 u) ++ ex u) → va_S A H0 H1 locs1 → W p l e R s m args below meth c H1 locs1 (cells + mc) (slots + ms) Q (F0 m (pc + 3) ls (.ref (r0 u) :: rest))) : W p l e R s m args below meth c H locs cells slots Q (F0 m pc ls st0) := by
  have hF := k_free hD hS hA is hC
  refine va_callr hr hS (fun q _ h => hF q h) hF (fun u ra t H1 locs1 ht _ hpost hB hz hk hS1 => ?_)
  obtain ⟨hr0, hP1, hD1⟩ := hB
  subst hr0
  rw [ht] at hP1
  obtain ⟨hP2, hD2⟩ := k_join hP hD is hC (hf u) hk hF hP1 hD1
  exact kk u H1 locs1 hP2 hD2 hS1
end KC
/-- a new array's class is the one that is known -/
theorem k_cls {D : va_G} {dA : Nat → ClassId} {s : State} {cA : ClassId} {ty : FieldType} (t0 : Nat) (h : va_K D clG (tyG dA ++ [(cA, ty)]) s) (ht : (tyG dA)[t0]? = some (dA t0, ty)) : cA = dA t0 := by
  have h1 := (h.2 t0 (dA t0, ty) (by rw [List.getElem?_append_left (List.getElem?_eq_some_iff.mp ht).1]; exact ht)).2
  have h2 := (h.2 (tyG dA).length (cA, ty) (by rw [List.getElem?_append_right (Nat.le_refl _)]; simp)).2
  cases ty with
  | object C =>
    obtain ⟨-, -, -, -, -, e1⟩ := h1
    obtain ⟨-, -, -, -, -, e2⟩ := h2
    exact Option.some.inj (e2.symm.trans e1)
  | _ => exact Option.some.inj (Eq.trans (Eq.symm h2) h1)
/-! the pure side -/
/-- an array's place -/
def gi {α : Type} (i : Int32) (n : Nat) (k : Option α) : Option α := if i < 0 ∨ n ≤ i.toNatClampNeg then none else k
theorem gi_inv {α : Type} {i : Int32} {n : Nat} {k : Option α} {r : α} (h : gi i n k = some r) : vp_in i n ∧ k = some r := by
  unfold gi at h
  split at h
  · cases h
  · rename_i q; exact ⟨q, h⟩
def gz {α : Type} (y : Int32) (k : Option α) : Option α := if y = 0 then none else k
theorem gz_inv {α : Type} {y : Int32} {k : Option α} {r : α} (h : gz y k = some r) : ¬ y = 0 ∧ k = some r := by
  unfold gz at h
  split at h
  · cases h
  · rename_i q; exact ⟨q, h⟩
def gzl {α : Type} (y : Int64) (k : Option α) : Option α := if y = 0 then none else k
theorem gzl_inv {α : Type} {y : Int64} {k : Option α} {r : α} (h : gzl y k = some r) : ¬ y = 0 ∧ k = some r := by
  unfold gzl at h
  split at h
  · cases h
  · rename_i q; exact ⟨q, h⟩
def gn {α : Type} (i n : Nat) (k : Option α) : Option α := if i < n then k else none
theorem gn_inv {α : Type} {i n : Nat} {k : Option α} {r : α} (h : gn i n k = some r) : i < n ∧ k = some r := by
  unfold gn at h
  split at h
  · rename_i q; exact ⟨q, h⟩
  · cases h
/-- this reference must be that one -/
def gv {α : Type} (v : Value) (a : Nat) (K : Option α) : Option α := match v with
  | .ref b => if b = a then K else none
  | _ => none
theorem gv_inv {α : Type} {v : Value} {a : Nat} {K : Option α} {x : α} (h : gv v a K = some x) : v = .ref a ∧ K = some x := by
  cases v with
  | ref b =>
    have h : (if b = a then K else none) = some x := h
    by_cases c : b = a
    · rw [if_pos c] at h; exact ⟨by rw [c], h⟩
    · rw [if_neg c] at h; cases h
  | _ => exact absurd (show (none : Option α) = some x from h) (by intro z; cases z)
theorem gv_of {α : Type} {a : Nat} {K : Option α} : gv (.ref a) a K = K := if_pos rfl
/-- at this place must stand that town -/
def gq {α : Type} (o : Option Nat) (a : Nat) (K : Option α) : Option α := if o = some a then K else none
theorem gq_inv {α : Type} {o : Option Nat} {a : Nat} {K : Option α} {x : α} (h : gq o a K = some x) : o = some a ∧ K = some x := by
  unfold gq at h
  split at h
  · rename_i q; exact ⟨q, h⟩
  · cases h
theorem gq_of {α : Type} {o : Option Nat} {a : Nat} {K : Option α} (h : o = some a) : gq o a K = K := if_pos h
theorem b_inv {α β : Type} {x : Option α} {f : α → Option β} {r : β} (h : x.bind f = some r) : ∃ a, x = some a ∧ f a = some r := Option.bind_eq_some_iff.mp h
/-- a loop: its body goes on with a state, or ends with a result -/
def loopN {σ ρ : Type} : Nat → (σ → Option (σ ⊕ ρ)) → σ → Option ρ
  | 0, _, _ => none
  | k + 1, f, s => (f s).bind fun r => match r with
    | .inl s' => loopN k f s'
    | .inr x => some x
theorem loopN_succ {σ ρ : Type} {k : Nat} {f : σ → Option (σ ⊕ ρ)} {s : σ} {x : ρ} (h : loopN (k + 1) f s = some x) : (∃ s', f s = some (.inl s') ∧ loopN k f s' = some x) ∨ f s = some (.inr x) := by
  unfold loopN at h
  obtain ⟨r, e1, h⟩ := b_inv h
  cases r with
  | inl s' => exact Or.inl ⟨s', e1, h⟩
  | inr y => exact Or.inr (by rw [e1]; exact congrArg (fun z => some (Sum.inr z)) (Option.some.inj h))
abbrev AI : Type := Nat → Int32
abbrev AL : Type := Nat → Int64
def b2i (b : Bool) : Int32 := match b with
  | true => 1
  | false => 0
theorem nar_b (b : Bool) : narrow .boolean (.int (b2i b)) = .int (b2i b) := by cases b <;> rfl
theorem b2i_0 (b : Bool) : b2i b = 0 ↔ b = false := by cases b <;> decide
theorem b2i_1 (b : Bool) : b2i b = 1 ↔ b = true := by cases b <;> decide
def lt_ {α β : Type} (e : α) (K : α → Option β) : Option β := K e
theorem lt_inv {α β : Type} {e y : α} {K : α → Option β} {r : β} (h : y = e) (hM : lt_ e K = some r) : K y = some r := by subst h; exact hM
theorem vin {i : Int32} {n : Nat} (h : ¬ (i < 0 ∨ n ≤ i.toNatClampNeg)) : vp_in i n := h
theorem fs_of {N : Nat} {ty : Nat → FieldType} {fs : List Value} (h : (List.range N).map (fun j => defaultValue (ty j)) = fs) : ∀ j, j < N → defaultValue (ty j) = vp_V fs j := by
  intro j hj
  subst h
  unfold vp_V
  rw [List.getD_eq_getElem?_getD, List.getElem?_map, List.getElem?_range hj]
  rfl
def rl (l : List (Option Nat)) : Nat → Option Nat := fun j => l.getD j none
theorem rl_0 (n : Nat) : (fun _ : Nat => (none : Option Nat)) = rl (List.replicate n none) := by
  funext j
  unfold rl
  rw [List.getD_eq_getElem?_getD, List.getElem?_replicate]
  split <;> rfl
theorem rl_set {l l' : List (Option Nat)} {i : Nat} {x : Option Nat} (h : l.set i x = l') (hl : i < l.length) : va_up (rl l) i x = rl l' := by
  subst h
  funext j
  unfold rl va_up
  show (if j = i then x else l.getD j none) = (l.set i x).getD j none
  rw [List.getD_eq_getElem?_getD, List.getD_eq_getElem?_getD, List.getElem?_set]
  by_cases hj : j = i
  · subst hj; simp [hl]
  · simp [hj, Ne.symm hj]
def FU : Nat := 100000
def maxI (x y : Int32) : Int32 := if x < y then y else x
def minI (x y : Int32) : Int32 := if y < x then y else x
def maxL (x y : Int64) : Int64 := if y < x then x else y
section KT
variable {p : Program} {l : Launch} {e : Env} {R : Room} {s : State} {m : MethodId} {args : Array Value} {below : List Frame} {meth : Method} {c : Code} {H : Heap} {locs : List Loc} {cells slots : Nat} {Q : State → Prop} {pc : Nat} {ls : Array Slot} {rest : List Value}
theorem lv_toi {x v : Int32} (h : x = v) (k : W p l e R s m args below meth c H locs cells slots Q (F0 m pc ls (.int v :: rest))) : W p l e R s m args below meth c H locs cells slots Q (F0 m pc ls (.int x :: rest)) := by subst h; exact k
theorem lv_tol {x v : Int64} (h : x = v) (k : W p l e R s m args below meth c H locs cells slots Q (F0 m pc ls (.long v :: rest))) : W p l e R s m args below meth c H locs cells slots Q (F0 m pc ls (.long x :: rest)) := by subst h; exact k
end KT
/-! calls that make nothing (k_.0), and those that take the persons along (k_.p) -/
theorem putAt_self (P : va_W) : ∀ (m : Nat) (k : Nat) (X : va_W) (n : Nat), X.length = n → k + m ≤ P.length → putAt (X ++ P) ((List.range' k m).map (n + ·)) ((P.drop k).take m) = X ++ P
  | 0, k, X, n, _, _ => by simp [putAt]
  | m + 1, k, X, n, hX, hk => by
    have h1 : k < P.length := by omega
    rw [List.range'_succ, List.drop_eq_getElem_cons h1, List.take_succ_cons, List.map_cons, putAt]
    have h2 : (X ++ P).set (n + k) P[k] = X ++ P := by
      subst hX
      rw [List.set_append_right _ _ (by omega), Nat.add_sub_cancel_left, List.set_getElem_self]
    rw [h2]
    exact putAt_self P m (k + 1) X n hX (by omega)
theorem putAt_app : ∀ (is js : List Nat) (ws c d : va_W), is.length = c.length → putAt ws (is ++ js) (c ++ d) = putAt (putAt ws is c) js d
  | [], js, ws, [], d, _ => by simp [putAt]
  | [], js, ws, _ :: _, d, h => by simp at h
  | _ :: _, js, ws, [], d, h => by simp at h
  | i :: is, js, ws, x :: c, d, h => by
    simp only [List.cons_append, putAt]
    exact putAt_app is js _ c d (by simpa using h)
theorem putAt_left (P : va_W) : ∀ (is : List Nat) (X c : va_W), (∀ i ∈ is, i < X.length) → putAt (X ++ P) is c = putAt X is c ++ P
  | [], X, c, _ => by simp [putAt]
  | _ :: _, X, [], _ => by simp [putAt]
  | i :: is, X, x :: c, h => by
    simp only [putAt]
    rw [List.set_append_left _ _ (h i List.mem_cons_self)]
    exact putAt_left P is _ c (fun j hj => by rw [List.length_set]; exact h j (List.mem_cons_of_mem _ hj))
theorem pp_hC {X C P : va_W} (is : List Nat) (h0 : is.map (fun i => X[i]?) = C.map some) : (is ++ (List.range' 0 P.length).map (X.length + ·)).map (fun i => (X ++ P)[i]?) = (C ++ P).map some := by
  rw [List.map_append, List.map_append]
  have hlt : ∀ i ∈ is, i < X.length := by
    intro i hi
    have h1 : X[i]? ∈ C.map some := by rw [← h0]; exact List.mem_map.mpr ⟨i, hi, rfl⟩
    obtain ⟨x, -, hx⟩ := List.mem_map.mp h1
    exact (List.getElem?_eq_some_iff.mp hx.symm).1
  congr 1
  · rw [← h0]
    exact List.map_congr_left fun i hi => List.getElem?_append_left (hlt i hi)
  · rw [List.map_map]
    apply List.ext_getElem?
    intro k
    rw [List.getElem?_map, List.getElem?_map]
    by_cases hk : k < P.length
    · rw [List.getElem?_range' hk]
      simp [List.getElem?_append_right, hk]
    · rw [List.getElem?_eq_none (by simp; omega), List.getElem?_eq_none (by omega)]
      rfl
theorem k_joinp {A0 : Nat → Prop} {D : va_G} {cl : List vw_C} {X P C c1 : va_W} {H H1 : Heap} (hP : va_P D cl (X ++ P) H) (hD : va_D A0 (X ++ P)) (is : List Nat) (hC : is.map (fun i => X[i]?) = C.map some) (hf : c1.map (·.1) = C.map (·.1))
    (hk : ∀ q : Nat, q < H.size → ¬ va_A (C ++ P) H.size q → H1[q]? = H[q]?) (hF : ∀ q, va_A (C ++ P) H.size q → A0 q) (hP1 : va_P D cl (c1 ++ P) H1) (hD1 : va_D (va_A (C ++ P) H.size) (c1 ++ P)) : va_P D cl (putAt X is c1 ++ P) H1 ∧ va_D A0 (putAt X is c1 ++ P) := by
  have hlen : is.length = C.length := by have := congrArg List.length hC; simpa using this
  have hlen1 : c1.length = C.length := by have := congrArg List.length hf; simpa using this
  have hlt : ∀ i ∈ is, i < X.length := by
    intro i hi
    have h1 : X[i]? ∈ C.map some := by rw [← hC]; exact List.mem_map.mpr ⟨i, hi, rfl⟩
    obtain ⟨x, -, hx⟩ := List.mem_map.mp h1
    exact (List.getElem?_eq_some_iff.mp hx.symm).1
  have h := k_join (c1 := c1 ++ P) (ex := []) hP hD _ (pp_hC (P := P) is hC) (by rw [List.map_append, List.map_append, hf]) hk hF (by rw [List.append_nil]; exact hP1) (by rw [List.append_nil]; exact hD1)
  rw [List.append_nil, putAt_app _ _ _ _ _ (by omega), putAt_left P is X c1 hlt] at h
  have e := putAt_self P P.length 0 (putAt X is c1) X.length (by rw [putAt_len]) (by omega)
  rw [List.drop_zero, List.take_length] at e
  rw [e] at h
  exact h
theorem k_freep {A0 : Nat → Prop} {X P C : va_W} {H0 H : Heap} {locs : List Loc} (hD : va_D A0 (X ++ P)) (hS : va_S A0 H0 H locs) (hA : ∀ q, H0.size ≤ q → A0 q) (is : List Nat) (hC : is.map (fun i => X[i]?) = C.map some) : ∀ q, va_A (C ++ P) H.size q → A0 q := va_free hD hS hA _ (pp_hC is hC)
section KC0
variable {p : Program} {l : Launch} {e : Env} {R : Room} {s : State} {m : MethodId} {args : Array Value} {below : List Frame} {meth : Method} {c : Code} {H : Heap} {locs : List Loc} {cells slots : Nat} {Q : State → Prop}
variable {pc : Nat} {ls : Array Slot} {rest st0 : List Value} {a : Array Value} {A : Nat → Prop} {H0 : Heap} {mc ms : Nat} {D : va_G} {ws wc X P C : va_W}
theorem k_i0 {S : Type} {r0 : Int32} {c1 : S → va_W} (is : List Nat) (hr : va_Run p l e R s m args below meth c H locs cells slots mc ms (F0 m pc ls st0) rest (qi_ D r0 c1 (va_A wc H.size) a) (va_A wc H.size))
    (hP : va_P D clG ws H) (hD : va_D A ws) (hS : va_S A H0 H locs) (hA : ∀ q, H0.size ≤ q → A q) (hC : is.map (fun i => ws[i]?) = wc.map some) (hf : ∀ u, (c1 u).map (·.1) = wc.map (·.1))
    (kk : ∀ (u : S) (H1 : Heap) (locs1 : List Loc), va_P D clG (putAt ws is (c1 u)) H1 → va_D A (putAt ws is (c1 u)) → va_S A H0 H1 locs1 → W p l e R s m args below meth c H1 locs1 (cells + mc) (slots + ms) Q (F0 m (pc + 3) ls (.int r0 :: rest))) : W p l e R s m args below meth c H locs cells slots Q (F0 m pc ls st0) := by
  have hF := k_free hD hS hA is hC
  refine va_calli hr hS (fun q _ h => hF q h) hF (fun r u t H1 locs1 ht _ hpost hB hz hk hS1 => ?_)
  subst hpost
  obtain ⟨hP1, hD1⟩ := hB
  rw [ht] at hP1
  have h2 := k_join (c1 := c1 u) (ex := []) hP hD is hC (hf u) hk hF (by rw [List.append_nil]; exact hP1) (by rw [List.append_nil]; exact hD1)
  rw [List.append_nil] at h2
  exact kk u H1 locs1 h2.1 h2.2 hS1
theorem k_ip {S : Type} {r0 : Int32} {c1 : S → va_W} (is : List Nat) (hr : va_Run p l e R s m args below meth c H locs cells slots mc ms (F0 m pc ls st0) rest (qi_ D r0 (fun u => c1 u ++ P) (va_A (C ++ P) H.size) a) (va_A (C ++ P) H.size))
    (hP : va_P D clG (X ++ P) H) (hD : va_D A (X ++ P)) (hS : va_S A H0 H locs) (hA : ∀ q, H0.size ≤ q → A q) (hC : is.map (fun i => X[i]?) = C.map some) (hf : ∀ u, (c1 u).map (·.1) = C.map (·.1))
    (kk : ∀ (u : S) (H1 : Heap) (locs1 : List Loc), va_P D clG (putAt X is (c1 u) ++ P) H1 → va_D A (putAt X is (c1 u) ++ P) → va_S A H0 H1 locs1 → W p l e R s m args below meth c H1 locs1 (cells + mc) (slots + ms) Q (F0 m (pc + 3) ls (.int r0 :: rest))) : W p l e R s m args below meth c H locs cells slots Q (F0 m pc ls st0) := by
  have hF := k_freep hD hS hA is hC
  refine va_calli hr hS (fun q _ h => hF q h) hF (fun r u t H1 locs1 ht _ hpost hB hz hk hS1 => ?_)
  subst hpost
  obtain ⟨hP1, hD1⟩ := hB
  rw [ht] at hP1
  have h2 := k_joinp hP hD is hC (hf u) hk hF hP1 hD1
  exact kk u H1 locs1 h2.1 h2.2 hS1
theorem k_l0 {S : Type} {r0 : Int64} {c1 : S → va_W} (is : List Nat) (hr : va_Run p l e R s m args below meth c H locs cells slots mc ms (F0 m pc ls st0) rest (ql_ D r0 c1 (va_A wc H.size) a) (va_A wc H.size))
    (hP : va_P D clG ws H) (hD : va_D A ws) (hS : va_S A H0 H locs) (hA : ∀ q, H0.size ≤ q → A q) (hC : is.map (fun i => ws[i]?) = wc.map some) (hf : ∀ u, (c1 u).map (·.1) = wc.map (·.1))
    (kk : ∀ (u : S) (H1 : Heap) (locs1 : List Loc), va_P D clG (putAt ws is (c1 u)) H1 → va_D A (putAt ws is (c1 u)) → va_S A H0 H1 locs1 → W p l e R s m args below meth c H1 locs1 (cells + mc) (slots + ms) Q (F0 m (pc + 3) ls (.long r0 :: rest))) : W p l e R s m args below meth c H locs cells slots Q (F0 m pc ls st0) := by
  have hF := k_free hD hS hA is hC
  refine va_calll hr hS (fun q _ h => hF q h) hF (fun r u t H1 locs1 ht _ hpost hB hz hk hS1 => ?_)
  subst hpost
  obtain ⟨hP1, hD1⟩ := hB
  rw [ht] at hP1
  have h2 := k_join (c1 := c1 u) (ex := []) hP hD is hC (hf u) hk hF (by rw [List.append_nil]; exact hP1) (by rw [List.append_nil]; exact hD1)
  rw [List.append_nil] at h2
  exact kk u H1 locs1 h2.1 h2.2 hS1
theorem k_lp {S : Type} {r0 : Int64} {c1 : S → va_W} (is : List Nat) (hr : va_Run p l e R s m args below meth c H locs cells slots mc ms (F0 m pc ls st0) rest (ql_ D r0 (fun u => c1 u ++ P) (va_A (C ++ P) H.size) a) (va_A (C ++ P) H.size))
    (hP : va_P D clG (X ++ P) H) (hD : va_D A (X ++ P)) (hS : va_S A H0 H locs) (hA : ∀ q, H0.size ≤ q → A q) (hC : is.map (fun i => X[i]?) = C.map some) (hf : ∀ u, (c1 u).map (·.1) = C.map (·.1))
    (kk : ∀ (u : S) (H1 : Heap) (locs1 : List Loc), va_P D clG (putAt X is (c1 u) ++ P) H1 → va_D A (putAt X is (c1 u) ++ P) → va_S A H0 H1 locs1 → W p l e R s m args below meth c H1 locs1 (cells + mc) (slots + ms) Q (F0 m (pc + 3) ls (.long r0 :: rest))) : W p l e R s m args below meth c H locs cells slots Q (F0 m pc ls st0) := by
  have hF := k_freep hD hS hA is hC
  refine va_calll hr hS (fun q _ h => hF q h) hF (fun r u t H1 locs1 ht _ hpost hB hz hk hS1 => ?_)
  subst hpost
  obtain ⟨hP1, hD1⟩ := hB
  rw [ht] at hP1
  have h2 := k_joinp hP hD is hC (hf u) hk hF hP1 hD1
  exact kk u H1 locs1 h2.1 h2.2 hS1
theorem k_v0 {S : Type} {c1 : S → va_W} (is : List Nat) (hr : va_Run p l e R s m args below meth c H locs cells slots mc ms (F0 m pc ls st0) rest (qv_ D c1 (va_A wc H.size) a) (va_A wc H.size))
    (hP : va_P D clG ws H) (hD : va_D A ws) (hS : va_S A H0 H locs) (hA : ∀ q, H0.size ≤ q → A q) (hC : is.map (fun i => ws[i]?) = wc.map some) (hf : ∀ u, (c1 u).map (·.1) = wc.map (·.1))
    (kk : ∀ (u : S) (H1 : Heap) (locs1 : List Loc), va_P D clG (putAt ws is (c1 u)) H1 → va_D A (putAt ws is (c1 u)) → va_S A H0 H1 locs1 → W p l e R s m args below meth c H1 locs1 (cells + mc) (slots + ms) Q (F0 m (pc + 3) ls (rest))) : W p l e R s m args below meth c H locs cells slots Q (F0 m pc ls st0) := by
  have hF := k_free hD hS hA is hC
  refine va_callv hr hS (fun q _ h => hF q h) hF (fun u t H1 locs1 ht _ hpost hB hz hk hS1 => ?_)
  obtain ⟨hP1, hD1⟩ := hB
  rw [ht] at hP1
  have h2 := k_join (c1 := c1 u) (ex := []) hP hD is hC (hf u) hk hF (by rw [List.append_nil]; exact hP1) (by rw [List.append_nil]; exact hD1)
  rw [List.append_nil] at h2
  exact kk u H1 locs1 h2.1 h2.2 hS1
theorem k_vp {S : Type} {c1 : S → va_W} (is : List Nat) (hr : va_Run p l e R s m args below meth c H locs cells slots mc ms (F0 m pc ls st0) rest (qv_ D (fun u => c1 u ++ P) (va_A (C ++ P) H.size) a) (va_A (C ++ P) H.size))
    (hP : va_P D clG (X ++ P) H) (hD : va_D A (X ++ P)) (hS : va_S A H0 H locs) (hA : ∀ q, H0.size ≤ q → A q) (hC : is.map (fun i => X[i]?) = C.map some) (hf : ∀ u, (c1 u).map (·.1) = C.map (·.1))
    (kk : ∀ (u : S) (H1 : Heap) (locs1 : List Loc), va_P D clG (putAt X is (c1 u) ++ P) H1 → va_D A (putAt X is (c1 u) ++ P) → va_S A H0 H1 locs1 → W p l e R s m args below meth c H1 locs1 (cells + mc) (slots + ms) Q (F0 m (pc + 3) ls (rest))) : W p l e R s m args below meth c H locs cells slots Q (F0 m pc ls st0) := by
  have hF := k_freep hD hS hA is hC
  refine va_callv hr hS (fun q _ h => hF q h) hF (fun u t H1 locs1 ht _ hpost hB hz hk hS1 => ?_)
  obtain ⟨hP1, hD1⟩ := hB
  rw [ht] at hP1
  have h2 := k_joinp hP hD is hC (hf u) hk hF hP1 hD1
  exact kk u H1 locs1 h2.1 h2.2 hS1
theorem k_r0 {S : Type} {r0 : S → Nat} {c1 : S → va_W} (is : List Nat) (hr : va_Run p l e R s m args below meth c H locs cells slots mc ms (F0 m pc ls st0) rest (qr_ D r0 c1 (va_A wc H.size) a) (va_A wc H.size))
    (hP : va_P D clG ws H) (hD : va_D A ws) (hS : va_S A H0 H locs) (hA : ∀ q, H0.size ≤ q → A q) (hC : is.map (fun i => ws[i]?) = wc.map some) (hf : ∀ u, (c1 u).map (·.1) = wc.map (·.1))
    (kk : ∀ (u : S) (H1 : Heap) (locs1 : List Loc), va_P D clG (putAt ws is (c1 u)) H1 → va_D A (putAt ws is (c1 u)) → va_S A H0 H1 locs1 → W p l e R s m args below meth c H1 locs1 (cells + mc) (slots + ms) Q (F0 m (pc + 3) ls (.ref (r0 u) :: rest))) : W p l e R s m args below meth c H locs cells slots Q (F0 m pc ls st0) := by
  have hF := k_free hD hS hA is hC
  refine va_callr hr hS (fun q _ h => hF q h) hF (fun u ra t H1 locs1 ht _ hpost hB hz hk hS1 => ?_)
  obtain ⟨hr0, hP1, hD1⟩ := hB
  subst hr0
  rw [ht] at hP1
  have h2 := k_join (c1 := c1 u) (ex := []) hP hD is hC (hf u) hk hF (by rw [List.append_nil]; exact hP1) (by rw [List.append_nil]; exact hD1)
  rw [List.append_nil] at h2
  exact kk u H1 locs1 h2.1 h2.2 hS1
theorem k_rp {S : Type} {r0 : S → Nat} {c1 : S → va_W} (is : List Nat) (hr : va_Run p l e R s m args below meth c H locs cells slots mc ms (F0 m pc ls st0) rest (qr_ D r0 (fun u => c1 u ++ P) (va_A (C ++ P) H.size) a) (va_A (C ++ P) H.size))
    (hP : va_P D clG (X ++ P) H) (hD : va_D A (X ++ P)) (hS : va_S A H0 H locs) (hA : ∀ q, H0.size ≤ q → A q) (hC : is.map (fun i => X[i]?) = C.map some) (hf : ∀ u, (c1 u).map (·.1) = C.map (·.1))
    (kk : ∀ (u : S) (H1 : Heap) (locs1 : List Loc), va_P D clG (putAt X is (c1 u) ++ P) H1 → va_D A (putAt X is (c1 u) ++ P) → va_S A H0 H1 locs1 → W p l e R s m args below meth c H1 locs1 (cells + mc) (slots + ms) Q (F0 m (pc + 3) ls (.ref (r0 u) :: rest))) : W p l e R s m args below meth c H locs cells slots Q (F0 m pc ls st0) := by
  have hF := k_freep hD hS hA is hC
  refine va_callr hr hS (fun q _ h => hF q h) hF (fun u ra t H1 locs1 ht _ hpost hB hz hk hS1 => ?_)
  obtain ⟨hr0, hP1, hD1⟩ := hB
  subst hr0
  rw [ht] at hP1
  have h2 := k_joinp hP hD is hC (hf u) hk hF hP1 hD1
  exact kk u H1 locs1 h2.1 h2.2 hS1
end KC0
/-! persons: np of them, at pa k, of kind pk k (0 plain, 1 shut, 2 walled, 3 doctor) -/
def pref (np : Nat) (pa : Nat → Nat) : Nat → Option Nat := fun j => if j < np then some (pa j) else none
def ppc (pn : Nat → Value) (pu pw pd pr ps pt : AI) (k : Nat) : List Value := [pn k, .int (pu k), .int (pw k), .int (pd k), .int (pr k), .int (ps k), .int (pt k)]
def ppool (np : Nat) (pa pk : Nat → Nat) (pn : Nat → Value) (pu pw pd pr ps pt : AI) : va_W := (List.range np).map (fun k => (pa k, .inr (7 + pk k, ppc pn pu pw pd pr ps pt k)))
theorem pp_get {X : va_W} {np n K : Nat} {pa pk : Nat → Nat} {pn : Nat → Value} {pu pw pd pr ps pt : AI} (hX : X.length = n) (hK : K < np) : (X ++ ppool np pa pk pn pu pw pd pr ps pt)[n + K]? = some (pa K, .inr (7 + pk K, ppc pn pu pw pd pr ps pt K)) := by
  subst hX
  rw [List.getElem?_append_right (by omega), Nat.add_sub_cancel_left]
  unfold ppool
  rw [List.getElem?_map, List.getElem?_range hK]
  rfl
theorem TX11e : TX11 = TX10 := rfl
theorem TX12e : TX12 = TX10 := rfl
theorem TX13e : TX13 = TX10 := rfl
section PP
variable {p : Program} {l : Launch} {e : Env} {R : Room} {s : State} {m : MethodId} {args : Array Value} {below : List Frame} {meth : Method} {c : Code} {H : Heap} {locs : List Loc} {cells slots : Nat} {Q : State → Prop} {pc : Nat} {ls : Array Slot} {rest : List Value} {cc : ByteArray} {D : va_G} {dA : Nat → ClassId}
theorem lv_tor {x v : Value} (h : x = v) (k : W p l e R s m args below meth c H locs cells slots Q (F0 m pc ls (v :: rest))) : W p l e R s m args below meth c H locs cells slots Q (F0 m pc ls (x :: rest)) := by subst h; exact k
theorem pp_ref {np K : Nat} {pa : Nat → Nat} (h : K < np) : va_rf (pref np pa K) = .ref (pa K) := by unfold pref; rw [if_pos h]; rfl
theorem pp_getf {own : String} {index : Nat} {X : va_W} {np n K : Nat} {pa pk : Nat → Nat} {pn : Nat → Value} {pu pw pd pr ps pt : AI} (hx : p.tables.exec = Jvm.exec) (hb : c.code = cc) (hts : ∀ w ∈ lw_all, w.before args s = true) (hown : s.vm.findClass own = some m.cls) (hK : KK D dA s) (hP : va_P D clG (X ++ ppool np pa pk pn pu pw pd pr ps pt) H) (hX : X.length = n) (h1 : K < np) (h4 : pk K < 4) (k : Nat) (hk : k < 7)
    (hlink : (Cond.fieldLink own index "LastAsked$Person" (TX10 k).2.1 (TX10 k).2.2.1).before args s = true) (hsame : ∀ x, s.fieldFound? (TX10 k).1 (TX10 k).2.1 (TX10 k).2.2.1 = some x → s.fieldFound? "LastAsked$Person" (TX10 k).2.1 (TX10 k).2.2.1 = some x) {v : Value} (hv : (ppc pn pu pw pd pr ps pt K)[k]? = some v) (hdg : decode cc pc = .ok (.getfield index, 3))
    (kk : W p l e R s m args below meth c H locs cells slots Q (F0 m (pc + 3) ls (v :: rest))) : W p l e R s m args below meth c H locs cells slots Q (F0 m pc ls (.ref (pa K) :: rest)) := by
  have he := pp_get (X := X) (pa := pa) (pk := pk) (pn := pn) (pu := pu) (pw := pw) (pd := pd) (pr := pr) (ps := ps) (pt := pt) hX h1
  rcases (show pk K = 0 ∨ pk K = 1 ∨ pk K = 2 ∨ pk K = 3 by omega) with q | q | q | q
  · rw [q] at he
    exact va_get (D := D) (ci := 7) (v := v) (C := RX10) (T := TX10) (N := 7) hx hb hts in_X10 hown hK.1 hP _ he rfl k hk hlink hsame hv hdg kk
  · rw [q] at he
    exact va_get (D := D) (ci := 8) (v := v) (C := RX11) (T := TX11) (N := 7) hx hb hts in_X11 hown hK.1 hP _ he rfl k hk (by rw [TX11e]; exact hlink) (by rw [TX11e]; exact hsame) hv hdg kk
  · rw [q] at he
    exact va_get (D := D) (ci := 9) (v := v) (C := RX12) (T := TX12) (N := 7) hx hb hts in_X12 hown hK.1 hP _ he rfl k hk (by rw [TX12e]; exact hlink) (by rw [TX12e]; exact hsame) hv hdg kk
  · rw [q] at he
    exact va_get (D := D) (ci := 10) (v := v) (C := RX13) (T := TX13) (N := 7) hx hb hts in_X13 hown hK.1 hP _ he rfl k hk (by rw [TX13e]; exact hlink) (by rw [TX13e]; exact hsame) hv hdg kk
end PP

/-! super.m(..) where the superclass has m from its own superclass -/
section SUO
variable {p : Program} {l : Launch} {e : Env} {R : Room} {s : State} {m : MethodId} {args : Array Value} {below : List Frame} {meth : Method} {c : Code}
theorem k_callSUo {T : State} {locs : List Loc} {cells slots : Nat} (X : Stand p l e R s m args below meth c T locs cells slots) (hexec : p.tables.exec = Jvm.exec) {own owner : String} {index : Nat} {x : MethodName} {bytes : ByteArray} {maxL : Nat} {ret : Option FieldType}
    (hown : s.vm.findClass own = some m.cls) (hlink : (Cond.methodLink own index x).before args s = true) (hsame : (Cond.sameMethod x.cls owner x.name x.desc).before args s = true) (hsup : (Cond.superclass own x.cls).before args s = true) (hsup2 : (Cond.superclass x.cls owner).before args s = true)
    (hinst : (Cond.instanceMethod ⟨owner, x.name, x.desc⟩).before args s = true) (hcode : (Cond.code ⟨owner, x.name, x.desc⟩ bytes maxL ret).before args s = true) (hno : x.name ≠ "<init>")
    {W : Nat} {Pre : Pt → Array Value → Prop} {Post : Pt → Array Value → Option Value → Pt → Prop} (hK : Back l R p e below s args ⟨owner, x.name, x.desc⟩ 3 W Pre Post)
    {b : Addr} {cellB : Cell} {kB : Class} (hcell : T.heap[b]? = some cellB) (hobj : cellB.vm.isStatics = false) (hkB : s.vm.classes[cellB.cls]? = some kB)
    {g : JFrame} (hg : g.method = m) (hsize : g.locals.size = c.maxLocals) {argsL rest : List Value} (hlen : ∀ sig, parseMethodDescriptor x.desc = some sig → argsL.length = sig.parameters.length)
    (hstack : g.stack = argsL.reverse ++ .ref b :: rest) (hW : 2 * g.monitorRoom + (rest.map fun v => v.category).sum ≤ W) (hdg : decode c.code g.pc = .ok (.invokespecial index, 3))
    (hpre : ∀ vm₁, s.WarmedH vm₁ → Pre ⟨T.setVm vm₁, locs, cells, slots⟩ (Value.ref b :: argsL).toArray) :
    ∃ (v : Option Value) (vm₁ : Vm) (B : Pt), s.WarmedH vm₁ ∧ Stand p l e R s m args below meth c B.U B.locs B.cells B.slots ∧ Post ⟨T.setVm vm₁, locs, cells, slots⟩ (Value.ref b :: argsL).toArray v B ∧
      ∀ target, Steps p.tables e below (B.U.setTop { g with pc := g.pc + 3, stack := v.toList ++ rest }) target → Steps p.tables e below (T.setTop g) target := by
  obtain ⟨mk, methM, hnamed, hmethM, hstM, habM⟩ := Cond.instanceMethod_spec hinst
  obtain ⟨methM', cM, hmethM', -, -, -, -, -, -, hsigM⟩ := Cond.code_spec hnamed hcode
  cases hmethM.symm.trans hmethM'
  obtain ⟨ps, dk, kp, hps, hdk, hkp, hsuper, -, -, hnid⟩ := Cond.superclass_spec hown hsup
  obtain ⟨pt, dk2, kp2, hpt, hdk2, -, hsuper2, -, -, -⟩ := Cond.superclass_spec hps hsup2
  have hpm : pt = mk.cls := Option.some.inj (hpt.symm.trans (findClass_of_methodNamed hnamed))
  have hz : ∃ n, s.vm.classes.size = n + 1 := by
    have hlt : ps < s.vm.classes.size := (Array.getElem?_eq_some_iff.mp hdk2).1
    exact ⟨s.vm.classes.size - 1, (Nat.sub_add_cancel (Nat.lt_of_le_of_lt (Nat.zero_le ps) hlt)).symm⟩
  have hsub : s.vm.isSubclass ps mk.cls = true := by
    obtain ⟨n, hn⟩ := hz
    rw [← hpm]
    simp [Vm.isSubclass, hn, Vm.isSubclassAux, hdk2, hsuper2]
  obtain ⟨vm₁, X₁, hstep₁⟩ := X.invokespecialUp hexec hown hlink hsame hnamed hmethM hstM habM hno hdk hnid hps hsuper hsub (a := b) (cell := cellB) hcell
    (fun z h => by rw [h] at hobj; cases hobj) hkB (g := g) hg (argsL := argsL) (rest := rest) (hlen _ hsigM) hstack hdg
  obtain ⟨v, B, X', hpost, hsteps⟩ := hK m meth c ⟨T.setVm vm₁, locs, cells, slots⟩ { g with stack := rest } (.invokespecial index) mk (Value.ref b :: argsL).toArray X₁ hg hsize hdg hW (X₁.named hnamed) (hpre vm₁ X₁.warmed)
  exact ⟨v, vm₁, B, X₁.warmed, X', hpost, fun target h => hstep₁ _ (by rw [doInvoke_state]; exact hsteps.trans h)⟩
variable {H : Heap} {locs : List Loc} {cells slots : Nat}
theorem k_runSUo {x : MethodName} {bytes cc : ByteArray} {maxL nL mc ms n index : Nat} {ret : Option FieldType} {ws ws' : List Cond} {rm : Room} {Pc : Array Value → State → Prop} {Qc : Array Value → State → Outcome → State → Prop} {free : Addr → Prop} {Ts : List Cond} {own owner C : String} {cC : ClassId} {b : Addr} {As rest : List Value} {g : JFrame}
    (hat : ClassAt s C cC) (S : CallFix p m c cc nL s args Ts own) (hM : Met l ⟨owner, x.name, x.desc⟩ ws rm Pc Qc mc ms free)
    (hlink : (Cond.methodLink own index x).before args s = true) (hsame : (Cond.sameMethod x.cls owner x.name x.desc).before args s = true) (hsup : (Cond.superclass own x.cls).before args s = true) (hsup2 : (Cond.superclass x.cls owner).before args s = true) (hinst : (Cond.instanceMethod ⟨owner, x.name, x.desc⟩).before args s = true) (hini : (Cond.initialized owner).before args s = true) (hcode : (Cond.code ⟨owner, x.name, x.desc⟩ bytes maxL ret).before args s = true) (hno : x.name ≠ "<init>")
    (hlen : (parseMethodDescriptor x.desc).map (fun d => d.parameters.length) = some n) (hG : GoodIn Ts ws) (hw : ws = Cond.code ⟨owner, x.name, x.desc⟩ bytes maxL ret :: ws') (hrc : rm.cells = mc) (hrs : rm.slots = ms) (hR : rm.frames + 1 ≤ R.frames ∧ 8 + (maxL + 11) + rm.locals ≤ R.locals)
    (hp : PreV s H C b Pc As)
    (hg : g.method = m) (hn : As.length = n) (hsize : g.locals.size = nL) (hstack : g.stack = As.reverse ++ .ref b :: rest) (hW : 2 * g.monitorRoom + (rest.map fun v => v.category).sum ≤ 8) (hdg : decode cc g.pc = .ok (.invokespecial index, 3)) (hf : cells + mc ≤ R.cells ∧ slots + ms ≤ R.slots) :
    va_Run p l e R s m args below meth c H locs cells slots mc ms g rest (Qc (Value.ref b :: As).toArray) (free) := by
  have hcw : Cond.code ⟨owner, x.name, x.desc⟩ bytes maxL ret ∈ ws := by rw [hw]; exact List.mem_cons_self
  have hK : Back l R p e below s args ⟨owner, x.name, x.desc⟩ 3 8 (PreOf R mc ms Pc) (PostOf Qc mc ms free) := back_of (bytes := bytes) (maxL := maxL) (ret := ret) hM hp.1 hrc hrs hR.1 hR.2 (pay_in S.2.2.2.2 hG) hcw (fun a' U hW => word_at hW (Or.inl (by first | rfl | simp [Cond.onTables, Cond.keeps, Cond.steady])) hini)
  obtain ⟨hx, hb, hml, ho, -⟩ := S
  obtain ⟨-, ⟨cellB, hcB, hoB, hclB⟩, hPc⟩ := hp
  obtain ⟨hfc, kB, hkB, -⟩ := hat
  cases hfc.symm.trans hclB
  have hlen' : ∀ sig, parseMethodDescriptor x.desc = some sig → As.length = sig.parameters.length := fun sig h => by
    rw [h] at hlen
    rw [hn]
    exact (Option.some.inj hlen).symm
  intro T hT X
  obtain ⟨v, vm₁, ⟨U', l2, c2, s2⟩, hW₁, X', ⟨g', mk, t, L, e1, e2, hq, h1, hL, h2, h3⟩, st⟩ := k_callSUo X hx (bytes := bytes) (maxL := maxL) (ret := ret) ho hlink hsame hsup hsup2 hinst hcode hno hK (by rw [hT]; exact hcB) hoB hkB hg (hsize.trans hml.symm) (argsL := As) (rest := rest) hlen' hstack hW (by rw [hb]; exact hdg)
    (fun vm₁ hW₁ => ⟨hf.1, hf.2, hPc (T.setVm vm₁) hT hW₁⟩)
  dsimp only [Pt.U, Pt.locs, Pt.cells, Pt.slots] at X' e1 e2 h1 h2 h3 st
  subst h1; subst h2; subst h3
  exact ⟨v, (T.setVm vm₁).calling g' mk (Value.ref b :: As).toArray, t, U', L, hT, X', hL, e1, e2, hq, st⟩
end SUO
/-- which kinds may ask, be asked -/
def mayAskK (k : Nat) : Bool := if k = 3 then false else true
def mayBeK (k : Nat) (near i : Int32) : Bool := if k = 1 then false else if k = 2 then (if ((near >>> (i &&& 31)) &&& 1) = 1 then true else false) else true
def kindK (k : Nat) : Int32 := if k = 0 then 0 else if k = 1 then 1 else if k = 2 then 2 else 3
