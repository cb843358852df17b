set_option maxRecDepth 100000
/-! ===== the scanner's world ===== -/
abbrev ZH : Type := (Nat → Nat) × (Nat → Nat) × (Nat → Bool) × (Nat → Nat) × Value × Value
abbrev ZS : Type := Int32 × Int32 × Int32 × Int32 × (Option Nat) × (Option Nat) × AI × Int32 × Int32 × Int32 × Int32 × Int32 × Int32 × Int32 × AI × AI × AI × AI × AI × Nat × (Nat → Nat) × (Nat → Nat) × AI × AI × AI × AI × AI × AI × Nat × (Nat → Nat) × (Nat → AI) × Nat
def spO (n : Nat) (sa sv : Nat → Nat) (sl : Nat → Nat) (sf : Nat → AI) (sd : Nat → Bool) : va_W := (List.range n).map (fun j => scell (sa j) (sv j) (sl j) (sf j) (sd j))
def spB (dA : Nat → ClassId) (n : Nat) (sv : Nat → Nat) (sl : Nat → Nat) (sf : Nat → AI) : va_W := (List.range n).map (fun j => bcell dA (sv j) (sl j) (sf j))
def zwv (h : ZH) (o : Option Nat) : Value := match o with | some i => .ref (h.1 i) | none => h.2.2.2.2.1
def zav (h : ZH) (o : Option Nat) : Value := match o with | some i => .ref (h.2.2.2.1 i) | none => h.2.2.2.2.2
def zlit (dA : Nat → ClassId) (za : Nat → Nat) (k9 : Int32 × Int32 × Int32) (tx : AI) (h : ZH) (s : ZS) : va_W := [
  (za 0, .inr (1, [.ref (za 1), .ref (za 2), .ref (za 3), .int k9.1, .int s.1, .int s.2.1, .int s.2.2.1, .int s.2.2.2.1, zwv h s.2.2.2.2.1, .ref (za 4), zav h s.2.2.2.2.2.1])),
  (za 1, .inr (2, [.null, .null, .null, .null, .null, .int 0, .int k9.2.1, .int k9.2.2])),
  (za 2, .inl (dA 2, 900, .inl tx)), (za 3, .inl (dA 3, 8, .inl s.2.2.2.2.2.2.1)),
  (za 4, .inr (6, [.ref (za 5), .ref (za 6), .ref (za 7), .ref (za 8), .ref (za 9), .ref (za 10), .int s.2.2.2.2.2.2.2.1, .int s.2.2.2.2.2.2.2.2.1, .int s.2.2.2.2.2.2.2.2.2.1, .int s.2.2.2.2.2.2.2.2.2.2.1, .int s.2.2.2.2.2.2.2.2.2.2.2.1, .int s.2.2.2.2.2.2.2.2.2.2.2.2.1, .int s.2.2.2.2.2.2.2.2.2.2.2.2.2.1])),
  (za 5, .inl (dA 4, 6, .inr (.inr (.inr (.inr (pref s.2.2.2.2.2.2.2.2.2.2.2.2.2.2.2.2.2.2.2.2.2.2.2.2.2.2.2.2.2.2.2 h.2.2.2.1)))))),
  (za 6, .inl (dA 0, 36, .inl s.2.2.2.2.2.2.2.2.2.2.2.2.2.2.1)), (za 7, .inl (dA 0, 3, .inl s.2.2.2.2.2.2.2.2.2.2.2.2.2.2.2.1)), (za 8, .inl (dA 0, 3, .inl s.2.2.2.2.2.2.2.2.2.2.2.2.2.2.2.2.1)), (za 9, .inl (dA 0, 3, .inl s.2.2.2.2.2.2.2.2.2.2.2.2.2.2.2.2.2.1)), (za 10, .inl (dA 0, 3, .inl s.2.2.2.2.2.2.2.2.2.2.2.2.2.2.2.2.2.2.1))]
abbrev zX (dA : Nat → ClassId) (za : Nat → Nat) (k9 : Int32 × Int32 × Int32) (tx : AI) (h : ZH) (s : ZS) : va_W := (zlit dA za k9 tx h s ++ spO s.2.2.2.2.2.2.2.2.2.2.2.2.2.2.2.2.2.2.2.2.2.2.2.2.2.2.2.2.1 h.1 h.2.1 s.2.2.2.2.2.2.2.2.2.2.2.2.2.2.2.2.2.2.2.2.2.2.2.2.2.2.2.2.2.1 s.2.2.2.2.2.2.2.2.2.2.2.2.2.2.2.2.2.2.2.2.2.2.2.2.2.2.2.2.2.2.1 h.2.2.1) ++ spB dA s.2.2.2.2.2.2.2.2.2.2.2.2.2.2.2.2.2.2.2.2.2.2.2.2.2.2.2.2.1 h.2.1 s.2.2.2.2.2.2.2.2.2.2.2.2.2.2.2.2.2.2.2.2.2.2.2.2.2.2.2.2.2.1 s.2.2.2.2.2.2.2.2.2.2.2.2.2.2.2.2.2.2.2.2.2.2.2.2.2.2.2.2.2.2.1
abbrev zw (dA : Nat → ClassId) (za : Nat → Nat) (k9 : Int32 × Int32 × Int32) (tx : AI) (h : ZH) (s : ZS) : va_W := zX dA za k9 tx h s ++ ppool s.2.2.2.2.2.2.2.2.2.2.2.2.2.2.2.2.2.2.2.1 h.2.2.2.1 s.2.2.2.2.2.2.2.2.2.2.2.2.2.2.2.2.2.2.2.2.1 (fun k => .ref (h.1 (s.2.2.2.2.2.2.2.2.2.2.2.2.2.2.2.2.2.2.2.2.2.1 k))) s.2.2.2.2.2.2.2.2.2.2.2.2.2.2.2.2.2.2.2.2.2.2.1 s.2.2.2.2.2.2.2.2.2.2.2.2.2.2.2.2.2.2.2.2.2.2.2.1 s.2.2.2.2.2.2.2.2.2.2.2.2.2.2.2.2.2.2.2.2.2.2.2.2.1 s.2.2.2.2.2.2.2.2.2.2.2.2.2.2.2.2.2.2.2.2.2.2.2.2.2.1 s.2.2.2.2.2.2.2.2.2.2.2.2.2.2.2.2.2.2.2.2.2.2.2.2.2.2.1 s.2.2.2.2.2.2.2.2.2.2.2.2.2.2.2.2.2.2.2.2.2.2.2.2.2.2.2.1
theorem zl_len {dA : Nat → ClassId} {za : Nat → Nat} {k9 : Int32 × Int32 × Int32} {tx : AI} {h : ZH} {s : ZS} : (zlit dA za k9 tx h s).length = 11 := rfl
theorem zX_len {dA : Nat → ClassId} {za : Nat → Nat} {k9 : Int32 × Int32 × Int32} {tx : AI} {h : ZH} {s : ZS} : (zX dA za k9 tx h s).length = 11 + s.2.2.2.2.2.2.2.2.2.2.2.2.2.2.2.2.2.2.2.2.2.2.2.2.2.2.2.2.1 + s.2.2.2.2.2.2.2.2.2.2.2.2.2.2.2.2.2.2.2.2.2.2.2.2.2.2.2.2.1 := by
  simp [zX, zl_len, spO, spB]
  omega
theorem zw_so {dA : Nat → ClassId} {za : Nat → Nat} {k9 : Int32 × Int32 × Int32} {tx : AI} {h : ZH} {s : ZS} {i : Nat} (hi : i < s.2.2.2.2.2.2.2.2.2.2.2.2.2.2.2.2.2.2.2.2.2.2.2.2.2.2.2.2.1) : (zw dA za k9 tx h s)[11 + i]? = some (scell (h.1 i) (h.2.1 i) (s.2.2.2.2.2.2.2.2.2.2.2.2.2.2.2.2.2.2.2.2.2.2.2.2.2.2.2.2.2.1 i) (s.2.2.2.2.2.2.2.2.2.2.2.2.2.2.2.2.2.2.2.2.2.2.2.2.2.2.2.2.2.2.1 i) (h.2.2.1 i)) := by
  unfold zw zX
  rw [List.getElem?_append_left (by simp [zl_len, spO, spB] <;> omega), List.getElem?_append_left (by simp [zl_len, spO] <;> omega), List.getElem?_append_right (by rw [zl_len]; omega), zl_len, show 11 + i - 11 = i by omega]
  unfold spO
  rw [List.getElem?_map, List.getElem?_range hi]
  rfl
theorem zw_sb {dA : Nat → ClassId} {za : Nat → Nat} {k9 : Int32 × Int32 × Int32} {tx : AI} {h : ZH} {s : ZS} {i : Nat} (hi : i < s.2.2.2.2.2.2.2.2.2.2.2.2.2.2.2.2.2.2.2.2.2.2.2.2.2.2.2.2.1) : (zw dA za k9 tx h s)[11 + s.2.2.2.2.2.2.2.2.2.2.2.2.2.2.2.2.2.2.2.2.2.2.2.2.2.2.2.2.1 + i]? = some (bcell dA (h.2.1 i) (s.2.2.2.2.2.2.2.2.2.2.2.2.2.2.2.2.2.2.2.2.2.2.2.2.2.2.2.2.2.1 i) (s.2.2.2.2.2.2.2.2.2.2.2.2.2.2.2.2.2.2.2.2.2.2.2.2.2.2.2.2.2.2.1 i)) := by
  unfold zw zX
  rw [List.getElem?_append_left (by simp [zl_len, spO, spB] <;> omega), List.getElem?_append_right (by simp [zl_len, spO] <;> omega), List.length_append, zl_len, show (spO s.2.2.2.2.2.2.2.2.2.2.2.2.2.2.2.2.2.2.2.2.2.2.2.2.2.2.2.2.1 h.1 h.2.1 s.2.2.2.2.2.2.2.2.2.2.2.2.2.2.2.2.2.2.2.2.2.2.2.2.2.2.2.2.2.1 s.2.2.2.2.2.2.2.2.2.2.2.2.2.2.2.2.2.2.2.2.2.2.2.2.2.2.2.2.2.2.1 h.2.2.1).length = s.2.2.2.2.2.2.2.2.2.2.2.2.2.2.2.2.2.2.2.2.2.2.2.2.2.2.2.2.1 by simp [spO], show 11 + s.2.2.2.2.2.2.2.2.2.2.2.2.2.2.2.2.2.2.2.2.2.2.2.2.2.2.2.2.1 + i - (11 + s.2.2.2.2.2.2.2.2.2.2.2.2.2.2.2.2.2.2.2.2.2.2.2.2.2.2.2.2.1) = i by omega]
  unfold spB
  rw [List.getElem?_map, List.getElem?_range hi]
  rfl
theorem zwv_some {h : ZH} {o : Option Nat} {i : Nat} (e : o = some i) : zwv h o = .ref (h.1 i) := by rw [e]; rfl
theorem zav_some {h : ZH} {o : Option Nat} {i : Nat} (e : o = some i) : zav h o = .ref (h.2.2.2.1 i) := by rw [e]; rfl
/-- what stays: addresses of what was there -/
def zext (h u : ZH) (s r : ZS) : Prop := (∀ j, j < s.2.2.2.2.2.2.2.2.2.2.2.2.2.2.2.2.2.2.2.2.2.2.2.2.2.2.2.2.1 → u.1 j = h.1 j) ∧ (∀ j, j < s.2.2.2.2.2.2.2.2.2.2.2.2.2.2.2.2.2.2.2.1 → u.2.2.2.1 j = h.2.2.2.1 j) ∧ s.2.2.2.2.2.2.2.2.2.2.2.2.2.2.2.2.2.2.2.2.2.2.2.2.2.2.2.2.1 ≤ r.2.2.2.2.2.2.2.2.2.2.2.2.2.2.2.2.2.2.2.2.2.2.2.2.2.2.2.2.1 ∧ s.2.2.2.2.2.2.2.2.2.2.2.2.2.2.2.2.2.2.2.1 ≤ r.2.2.2.2.2.2.2.2.2.2.2.2.2.2.2.2.2.2.2.1
theorem zext_rf {h : ZH} {s : ZS} : zext h h s s := ⟨fun _ _ => rfl, fun _ _ => rfl, Nat.le_refl _, Nat.le_refl _⟩
theorem zext_trans {h u v : ZH} {s r q : ZS} (a : zext h u s r) (b : zext u v r q) : zext h v s q :=
  ⟨fun j hj => (b.1 j (Nat.lt_of_lt_of_le hj a.2.2.1)).trans (a.1 j hj), fun j hj => (b.2.1 j (Nat.lt_of_lt_of_le hj a.2.2.2)).trans (a.2.1 j hj), Nat.le_trans a.2.2.1 b.2.2.1, Nat.le_trans a.2.2.2 b.2.2.2⟩
/-- a word that has been hashed -/
def zhs (h : ZH) (i : Nat) : ZH := (h.1, h.2.1, (fun j => if j = i then true else h.2.2.1 j), h.2.2.2)
theorem map_set {α : Type} (n i : Nat) (F G : Nat → α) (hi : i < n) (h : ∀ j, j ≠ i → G j = F j) : ((List.range n).map F).set i (G i) = (List.range n).map G := by
  apply List.ext_getElem?
  intro k
  rw [List.getElem?_set]
  by_cases hk : i = k
  · subst hk
    rw [if_pos rfl, if_pos (by simpa using hi), List.getElem?_map, List.getElem?_range hi]
    rfl
  · rw [if_neg hk, List.getElem?_map, List.getElem?_map]
    by_cases hl : k < n
    · rw [List.getElem?_range hl]
      show some (F k) = some (G k)
      rw [h k (Ne.symm hk)]
    · rw [List.getElem?_eq_none (by simp; omega)]
      rfl
theorem zw_hash {dA : Nat → ClassId} {za : Nat → Nat} {k9 : Int32 × Int32 × Int32} {tx : AI} {h : ZH} {s : ZS} {i : Nat} (hi : i < s.2.2.2.2.2.2.2.2.2.2.2.2.2.2.2.2.2.2.2.2.2.2.2.2.2.2.2.2.1) : putAt (zw dA za k9 tx h s) [11 + i, 11 + s.2.2.2.2.2.2.2.2.2.2.2.2.2.2.2.2.2.2.2.2.2.2.2.2.2.2.2.2.1 + i] [scell (h.1 i) (h.2.1 i) (s.2.2.2.2.2.2.2.2.2.2.2.2.2.2.2.2.2.2.2.2.2.2.2.2.2.2.2.2.2.1 i) (s.2.2.2.2.2.2.2.2.2.2.2.2.2.2.2.2.2.2.2.2.2.2.2.2.2.2.2.2.2.2.1 i) true, bcell dA (h.2.1 i) (s.2.2.2.2.2.2.2.2.2.2.2.2.2.2.2.2.2.2.2.2.2.2.2.2.2.2.2.2.2.1 i) (s.2.2.2.2.2.2.2.2.2.2.2.2.2.2.2.2.2.2.2.2.2.2.2.2.2.2.2.2.2.2.1 i)] = zw dA za k9 tx (zhs h i) s := by
  have e2 : ∀ (w : va_W) (k : Nat) (q : Nat × va_E), w[k]? = some q → w.set k q = w := by
    intro w k q hq
    obtain ⟨hlt, hev⟩ := List.getElem?_eq_some_iff.mp hq
    rw [← hev, List.set_getElem_self]
  have e1 : (zw dA za k9 tx h s).set (11 + i) (scell (h.1 i) (h.2.1 i) (s.2.2.2.2.2.2.2.2.2.2.2.2.2.2.2.2.2.2.2.2.2.2.2.2.2.2.2.2.2.1 i) (s.2.2.2.2.2.2.2.2.2.2.2.2.2.2.2.2.2.2.2.2.2.2.2.2.2.2.2.2.2.2.1 i) true) = zw dA za k9 tx (zhs h i) s := by
    unfold zw zX
    rw [List.set_append_left _ _ (by simp [zl_len, spO, spB] <;> omega), List.set_append_left _ _ (by simp [zl_len, spO] <;> omega), List.set_append_right _ _ (by rw [zl_len]; omega), zl_len, show 11 + i - 11 = i by omega]
    have e3 : (spO s.2.2.2.2.2.2.2.2.2.2.2.2.2.2.2.2.2.2.2.2.2.2.2.2.2.2.2.2.1 h.1 h.2.1 s.2.2.2.2.2.2.2.2.2.2.2.2.2.2.2.2.2.2.2.2.2.2.2.2.2.2.2.2.2.1 s.2.2.2.2.2.2.2.2.2.2.2.2.2.2.2.2.2.2.2.2.2.2.2.2.2.2.2.2.2.2.1 h.2.2.1).set i (scell (h.1 i) (h.2.1 i) (s.2.2.2.2.2.2.2.2.2.2.2.2.2.2.2.2.2.2.2.2.2.2.2.2.2.2.2.2.2.1 i) (s.2.2.2.2.2.2.2.2.2.2.2.2.2.2.2.2.2.2.2.2.2.2.2.2.2.2.2.2.2.2.1 i) true) = spO s.2.2.2.2.2.2.2.2.2.2.2.2.2.2.2.2.2.2.2.2.2.2.2.2.2.2.2.2.1 h.1 h.2.1 s.2.2.2.2.2.2.2.2.2.2.2.2.2.2.2.2.2.2.2.2.2.2.2.2.2.2.2.2.2.1 s.2.2.2.2.2.2.2.2.2.2.2.2.2.2.2.2.2.2.2.2.2.2.2.2.2.2.2.2.2.2.1 (zhs h i).2.2.1 := by
      unfold spO
      have h3 := map_set s.2.2.2.2.2.2.2.2.2.2.2.2.2.2.2.2.2.2.2.2.2.2.2.2.2.2.2.2.1 i (fun j => scell (h.1 j) (h.2.1 j) (s.2.2.2.2.2.2.2.2.2.2.2.2.2.2.2.2.2.2.2.2.2.2.2.2.2.2.2.2.2.1 j) (s.2.2.2.2.2.2.2.2.2.2.2.2.2.2.2.2.2.2.2.2.2.2.2.2.2.2.2.2.2.2.1 j) (h.2.2.1 j)) (fun j => scell (h.1 j) (h.2.1 j) (s.2.2.2.2.2.2.2.2.2.2.2.2.2.2.2.2.2.2.2.2.2.2.2.2.2.2.2.2.2.1 j) (s.2.2.2.2.2.2.2.2.2.2.2.2.2.2.2.2.2.2.2.2.2.2.2.2.2.2.2.2.2.2.1 j) ((zhs h i).2.2.1 j)) hi (fun j hj => by
        show scell _ _ _ _ (if j = i then true else h.2.2.1 j) = _
        rw [if_neg hj])
      rw [← h3]
      show _ = List.set _ i (scell _ _ _ _ (if i = i then true else h.2.2.1 i))
      rw [if_pos rfl]
    rw [e3]
    rfl
  rw [putAt, putAt, e1, putAt]
  exact e2 _ _ _ (zw_sb (h := zhs h i) hi)
theorem zext_hs {h : ZH} {s : ZS} {i : Nat} : zext h (zhs h i) s s := ⟨fun _ _ => rfl, fun _ _ => rfl, Nat.le_refl _, Nat.le_refl _⟩
/-- persons are apart -/
theorem zpa_inj {A : Nat → Prop} {dA : Nat → ClassId} {za : Nat → Nat} {k9 : Int32 × Int32 × Int32} {tx : AI} {h : ZH} {s : ZS} (hD : va_D A (zw dA za k9 tx h s)) {i j : Nat} (hi : i < s.2.2.2.2.2.2.2.2.2.2.2.2.2.2.2.2.2.2.2.1) (hj : j < s.2.2.2.2.2.2.2.2.2.2.2.2.2.2.2.2.2.2.2.1) (e : h.2.2.2.1 i = h.2.2.2.1 j) : i = j := by
  have h1 := hD.1 (11 + s.2.2.2.2.2.2.2.2.2.2.2.2.2.2.2.2.2.2.2.2.2.2.2.2.2.2.2.2.1 + s.2.2.2.2.2.2.2.2.2.2.2.2.2.2.2.2.2.2.2.2.2.2.2.2.2.2.2.2.1 + i) (11 + s.2.2.2.2.2.2.2.2.2.2.2.2.2.2.2.2.2.2.2.2.2.2.2.2.2.2.2.2.1 + s.2.2.2.2.2.2.2.2.2.2.2.2.2.2.2.2.2.2.2.2.2.2.2.2.2.2.2.2.1 + j) _ _ (pp_get zX_len hi) (pp_get zX_len hj) e
  omega
/-- a put to a person -/
theorem pp_set {X : va_W} {np n K : Nat} {pa pk : Nat → Nat} {pn : Nat → Value} {pu pw pd pr ps pt pw' pd' pr' ps' pt' : AI} (hX : X.length = n) (hK : K < np) (h : ∀ j, j ≠ K → pw' j = pw j ∧ pd' j = pd j ∧ pr' j = pr j ∧ ps' j = ps j ∧ pt' j = pt j) : (X ++ ppool np pa pk pn pu pw pd pr ps pt).set (n + K) (pa K, .inr (7 + pk K, ppc pn pu pw' pd' pr' ps' pt' K)) = X ++ ppool np pa pk pn pu pw' pd' pr' ps' pt' := by
  subst hX
  rw [List.set_append_right _ _ (by omega), Nat.add_sub_cancel_left]
  unfold ppool
  rw [map_set np K (fun k => (pa k, (.inr (7 + pk k, ppc pn pu pw pd pr ps pt k) : va_E))) (fun k => (pa k, .inr (7 + pk k, ppc pn pu pw' pd' pr' ps' pt' k))) hK (fun j hj => by
    obtain ⟨a1, a2, a, b, c⟩ := h j hj
    show (pa j, _) = (pa j, _)
    unfold ppc
    rw [a1, a2, a, b, c])]
theorem upd_eq {f : AI} {k : Nat} {v : Int32} : upd f k v k = v := by unfold upd; rw [if_pos rfl]
theorem upd_ne {f : AI} {k j : Nat} {v : Int32} (h : j ≠ k) : upd f k v j = f j := by unfold upd; rw [if_neg h]
set_option maxHeartbeats 4000000 in
theorem pp_put2 {p : Program} {l : Launch} {e : Env} {R : Room} {s : State} {m : MethodId} {args : Array Value} {below : List Frame} {meth : Method} {c : Code} {H : Heap} {locs : List Loc} {cells slots : Nat} {Q : State → Prop} {pc : Nat} {ls : Array Slot} {rest : List Value} {cc : ByteArray} {D : va_G} {dA : Nat → ClassId} {A : Nat → Prop} {H0 : Heap}
    {own : String} {index : Nat} {X : va_W} {np n K : Nat} {pa pk : Nat → Nat} {pn : Nat → Value} {pu pw pd pr ps pt : AI} (hx : p.tables.exec = Jvm.exec) (hb : c.code = cc) (hts : ∀ w ∈ lw_all, w.before args s = true) (hown : s.vm.findClass own = some m.cls) (hK : KK D dA s) (hP : va_P D clG (X ++ ppool np pa pk pn pu pw pd pr ps pt) H) (hD : va_D A (X ++ ppool np pa pk pn pu pw pd pr ps pt)) (hS : va_S A H0 H locs) (hX : X.length = n) (h1 : K < np) (h4 : pk K < 4) (v : Int32)
    (hlink : (Cond.fieldLink own index "LastAsked$Person" (TX10 2).2.1 (TX10 2).2.2.1).before args s = true) (hdg : decode cc pc = .ok (.putfield index, 3))
    (kk : ∀ (H1 : Heap) (locs1 : List Loc), va_P D clG (X ++ ppool np pa pk pn pu (upd pw K v) pd pr ps pt) H1 → va_D A (X ++ ppool np pa pk pn pu (upd pw K v) pd pr ps pt) → va_S A H0 H1 locs1 → W p l e R s m args below meth c H1 locs1 cells slots Q (F0 m (pc + 3) ls rest)) : W p l e R s m args below meth c H locs cells slots Q (F0 m pc ls (.int v :: .ref (pa K) :: rest)) := by
  have he := pp_get (X := X) (pa := pa) (pk := pk) (pn := pn) (pu := pu) (pw := pw) (pd := pd) (pr := pr) (ps := ps) (pt := pt) hX h1
  have hset := pp_set (X := X) (pa := pa) (pk := pk) (pn := pn) (pu := pu) (pw := pw) (pd := pd) (pr := pr) (ps := ps) (pt := pt) (pw' := (upd pw K v)) (pd' := pd) (pr' := pr) (ps' := ps) (pt' := pt) hX h1 (fun j hj => ⟨upd_ne hj, rfl, rfl, rfl, rfl⟩)
  have hc : ppc pn pu (upd pw K v) pd pr ps pt K = [pn K, .int (pu K), .int v, .int (pd K), .int (pr K), .int (ps K), .int (pt K)] := by unfold ppc; rw [upd_eq]
  rw [hc] at hset
  rcases (show pk K = 0 ∨ pk K = 1 ∨ pk K = 2 ∨ pk K = 3 by omega) with q | q | q | q
  · rw [q] at he hset
    refine va_put (D := D) (ci := 7) (v := .int v) (ty := .int) (C := RX10) (T := TX10) (N := 7) hx hb hts in_X10 tyX10 tyX10_ok nmX10 hown hK.1 hP hD hS _ he rfl 2 (by decide) hlink (fun _ h9 => h9) rfl (by decide +kernel) rfl rfl (Nat.le_of_ble_eq_true rfl) hdg (fun H1 locs1 hP1 hD1 hS1 => ?_)
    have hP1 : va_P D clG ((X ++ ppool np pa pk pn pu pw pd pr ps pt).set (n + K) (pa K, .inr (7, [pn K, .int (pu K), .int v, .int (pd K), .int (pr K), .int (ps K), .int (pt K)]))) H1 := hP1
    have hD1 : va_D A ((X ++ ppool np pa pk pn pu pw pd pr ps pt).set (n + K) (pa K, .inr (7, [pn K, .int (pu K), .int v, .int (pd K), .int (pr K), .int (ps K), .int (pt K)]))) := hD1
    exact kk H1 locs1 (by rw [← hset]; exact hP1) (by rw [← hset]; exact hD1) hS1
  · rw [q] at he hset
    refine va_put (D := D) (ci := 8) (v := .int v) (ty := .int) (C := RX11) (T := TX11) (N := 7) hx hb hts in_X11 tyX11 tyX11_ok nmX11 hown hK.1 hP hD hS _ he rfl 2 (by decide) hlink (fun _ h9 => h9) rfl (by decide +kernel) rfl rfl (Nat.le_of_ble_eq_true rfl) hdg (fun H1 locs1 hP1 hD1 hS1 => ?_)
    have hP1 : va_P D clG ((X ++ ppool np pa pk pn pu pw pd pr ps pt).set (n + K) (pa K, .inr (8, [pn K, .int (pu K), .int v, .int (pd K), .int (pr K), .int (ps K), .int (pt K)]))) H1 := hP1
    have hD1 : va_D A ((X ++ ppool np pa pk pn pu pw pd pr ps pt).set (n + K) (pa K, .inr (8, [pn K, .int (pu K), .int v, .int (pd K), .int (pr K), .int (ps K), .int (pt K)]))) := hD1
    exact kk H1 locs1 (by rw [← hset]; exact hP1) (by rw [← hset]; exact hD1) hS1
  · rw [q] at he hset
    refine va_put (D := D) (ci := 9) (v := .int v) (ty := .int) (C := RX12) (T := TX12) (N := 7) hx hb hts in_X12 tyX12 tyX12_ok nmX12 hown hK.1 hP hD hS _ he rfl 2 (by decide) hlink (fun _ h9 => h9) rfl (by decide +kernel) rfl rfl (Nat.le_of_ble_eq_true rfl) hdg (fun H1 locs1 hP1 hD1 hS1 => ?_)
    have hP1 : va_P D clG ((X ++ ppool np pa pk pn pu pw pd pr ps pt).set (n + K) (pa K, .inr (9, [pn K, .int (pu K), .int v, .int (pd K), .int (pr K), .int (ps K), .int (pt K)]))) H1 := hP1
    have hD1 : va_D A ((X ++ ppool np pa pk pn pu pw pd pr ps pt).set (n + K) (pa K, .inr (9, [pn K, .int (pu K), .int v, .int (pd K), .int (pr K), .int (ps K), .int (pt K)]))) := hD1
    exact kk H1 locs1 (by rw [← hset]; exact hP1) (by rw [← hset]; exact hD1) hS1
  · rw [q] at he hset
    refine va_put (D := D) (ci := 10) (v := .int v) (ty := .int) (C := RX13) (T := TX13) (N := 7) hx hb hts in_X13 tyX13 tyX13_ok nmX13 hown hK.1 hP hD hS _ he rfl 2 (by decide) hlink (fun _ h9 => h9) rfl (by decide +kernel) rfl rfl (Nat.le_of_ble_eq_true rfl) hdg (fun H1 locs1 hP1 hD1 hS1 => ?_)
    have hP1 : va_P D clG ((X ++ ppool np pa pk pn pu pw pd pr ps pt).set (n + K) (pa K, .inr (10, [pn K, .int (pu K), .int v, .int (pd K), .int (pr K), .int (ps K), .int (pt K)]))) H1 := hP1
    have hD1 : va_D A ((X ++ ppool np pa pk pn pu pw pd pr ps pt).set (n + K) (pa K, .inr (10, [pn K, .int (pu K), .int v, .int (pd K), .int (pr K), .int (ps K), .int (pt K)]))) := hD1
    exact kk H1 locs1 (by rw [← hset]; exact hP1) (by rw [← hset]; exact hD1) hS1
set_option maxHeartbeats 4000000 in
theorem pp_put3 {p : Program} {l : Launch} {e : Env} {R : Room} {s : State} {m : MethodId} {args : Array Value} {below : List Frame} {meth : Method} {c : Code} {H : Heap} {locs : List Loc} {cells slots : Nat} {Q : State → Prop} {pc : Nat} {ls : Array Slot} {rest : List Value} {cc : ByteArray} {D : va_G} {dA : Nat → ClassId} {A : Nat → Prop} {H0 : Heap}
    {own : String} {index : Nat} {X : va_W} {np n K : Nat} {pa pk : Nat → Nat} {pn : Nat → Value} {pu pw pd pr ps pt : AI} (hx : p.tables.exec = Jvm.exec) (hb : c.code = cc) (hts : ∀ w ∈ lw_all, w.before args s = true) (hown : s.vm.findClass own = some m.cls) (hK : KK D dA s) (hP : va_P D clG (X ++ ppool np pa pk pn pu pw pd pr ps pt) H) (hD : va_D A (X ++ ppool np pa pk pn pu pw pd pr ps pt)) (hS : va_S A H0 H locs) (hX : X.length = n) (h1 : K < np) (h4 : pk K < 4) (v : Int32)
    (hlink : (Cond.fieldLink own index "LastAsked$Person" (TX10 3).2.1 (TX10 3).2.2.1).before args s = true) (hdg : decode cc pc = .ok (.putfield index, 3))
    (kk : ∀ (H1 : Heap) (locs1 : List Loc), va_P D clG (X ++ ppool np pa pk pn pu pw (upd pd K v) pr ps pt) H1 → va_D A (X ++ ppool np pa pk pn pu pw (upd pd K v) pr ps pt) → va_S A H0 H1 locs1 → W p l e R s m args below meth c H1 locs1 cells slots Q (F0 m (pc + 3) ls rest)) : W p l e R s m args below meth c H locs cells slots Q (F0 m pc ls (.int v :: .ref (pa K) :: rest)) := by
  have he := pp_get (X := X) (pa := pa) (pk := pk) (pn := pn) (pu := pu) (pw := pw) (pd := pd) (pr := pr) (ps := ps) (pt := pt) hX h1
  have hset := pp_set (X := X) (pa := pa) (pk := pk) (pn := pn) (pu := pu) (pw := pw) (pd := pd) (pr := pr) (ps := ps) (pt := pt) (pw' := pw) (pd' := (upd pd K v)) (pr' := pr) (ps' := ps) (pt' := pt) hX h1 (fun j hj => ⟨rfl, upd_ne hj, rfl, rfl, rfl⟩)
  have hc : ppc pn pu pw (upd pd K v) pr ps pt K = [pn K, .int (pu K), .int (pw K), .int v, .int (pr K), .int (ps K), .int (pt K)] := by unfold ppc; rw [upd_eq]
  rw [hc] at hset
  rcases (show pk K = 0 ∨ pk K = 1 ∨ pk K = 2 ∨ pk K = 3 by omega) with q | q | q | q
  · rw [q] at he hset
    refine va_put (D := D) (ci := 7) (v := .int v) (ty := .int) (C := RX10) (T := TX10) (N := 7) hx hb hts in_X10 tyX10 tyX10_ok nmX10 hown hK.1 hP hD hS _ he rfl 3 (by decide) hlink (fun _ h9 => h9) rfl (by decide +kernel) rfl rfl (Nat.le_of_ble_eq_true rfl) hdg (fun H1 locs1 hP1 hD1 hS1 => ?_)
    have hP1 : va_P D clG ((X ++ ppool np pa pk pn pu pw pd pr ps pt).set (n + K) (pa K, .inr (7, [pn K, .int (pu K), .int (pw K), .int v, .int (pr K), .int (ps K), .int (pt K)]))) H1 := hP1
    have hD1 : va_D A ((X ++ ppool np pa pk pn pu pw pd pr ps pt).set (n + K) (pa K, .inr (7, [pn K, .int (pu K), .int (pw K), .int v, .int (pr K), .int (ps K), .int (pt K)]))) := hD1
    exact kk H1 locs1 (by rw [← hset]; exact hP1) (by rw [← hset]; exact hD1) hS1
  · rw [q] at he hset
    refine va_put (D := D) (ci := 8) (v := .int v) (ty := .int) (C := RX11) (T := TX11) (N := 7) hx hb hts in_X11 tyX11 tyX11_ok nmX11 hown hK.1 hP hD hS _ he rfl 3 (by decide) hlink (fun _ h9 => h9) rfl (by decide +kernel) rfl rfl (Nat.le_of_ble_eq_true rfl) hdg (fun H1 locs1 hP1 hD1 hS1 => ?_)
    have hP1 : va_P D clG ((X ++ ppool np pa pk pn pu pw pd pr ps pt).set (n + K) (pa K, .inr (8, [pn K, .int (pu K), .int (pw K), .int v, .int (pr K), .int (ps K), .int (pt K)]))) H1 := hP1
    have hD1 : va_D A ((X ++ ppool np pa pk pn pu pw pd pr ps pt).set (n + K) (pa K, .inr (8, [pn K, .int (pu K), .int (pw K), .int v, .int (pr K), .int (ps K), .int (pt K)]))) := hD1
    exact kk H1 locs1 (by rw [← hset]; exact hP1) (by rw [← hset]; exact hD1) hS1
  · rw [q] at he hset
    refine va_put (D := D) (ci := 9) (v := .int v) (ty := .int) (C := RX12) (T := TX12) (N := 7) hx hb hts in_X12 tyX12 tyX12_ok nmX12 hown hK.1 hP hD hS _ he rfl 3 (by decide) hlink (fun _ h9 => h9) rfl (by decide +kernel) rfl rfl (Nat.le_of_ble_eq_true rfl) hdg (fun H1 locs1 hP1 hD1 hS1 => ?_)
    have hP1 : va_P D clG ((X ++ ppool np pa pk pn pu pw pd pr ps pt).set (n + K) (pa K, .inr (9, [pn K, .int (pu K), .int (pw K), .int v, .int (pr K), .int (ps K), .int (pt K)]))) H1 := hP1
    have hD1 : va_D A ((X ++ ppool np pa pk pn pu pw pd pr ps pt).set (n + K) (pa K, .inr (9, [pn K, .int (pu K), .int (pw K), .int v, .int (pr K), .int (ps K), .int (pt K)]))) := hD1
    exact kk H1 locs1 (by rw [← hset]; exact hP1) (by rw [← hset]; exact hD1) hS1
  · rw [q] at he hset
    refine va_put (D := D) (ci := 10) (v := .int v) (ty := .int) (C := RX13) (T := TX13) (N := 7) hx hb hts in_X13 tyX13 tyX13_ok nmX13 hown hK.1 hP hD hS _ he rfl 3 (by decide) hlink (fun _ h9 => h9) rfl (by decide +kernel) rfl rfl (Nat.le_of_ble_eq_true rfl) hdg (fun H1 locs1 hP1 hD1 hS1 => ?_)
    have hP1 : va_P D clG ((X ++ ppool np pa pk pn pu pw pd pr ps pt).set (n + K) (pa K, .inr (10, [pn K, .int (pu K), .int (pw K), .int v, .int (pr K), .int (ps K), .int (pt K)]))) H1 := hP1
    have hD1 : va_D A ((X ++ ppool np pa pk pn pu pw pd pr ps pt).set (n + K) (pa K, .inr (10, [pn K, .int (pu K), .int (pw K), .int v, .int (pr K), .int (ps K), .int (pt K)]))) := hD1
    exact kk H1 locs1 (by rw [← hset]; exact hP1) (by rw [← hset]; exact hD1) hS1
set_option maxHeartbeats 4000000 in
theorem pp_put4 {p : Program} {l : Launch} {e : Env} {R : Room} {s : State} {m : MethodId} {args : Array Value} {below : List Frame} {meth : Method} {c : Code} {H : Heap} {locs : List Loc} {cells slots : Nat} {Q : State → Prop} {pc : Nat} {ls : Array Slot} {rest : List Value} {cc : ByteArray} {D : va_G} {dA : Nat → ClassId} {A : Nat → Prop} {H0 : Heap}
    {own : String} {index : Nat} {X : va_W} {np n K : Nat} {pa pk : Nat → Nat} {pn : Nat → Value} {pu pw pd pr ps pt : AI} (hx : p.tables.exec = Jvm.exec) (hb : c.code = cc) (hts : ∀ w ∈ lw_all, w.before args s = true) (hown : s.vm.findClass own = some m.cls) (hK : KK D dA s) (hP : va_P D clG (X ++ ppool np pa pk pn pu pw pd pr ps pt) H) (hD : va_D A (X ++ ppool np pa pk pn pu pw pd pr ps pt)) (hS : va_S A H0 H locs) (hX : X.length = n) (h1 : K < np) (h4 : pk K < 4) (v : Int32)
    (hlink : (Cond.fieldLink own index "LastAsked$Person" (TX10 4).2.1 (TX10 4).2.2.1).before args s = true) (hdg : decode cc pc = .ok (.putfield index, 3))
    (kk : ∀ (H1 : Heap) (locs1 : List Loc), va_P D clG (X ++ ppool np pa pk pn pu pw pd (upd pr K v) ps pt) H1 → va_D A (X ++ ppool np pa pk pn pu pw pd (upd pr K v) ps pt) → va_S A H0 H1 locs1 → W p l e R s m args below meth c H1 locs1 cells slots Q (F0 m (pc + 3) ls rest)) : W p l e R s m args below meth c H locs cells slots Q (F0 m pc ls (.int v :: .ref (pa K) :: rest)) := by
  have he := pp_get (X := X) (pa := pa) (pk := pk) (pn := pn) (pu := pu) (pw := pw) (pd := pd) (pr := pr) (ps := ps) (pt := pt) hX h1
  have hset := pp_set (X := X) (pa := pa) (pk := pk) (pn := pn) (pu := pu) (pw := pw) (pd := pd) (pr := pr) (ps := ps) (pt := pt) (pw' := pw) (pd' := pd) (pr' := (upd pr K v)) (ps' := ps) (pt' := pt) hX h1 (fun j hj => ⟨rfl, rfl, upd_ne hj, rfl, rfl⟩)
  have hc : ppc pn pu pw pd (upd pr K v) ps pt K = [pn K, .int (pu K), .int (pw K), .int (pd K), .int v, .int (ps K), .int (pt K)] := by unfold ppc; rw [upd_eq]
  rw [hc] at hset
  rcases (show pk K = 0 ∨ pk K = 1 ∨ pk K = 2 ∨ pk K = 3 by omega) with q | q | q | q
  · rw [q] at he hset
    refine va_put (D := D) (ci := 7) (v := .int v) (ty := .int) (C := RX10) (T := TX10) (N := 7) hx hb hts in_X10 tyX10 tyX10_ok nmX10 hown hK.1 hP hD hS _ he rfl 4 (by decide) hlink (fun _ h9 => h9) rfl (by decide +kernel) rfl rfl (Nat.le_of_ble_eq_true rfl) hdg (fun H1 locs1 hP1 hD1 hS1 => ?_)
    have hP1 : va_P D clG ((X ++ ppool np pa pk pn pu pw pd pr ps pt).set (n + K) (pa K, .inr (7, [pn K, .int (pu K), .int (pw K), .int (pd K), .int v, .int (ps K), .int (pt K)]))) H1 := hP1
    have hD1 : va_D A ((X ++ ppool np pa pk pn pu pw pd pr ps pt).set (n + K) (pa K, .inr (7, [pn K, .int (pu K), .int (pw K), .int (pd K), .int v, .int (ps K), .int (pt K)]))) := hD1
    exact kk H1 locs1 (by rw [← hset]; exact hP1) (by rw [← hset]; exact hD1) hS1
  · rw [q] at he hset
    refine va_put (D := D) (ci := 8) (v := .int v) (ty := .int) (C := RX11) (T := TX11) (N := 7) hx hb hts in_X11 tyX11 tyX11_ok nmX11 hown hK.1 hP hD hS _ he rfl 4 (by decide) hlink (fun _ h9 => h9) rfl (by decide +kernel) rfl rfl (Nat.le_of_ble_eq_true rfl) hdg (fun H1 locs1 hP1 hD1 hS1 => ?_)
    have hP1 : va_P D clG ((X ++ ppool np pa pk pn pu pw pd pr ps pt).set (n + K) (pa K, .inr (8, [pn K, .int (pu K), .int (pw K), .int (pd K), .int v, .int (ps K), .int (pt K)]))) H1 := hP1
    have hD1 : va_D A ((X ++ ppool np pa pk pn pu pw pd pr ps pt).set (n + K) (pa K, .inr (8, [pn K, .int (pu K), .int (pw K), .int (pd K), .int v, .int (ps K), .int (pt K)]))) := hD1
    exact kk H1 locs1 (by rw [← hset]; exact hP1) (by rw [← hset]; exact hD1) hS1
  · rw [q] at he hset
    refine va_put (D := D) (ci := 9) (v := .int v) (ty := .int) (C := RX12) (T := TX12) (N := 7) hx hb hts in_X12 tyX12 tyX12_ok nmX12 hown hK.1 hP hD hS _ he rfl 4 (by decide) hlink (fun _ h9 => h9) rfl (by decide +kernel) rfl rfl (Nat.le_of_ble_eq_true rfl) hdg (fun H1 locs1 hP1 hD1 hS1 => ?_)
    have hP1 : va_P D clG ((X ++ ppool np pa pk pn pu pw pd pr ps pt).set (n + K) (pa K, .inr (9, [pn K, .int (pu K), .int (pw K), .int (pd K), .int v, .int (ps K), .int (pt K)]))) H1 := hP1
    have hD1 : va_D A ((X ++ ppool np pa pk pn pu pw pd pr ps pt).set (n + K) (pa K, .inr (9, [pn K, .int (pu K), .int (pw K), .int (pd K), .int v, .int (ps K), .int (pt K)]))) := hD1
    exact kk H1 locs1 (by rw [← hset]; exact hP1) (by rw [← hset]; exact hD1) hS1
  · rw [q] at he hset
    refine va_put (D := D) (ci := 10) (v := .int v) (ty := .int) (C := RX13) (T := TX13) (N := 7) hx hb hts in_X13 tyX13 tyX13_ok nmX13 hown hK.1 hP hD hS _ he rfl 4 (by decide) hlink (fun _ h9 => h9) rfl (by decide +kernel) rfl rfl (Nat.le_of_ble_eq_true rfl) hdg (fun H1 locs1 hP1 hD1 hS1 => ?_)
    have hP1 : va_P D clG ((X ++ ppool np pa pk pn pu pw pd pr ps pt).set (n + K) (pa K, .inr (10, [pn K, .int (pu K), .int (pw K), .int (pd K), .int v, .int (ps K), .int (pt K)]))) H1 := hP1
    have hD1 : va_D A ((X ++ ppool np pa pk pn pu pw pd pr ps pt).set (n + K) (pa K, .inr (10, [pn K, .int (pu K), .int (pw K), .int (pd K), .int v, .int (ps K), .int (pt K)]))) := hD1
    exact kk H1 locs1 (by rw [← hset]; exact hP1) (by rw [← hset]; exact hD1) hS1
set_option maxHeartbeats 4000000 in
theorem pp_put5 {p : Program} {l : Launch} {e : Env} {R : Room} {s : State} {m : MethodId} {args : Array Value} {below : List Frame} {meth : Method} {c : Code} {H : Heap} {locs : List Loc} {cells slots : Nat} {Q : State → Prop} {pc : Nat} {ls : Array Slot} {rest : List Value} {cc : ByteArray} {D : va_G} {dA : Nat → ClassId} {A : Nat → Prop} {H0 : Heap}
    {own : String} {index : Nat} {X : va_W} {np n K : Nat} {pa pk : Nat → Nat} {pn : Nat → Value} {pu pw pd pr ps pt : AI} (hx : p.tables.exec = Jvm.exec) (hb : c.code = cc) (hts : ∀ w ∈ lw_all, w.before args s = true) (hown : s.vm.findClass own = some m.cls) (hK : KK D dA s) (hP : va_P D clG (X ++ ppool np pa pk pn pu pw pd pr ps pt) H) (hD : va_D A (X ++ ppool np pa pk pn pu pw pd pr ps pt)) (hS : va_S A H0 H locs) (hX : X.length = n) (h1 : K < np) (h4 : pk K < 4) (v : Int32)
    (hlink : (Cond.fieldLink own index "LastAsked$Person" (TX10 5).2.1 (TX10 5).2.2.1).before args s = true) (hdg : decode cc pc = .ok (.putfield index, 3))
    (kk : ∀ (H1 : Heap) (locs1 : List Loc), va_P D clG (X ++ ppool np pa pk pn pu pw pd pr (upd ps K v) pt) H1 → va_D A (X ++ ppool np pa pk pn pu pw pd pr (upd ps K v) pt) → va_S A H0 H1 locs1 → W p l e R s m args below meth c H1 locs1 cells slots Q (F0 m (pc + 3) ls rest)) : W p l e R s m args below meth c H locs cells slots Q (F0 m pc ls (.int v :: .ref (pa K) :: rest)) := by
  have he := pp_get (X := X) (pa := pa) (pk := pk) (pn := pn) (pu := pu) (pw := pw) (pd := pd) (pr := pr) (ps := ps) (pt := pt) hX h1
  have hset := pp_set (X := X) (pa := pa) (pk := pk) (pn := pn) (pu := pu) (pw := pw) (pd := pd) (pr := pr) (ps := ps) (pt := pt) (pw' := pw) (pd' := pd) (pr' := pr) (ps' := (upd ps K v)) (pt' := pt) hX h1 (fun j hj => ⟨rfl, rfl, rfl, upd_ne hj, rfl⟩)
  have hc : ppc pn pu pw pd pr (upd ps K v) pt K = [pn K, .int (pu K), .int (pw K), .int (pd K), .int (pr K), .int v, .int (pt K)] := by unfold ppc; rw [upd_eq]
  rw [hc] at hset
  rcases (show pk K = 0 ∨ pk K = 1 ∨ pk K = 2 ∨ pk K = 3 by omega) with q | q | q | q
  · rw [q] at he hset
    refine va_put (D := D) (ci := 7) (v := .int v) (ty := .int) (C := RX10) (T := TX10) (N := 7) hx hb hts in_X10 tyX10 tyX10_ok nmX10 hown hK.1 hP hD hS _ he rfl 5 (by decide) hlink (fun _ h9 => h9) rfl (by decide +kernel) rfl rfl (Nat.le_of_ble_eq_true rfl) hdg (fun H1 locs1 hP1 hD1 hS1 => ?_)
    have hP1 : va_P D clG ((X ++ ppool np pa pk pn pu pw pd pr ps pt).set (n + K) (pa K, .inr (7, [pn K, .int (pu K), .int (pw K), .int (pd K), .int (pr K), .int v, .int (pt K)]))) H1 := hP1
    have hD1 : va_D A ((X ++ ppool np pa pk pn pu pw pd pr ps pt).set (n + K) (pa K, .inr (7, [pn K, .int (pu K), .int (pw K), .int (pd K), .int (pr K), .int v, .int (pt K)]))) := hD1
    exact kk H1 locs1 (by rw [← hset]; exact hP1) (by rw [← hset]; exact hD1) hS1
  · rw [q] at he hset
    refine va_put (D := D) (ci := 8) (v := .int v) (ty := .int) (C := RX11) (T := TX11) (N := 7) hx hb hts in_X11 tyX11 tyX11_ok nmX11 hown hK.1 hP hD hS _ he rfl 5 (by decide) hlink (fun _ h9 => h9) rfl (by decide +kernel) rfl rfl (Nat.le_of_ble_eq_true rfl) hdg (fun H1 locs1 hP1 hD1 hS1 => ?_)
    have hP1 : va_P D clG ((X ++ ppool np pa pk pn pu pw pd pr ps pt).set (n + K) (pa K, .inr (8, [pn K, .int (pu K), .int (pw K), .int (pd K), .int (pr K), .int v, .int (pt K)]))) H1 := hP1
    have hD1 : va_D A ((X ++ ppool np pa pk pn pu pw pd pr ps pt).set (n + K) (pa K, .inr (8, [pn K, .int (pu K), .int (pw K), .int (pd K), .int (pr K), .int v, .int (pt K)]))) := hD1
    exact kk H1 locs1 (by rw [← hset]; exact hP1) (by rw [← hset]; exact hD1) hS1
  · rw [q] at he hset
    refine va_put (D := D) (ci := 9) (v := .int v) (ty := .int) (C := RX12) (T := TX12) (N := 7) hx hb hts in_X12 tyX12 tyX12_ok nmX12 hown hK.1 hP hD hS _ he rfl 5 (by decide) hlink (fun _ h9 => h9) rfl (by decide +kernel) rfl rfl (Nat.le_of_ble_eq_true rfl) hdg (fun H1 locs1 hP1 hD1 hS1 => ?_)
    have hP1 : va_P D clG ((X ++ ppool np pa pk pn pu pw pd pr ps pt).set (n + K) (pa K, .inr (9, [pn K, .int (pu K), .int (pw K), .int (pd K), .int (pr K), .int v, .int (pt K)]))) H1 := hP1
    have hD1 : va_D A ((X ++ ppool np pa pk pn pu pw pd pr ps pt).set (n + K) (pa K, .inr (9, [pn K, .int (pu K), .int (pw K), .int (pd K), .int (pr K), .int v, .int (pt K)]))) := hD1
    exact kk H1 locs1 (by rw [← hset]; exact hP1) (by rw [← hset]; exact hD1) hS1
  · rw [q] at he hset
    refine va_put (D := D) (ci := 10) (v := .int v) (ty := .int) (C := RX13) (T := TX13) (N := 7) hx hb hts in_X13 tyX13 tyX13_ok nmX13 hown hK.1 hP hD hS _ he rfl 5 (by decide) hlink (fun _ h9 => h9) rfl (by decide +kernel) rfl rfl (Nat.le_of_ble_eq_true rfl) hdg (fun H1 locs1 hP1 hD1 hS1 => ?_)
    have hP1 : va_P D clG ((X ++ ppool np pa pk pn pu pw pd pr ps pt).set (n + K) (pa K, .inr (10, [pn K, .int (pu K), .int (pw K), .int (pd K), .int (pr K), .int v, .int (pt K)]))) H1 := hP1
    have hD1 : va_D A ((X ++ ppool np pa pk pn pu pw pd pr ps pt).set (n + K) (pa K, .inr (10, [pn K, .int (pu K), .int (pw K), .int (pd K), .int (pr K), .int v, .int (pt K)]))) := hD1
    exact kk H1 locs1 (by rw [← hset]; exact hP1) (by rw [← hset]; exact hD1) hS1
set_option maxHeartbeats 4000000 in
theorem pp_put6 {p : Program} {l : Launch} {e : Env} {R : Room} {s : State} {m : MethodId} {args : Array Value} {below : List Frame} {meth : Method} {c : Code} {H : Heap} {locs : List Loc} {cells slots : Nat} {Q : State → Prop} {pc : Nat} {ls : Array Slot} {rest : List Value} {cc : ByteArray} {D : va_G} {dA : Nat → ClassId} {A : Nat → Prop} {H0 : Heap}
    {own : String} {index : Nat} {X : va_W} {np n K : Nat} {pa pk : Nat → Nat} {pn : Nat → Value} {pu pw pd pr ps pt : AI} (hx : p.tables.exec = Jvm.exec) (hb : c.code = cc) (hts : ∀ w ∈ lw_all, w.before args s = true) (hown : s.vm.findClass own = some m.cls) (hK : KK D dA s) (hP : va_P D clG (X ++ ppool np pa pk pn pu pw pd pr ps pt) H) (hD : va_D A (X ++ ppool np pa pk pn pu pw pd pr ps pt)) (hS : va_S A H0 H locs) (hX : X.length = n) (h1 : K < np) (h4 : pk K < 4) (v : Int32)
    (hlink : (Cond.fieldLink own index "LastAsked$Person" (TX10 6).2.1 (TX10 6).2.2.1).before args s = true) (hdg : decode cc pc = .ok (.putfield index, 3))
    (kk : ∀ (H1 : Heap) (locs1 : List Loc), va_P D clG (X ++ ppool np pa pk pn pu pw pd pr ps (upd pt K v)) H1 → va_D A (X ++ ppool np pa pk pn pu pw pd pr ps (upd pt K v)) → va_S A H0 H1 locs1 → W p l e R s m args below meth c H1 locs1 cells slots Q (F0 m (pc + 3) ls rest)) : W p l e R s m args below meth c H locs cells slots Q (F0 m pc ls (.int v :: .ref (pa K) :: rest)) := by
  have he := pp_get (X := X) (pa := pa) (pk := pk) (pn := pn) (pu := pu) (pw := pw) (pd := pd) (pr := pr) (ps := ps) (pt := pt) hX h1
  have hset := pp_set (X := X) (pa := pa) (pk := pk) (pn := pn) (pu := pu) (pw := pw) (pd := pd) (pr := pr) (ps := ps) (pt := pt) (pw' := pw) (pd' := pd) (pr' := pr) (ps' := ps) (pt' := (upd pt K v)) hX h1 (fun j hj => ⟨rfl, rfl, rfl, rfl, upd_ne hj⟩)
  have hc : ppc pn pu pw pd pr ps (upd pt K v) K = [pn K, .int (pu K), .int (pw K), .int (pd K), .int (pr K), .int (ps K), .int v] := by unfold ppc; rw [upd_eq]
  rw [hc] at hset
  rcases (show pk K = 0 ∨ pk K = 1 ∨ pk K = 2 ∨ pk K = 3 by omega) with q | q | q | q
  · rw [q] at he hset
    refine va_put (D := D) (ci := 7) (v := .int v) (ty := .int) (C := RX10) (T := TX10) (N := 7) hx hb hts in_X10 tyX10 tyX10_ok nmX10 hown hK.1 hP hD hS _ he rfl 6 (by decide) hlink (fun _ h9 => h9) rfl (by decide +kernel) rfl rfl (Nat.le_of_ble_eq_true rfl) hdg (fun H1 locs1 hP1 hD1 hS1 => ?_)
    have hP1 : va_P D clG ((X ++ ppool np pa pk pn pu pw pd pr ps pt).set (n + K) (pa K, .inr (7, [pn K, .int (pu K), .int (pw K), .int (pd K), .int (pr K), .int (ps K), .int v]))) H1 := hP1
    have hD1 : va_D A ((X ++ ppool np pa pk pn pu pw pd pr ps pt).set (n + K) (pa K, .inr (7, [pn K, .int (pu K), .int (pw K), .int (pd K), .int (pr K), .int (ps K), .int v]))) := hD1
    exact kk H1 locs1 (by rw [← hset]; exact hP1) (by rw [← hset]; exact hD1) hS1
  · rw [q] at he hset
    refine va_put (D := D) (ci := 8) (v := .int v) (ty := .int) (C := RX11) (T := TX11) (N := 7) hx hb hts in_X11 tyX11 tyX11_ok nmX11 hown hK.1 hP hD hS _ he rfl 6 (by decide) hlink (fun _ h9 => h9) rfl (by decide +kernel) rfl rfl (Nat.le_of_ble_eq_true rfl) hdg (fun H1 locs1 hP1 hD1 hS1 => ?_)
    have hP1 : va_P D clG ((X ++ ppool np pa pk pn pu pw pd pr ps pt).set (n + K) (pa K, .inr (8, [pn K, .int (pu K), .int (pw K), .int (pd K), .int (pr K), .int (ps K), .int v]))) H1 := hP1
    have hD1 : va_D A ((X ++ ppool np pa pk pn pu pw pd pr ps pt).set (n + K) (pa K, .inr (8, [pn K, .int (pu K), .int (pw K), .int (pd K), .int (pr K), .int (ps K), .int v]))) := hD1
    exact kk H1 locs1 (by rw [← hset]; exact hP1) (by rw [← hset]; exact hD1) hS1
  · rw [q] at he hset
    refine va_put (D := D) (ci := 9) (v := .int v) (ty := .int) (C := RX12) (T := TX12) (N := 7) hx hb hts in_X12 tyX12 tyX12_ok nmX12 hown hK.1 hP hD hS _ he rfl 6 (by decide) hlink (fun _ h9 => h9) rfl (by decide +kernel) rfl rfl (Nat.le_of_ble_eq_true rfl) hdg (fun H1 locs1 hP1 hD1 hS1 => ?_)
    have hP1 : va_P D clG ((X ++ ppool np pa pk pn pu pw pd pr ps pt).set (n + K) (pa K, .inr (9, [pn K, .int (pu K), .int (pw K), .int (pd K), .int (pr K), .int (ps K), .int v]))) H1 := hP1
    have hD1 : va_D A ((X ++ ppool np pa pk pn pu pw pd pr ps pt).set (n + K) (pa K, .inr (9, [pn K, .int (pu K), .int (pw K), .int (pd K), .int (pr K), .int (ps K), .int v]))) := hD1
    exact kk H1 locs1 (by rw [← hset]; exact hP1) (by rw [← hset]; exact hD1) hS1
  · rw [q] at he hset
    refine va_put (D := D) (ci := 10) (v := .int v) (ty := .int) (C := RX13) (T := TX13) (N := 7) hx hb hts in_X13 tyX13 tyX13_ok nmX13 hown hK.1 hP hD hS _ he rfl 6 (by decide) hlink (fun _ h9 => h9) rfl (by decide +kernel) rfl rfl (Nat.le_of_ble_eq_true rfl) hdg (fun H1 locs1 hP1 hD1 hS1 => ?_)
    have hP1 : va_P D clG ((X ++ ppool np pa pk pn pu pw pd pr ps pt).set (n + K) (pa K, .inr (10, [pn K, .int (pu K), .int (pw K), .int (pd K), .int (pr K), .int (ps K), .int v]))) H1 := hP1
    have hD1 : va_D A ((X ++ ppool np pa pk pn pu pw pd pr ps pt).set (n + K) (pa K, .inr (10, [pn K, .int (pu K), .int (pw K), .int (pd K), .int (pr K), .int (ps K), .int v]))) := hD1
    exact kk H1 locs1 (by rw [← hset]; exact hP1) (by rw [← hset]; exact hD1) hS1
