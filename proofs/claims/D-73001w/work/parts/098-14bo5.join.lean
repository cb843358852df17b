set_option maxRecDepth 100000
theorem put_lt {X Y c1 : va_W} {n : Nat} {is : List Nat} (hX : X.length = n) (hl : Y.length = n) (h1 : is.map (fun i => Y[i]?) = c1.map some) : ∀ i ∈ is, i < X.length := by
  intro i hi
  have h2 : Y[i]? ∈ c1.map some := by rw [← h1]; exact List.mem_map.mpr ⟨i, hi, rfl⟩
  obtain ⟨x, -, hx⟩ := List.mem_map.mp h2
  have := (List.getElem?_eq_some_iff.mp hx.symm).1
  omega
theorem put_PL {D : va_G} {cl : List vw_C} {H : Heap} {X Y P c1 : va_W} {n : Nat} (is js : List Nat) (vs : va_W) (hP : va_P D cl (putAt (X ++ P) is c1) H) (hn : va_nd is = true) (hX : X.length = n) (hl : Y.length = n) (h1 : is.map (fun i => Y[i]?) = c1.map some) (h2 : js.map (fun i => Y[i]?) = vs.map some) (h3 : js.map (fun i => X[i]?) = vs.map some) (hc : (List.range n).all (fun k => is.contains k || js.contains k) = true) : va_P D cl (Y ++ P) H := by
  rw [putAt_left P is X c1 (put_lt hX hl h1)] at hP
  exact put_P is js hP hn hX hl h1 (h2.trans h3.symm) hc
theorem put_DL {A : Nat → Prop} {X Y P c1 : va_W} {n : Nat} (is js : List Nat) (vs : va_W) (hP : va_D A (putAt (X ++ P) is c1)) (hn : va_nd is = true) (hX : X.length = n) (hl : Y.length = n) (h1 : is.map (fun i => Y[i]?) = c1.map some) (h2 : js.map (fun i => Y[i]?) = vs.map some) (h3 : js.map (fun i => X[i]?) = vs.map some) (hc : (List.range n).all (fun k => is.contains k || js.contains k) = true) : va_D A (Y ++ P) := by
  rw [putAt_left P is X c1 (put_lt hX hl h1)] at hP
  exact put_D is js hP hn hX hl h1 (h2.trans h3.symm) hc
