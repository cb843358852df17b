set_option maxRecDepth 100000
theorem fl_app (a b : List va_W) : fl (a ++ b) = fl a ++ fl b := by rw [fl_eq, fl_eq, fl_eq, List.flatten_append]
theorem c_joinx {A : Nat → Prop} {D : va_G} {cl : List vw_C} {wc c1 T ex : va_W} {H H1 : Heap} (hP : va_P D cl (wc ++ T) H) (hD : va_D A (wc ++ T)) (hf : c1.map (·.1) = wc.map (·.1)) (hk : ∀ q : Nat, q < H.size → ¬ va_A wc H.size q → H1[q]? = H[q]?) (hF : ∀ q, va_A wc H.size q → A q) (hP1 : va_P D cl (c1 ++ ex) H1) (hD1 : va_D (va_A wc H.size) (c1 ++ ex)) : va_P D cl ((c1 ++ T) ++ ex) H1 ∧ va_D A ((c1 ++ T) ++ ex) := by
  obtain ⟨hPa, hDa⟩ := c_join hP hD hf hk (P_left hP1)
  refine ⟨P_app hPa (P_right hP1), va_D_of.mpr ⟨?_, fun q hq => ?_⟩⟩
  · rw [List.map_append]
    refine List.nodup_append.mpr ⟨(va_D_of.mp hDa).1, (va_D_of.mp (D_right hD1)).1, fun a ha b hb e => ?_⟩
    subst e
    obtain ⟨x, hx, ex'⟩ := List.mem_map.mp hb
    rw [List.map_append] at ha
    rcases List.mem_append.mp ha with h | h
    · have d := (va_D_of.mp hD1).1
      rw [List.map_append] at d
      exact (List.nodup_append.mp d).2.2 a h a hb rfl
    · rcases (va_D_of.mp hD1).2 x (List.mem_append_right _ hx) with ⟨k, e, hw⟩ | hge
      · have d := (va_D_of.mp hD).1
        rw [List.map_append] at d
        exact (List.nodup_append.mp d).2.2 a (List.mem_map.mpr ⟨(x.1, e), List.mem_of_getElem? hw, ex'⟩) a h rfl
      · obtain ⟨y, hy, ey⟩ := List.mem_map.mp h
        have h3 := (va_P_of.mp hP y (List.mem_append_right _ hy)).lt
        have h4 : y.1 = x.1 := ey.trans ex'.symm
        omega
  · rcases List.mem_append.mp hq with h | h
    · exact (va_D_of.mp hDa).2 q h
    · exact hF q.1 ((va_D_of.mp hD1).2 q (List.mem_append_right _ h))
section CX
variable {p : Program} {l : Launch} {e : Env} {R : Room} {s : State} {m : MethodId} {args : Array Value} {below : List Frame} {meth : Method} {c : Code} {H : Heap} {locs : List Loc} {cells slots : Nat} {Q : State → Prop}
variable {pc : Nat} {ls : Array Slot} {rest st0 : List Value} {a : Array Value} {A : Nat → Prop} {H0 : Heap} {mc ms n : Nat} {D : va_G} {wc : va_W} {cs : List va_W}
/-- the new pieces are told one by one (vs: those that stay), what is made stands behind -/
theorem c_ix {S : Type} {r0 : Int32} {c1 ex : S → va_W} (is js : List Nat) (Y E : S → List va_W) (vs : List va_W) (hr : va_Run p l e R s m args below meth c H locs cells slots mc ms (F0 m pc ls st0) rest (qi_ D r0 (fun u => c1 u ++ ex u) (va_A wc H.size) a) (va_A wc H.size)) (hn : cs.length = n) (h : (is ++ js).Perm (List.range n)) (hw : fl (pick cs is) = wc)
    (hP : va_P D clG (fl cs) H) (hD : va_D A (fl cs)) (hS : va_S A H0 H locs) (hA : ∀ q, H0.size ≤ q → A q) (hf : ∀ u, (c1 u).map (·.1) = wc.map (·.1)) (hl : ∀ u, (Y u).length = n) (hy : ∀ u, fl (pick (Y u) is) = c1 u) (hj1 : ∀ u, pick (Y u) js = vs) (hj2 : pick cs js = vs) (he : ∀ u, fl (E u) = ex u)
    (kk : ∀ (u : S) (H1 : Heap) (locs1 : List Loc), va_P D clG (fl (Y u ++ E u)) H1 → va_D A (fl (Y u ++ E u)) → va_S A H0 H1 locs1 → W p l e R s m args below meth c H1 locs1 (cells + mc) (slots + ms) Q (F0 m (pc + 3) ls (.int r0 :: rest))) : W p l e R s m args below meth c H locs cells slots Q (F0 m pc ls st0) := by
  obtain ⟨hP2, hD2⟩ := c_perm is js hn h hw hP hD
  have hF := c_free hD2 hS hA
  refine va_calli hr hS (fun q _ h => hF q h) hF (fun r u t H1 locs1 ht _ hpost hB hz hk hS1 => ?_)
  subst hpost
  obtain ⟨hP1, hD1⟩ := hB
  rw [ht] at hP1
  obtain ⟨hP3, hD3⟩ := c_joinx hP2 hD2 (hf u) hk hF hP1 hD1
  have pm : ((c1 u ++ fl (pick cs js)) ++ ex u).Perm (fl (Y u ++ E u)) := by
    rw [fl_app, he u]
    refine List.Perm.append_right _ ?_
    rw [hj2, ← hj1 u, ← hy u]
    exact fl_pick (hl u) h
  exact kk u H1 locs1 (hP3.perm pm) (hD3.perm pm) hS1
/-- the same, what is made is forgotten -/
theorem c_iv {S : Type} {r0 : Int32} {c1 ex : S → va_W} (is js : List Nat) (Y : S → List va_W) (vs : List va_W) (hr : va_Run p l e R s m args below meth c H locs cells slots mc ms (F0 m pc ls st0) rest (qi_ D r0 (fun u => c1 u ++ ex u) (va_A wc H.size) a) (va_A wc H.size)) (hn : cs.length = n) (h : (is ++ js).Perm (List.range n)) (hw : fl (pick cs is) = wc)
    (hP : va_P D clG (fl cs) H) (hD : va_D A (fl cs)) (hS : va_S A H0 H locs) (hA : ∀ q, H0.size ≤ q → A q) (hf : ∀ u, (c1 u).map (·.1) = wc.map (·.1)) (hl : ∀ u, (Y u).length = n) (hy : ∀ u, fl (pick (Y u) is) = c1 u) (hj1 : ∀ u, pick (Y u) js = vs) (hj2 : pick cs js = vs)
    (kk : ∀ (u : S) (H1 : Heap) (locs1 : List Loc), va_P D clG (fl (Y u)) H1 → va_D A (fl (Y u)) → va_S A H0 H1 locs1 → W p l e R s m args below meth c H1 locs1 (cells + mc) (slots + ms) Q (F0 m (pc + 3) ls (.int r0 :: rest))) : W p l e R s m args below meth c H locs cells slots Q (F0 m pc ls st0) :=
  c_ix (E := fun u => [ex u]) is js Y _ vs hr hn h hw hP hD hS hA hf hl hy hj1 hj2 (fun _ => rfl) (fun u H1 locs1 hP hD hS => kk u H1 locs1 (by rw [fl_app] at hP; exact P_left hP) (by rw [fl_app] at hD; exact D_left hD) hS)
/-- the same, nothing is made -/
theorem c_is {S : Type} {r0 : Int32} {c1 : S → va_W} (is js : List Nat) (Y : S → List va_W) (vs : List va_W) (hr : va_Run p l e R s m args below meth c H locs cells slots mc ms (F0 m pc ls st0) rest (qi_ D r0 c1 (va_A wc H.size) a) (va_A wc H.size)) (hn : cs.length = n) (h : (is ++ js).Perm (List.range n)) (hw : fl (pick cs is) = wc)
    (hP : va_P D clG (fl cs) H) (hD : va_D A (fl cs)) (hS : va_S A H0 H locs) (hA : ∀ q, H0.size ≤ q → A q) (hf : ∀ u, (c1 u).map (·.1) = wc.map (·.1)) (hl : ∀ u, (Y u).length = n) (hy : ∀ u, fl (pick (Y u) is) = c1 u) (hj1 : ∀ u, pick (Y u) js = vs) (hj2 : pick cs js = vs)
    (kk : ∀ (u : S) (H1 : Heap) (locs1 : List Loc), va_P D clG (fl (Y u)) H1 → va_D A (fl (Y u)) → va_S A H0 H1 locs1 → W p l e R s m args below meth c H1 locs1 (cells + mc) (slots + ms) Q (F0 m (pc + 3) ls (.int r0 :: rest))) : W p l e R s m args below meth c H locs cells slots Q (F0 m pc ls st0) :=
  c_i is js Y hn h hw hr hP hD hS hA hf hl hy (fun u => (hj1 u).trans hj2.symm) kk
end CX
def zaF (a b c d : Nat) : Nat → Nat := fun i => ([a, b, c, d] : List Nat).getD i 0
theorem city_split {t : Nat} (ht : t ≤ 900) (p : Int32) : (MX1_in p 0 (nI t) = some false ∧ MX7_cityR p (nI t) = some (-1, 0, 2, -1)) ∨ ∃ z, z ≤ t ∧ p = nI z ∧ MX1_in p 0 (nI t) = some true := by
  unfold MX1_in MX7_cityR
  by_cases c1 : p < 0
  · rw [if_pos c1, if_pos c1]
    exact Or.inl ⟨rfl, rfl⟩
  · rw [if_neg c1, if_neg c1]
    by_cases c2 : nI t < p
    · rw [if_pos c2, if_neg (Int32.not_le.mpr c2)]
      exact Or.inl ⟨rfl, rfl⟩
    · rw [if_neg c2]
      refine Or.inr ?_
      obtain ⟨z, hz, e⟩ := in_nI (v := p) (hi := t) (by omega) (by
        unfold inB
        simp only [Int32.not_lt.mp c1, Int32.not_lt.mp c2, decide_true, Bool.and_self])
      exact ⟨z, hz, e, rfl⟩
