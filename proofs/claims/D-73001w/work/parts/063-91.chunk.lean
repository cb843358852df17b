set_option maxRecDepth 100000
/-! worlds as lists of pieces -/
def fl : List va_W → va_W
  | [] => []
  | [a] => a
  | a :: b :: t => a ++ fl (b :: t)
theorem fl_eq : ∀ cs : List va_W, fl cs = cs.flatten
  | [] => rfl
  | [a] => by simp [fl]
  | a :: b :: t => by rw [fl, fl_eq (b :: t)]; rfl
theorem fl_cons (a : va_W) (cs : List va_W) : fl (a :: cs) = a ++ fl cs := by rw [fl_eq, fl_eq]; rfl
def pick (cs : List va_W) (is : List Nat) : List va_W := is.map (fun i => cs.getD i [])
theorem pick_perm {cs : List va_W} {is js : List Nat} {n : Nat} (hn : cs.length = n) (h : (is ++ js).Perm (List.range n)) : (pick cs is ++ pick cs js).Perm cs := by
  unfold pick
  rw [← List.map_append]
  have h1 := h.map (fun i => cs.getD i [])
  have h2 : (List.range n).map (fun i => cs.getD i []) = cs := by
    apply List.ext_getElem?
    intro k
    rw [List.getElem?_map]
    by_cases hk : k < n
    · rw [List.getElem?_range hk]
      show some (cs.getD k []) = cs[k]?
      rw [List.getD_eq_getElem?_getD, List.getElem?_eq_getElem (by omega)]
      rfl
    · rw [List.getElem?_eq_none (by simpa using hk), List.getElem?_eq_none (by omega)]
      rfl
  rw [h2] at h1
  exact h1
theorem fl_pick {cs : List va_W} {is js : List Nat} {n : Nat} (hn : cs.length = n) (h : (is ++ js).Perm (List.range n)) : (fl (pick cs is) ++ fl (pick cs js)).Perm (fl cs) := by
  rw [fl_eq, fl_eq, fl_eq, ← List.flatten_append]
  exact (pick_perm hn h).flatten
theorem P_left {D : va_G} {cl : List vw_C} {X T : va_W} {H : Heap} (h : va_P D cl (X ++ T) H) : va_P D cl X H := va_P_of.mpr fun q hq => va_P_of.mp h q (List.mem_append_left _ hq)
theorem P_right {D : va_G} {cl : List vw_C} {X T : va_W} {H : Heap} (h : va_P D cl (X ++ T) H) : va_P D cl T H := va_P_of.mpr fun q hq => va_P_of.mp h q (List.mem_append_right _ hq)
theorem P_app {D : va_G} {cl : List vw_C} {X T : va_W} {H : Heap} (h : va_P D cl X H) (h2 : va_P D cl T H) : va_P D cl (X ++ T) H := va_P_of.mpr fun q hq => (List.mem_append.mp hq).elim (va_P_of.mp h q) (va_P_of.mp h2 q)
theorem D_left {A : Nat → Prop} {X T : va_W} (h : va_D A (X ++ T)) : va_D A X := by
  obtain ⟨h1, h2⟩ := va_D_of.mp h
  rw [List.map_append] at h1
  exact va_D_of.mpr ⟨(List.nodup_append.mp h1).1, fun q hq => h2 q (List.mem_append_left _ hq)⟩
theorem D_right {A : Nat → Prop} {X T : va_W} (h : va_D A (X ++ T)) : va_D A T := by
  obtain ⟨h1, h2⟩ := va_D_of.mp h
  rw [List.map_append] at h1
  exact va_D_of.mpr ⟨(List.nodup_append.mp h1).2.1, fun q hq => h2 q (List.mem_append_right _ hq)⟩
/-- the part that is called, beside the rest -/
theorem c_perm {D : va_G} {A : Nat → Prop} {cs : List va_W} {wc : va_W} {H : Heap} {n : Nat} (is js : List Nat) (hn : cs.length = n) (h : (is ++ js).Perm (List.range n)) (hw : fl (pick cs is) = wc) (hP : va_P D clG (fl cs) H) (hD : va_D A (fl cs)) : va_P D clG (wc ++ fl (pick cs js)) H ∧ va_D A (wc ++ fl (pick cs js)) := by
  rw [← hw]
  exact ⟨hP.perm (fl_pick hn h).symm, hD.perm (fl_pick hn h).symm⟩
theorem c_P {D : va_G} {A : Nat → Prop} {cs : List va_W} {wc : va_W} {H : Heap} {n : Nat} (is js : List Nat) (hn : cs.length = n) (h : (is ++ js).Perm (List.range n)) (hw : fl (pick cs is) = wc) (hP : va_P D clG (fl cs) H) (hD : va_D A (fl cs)) : va_P D clG wc H := P_left (c_perm is js hn h hw hP hD).1
theorem c_D {D : va_G} {A : Nat → Prop} {cs : List va_W} {wc : va_W} {H : Heap} {n : Nat} (is js : List Nat) (hn : cs.length = n) (h : (is ++ js).Perm (List.range n)) (hw : fl (pick cs is) = wc) (hP : va_P D clG (fl cs) H) (hD : va_D A (fl cs)) : va_D A wc := D_left (c_perm is js hn h hw hP hD).2
theorem c_join {A : Nat → Prop} {D : va_G} {cl : List vw_C} {wc c1 T : va_W} {H H1 : Heap} (hP : va_P D cl (wc ++ T) H) (hD : va_D A (wc ++ T)) (hf : c1.map (·.1) = wc.map (·.1)) (hk : ∀ q : Nat, q < H.size → ¬ va_A wc H.size q → H1[q]? = H[q]?) (hP1 : va_P D cl c1 H1) : va_P D cl (c1 ++ T) H1 ∧ va_D A (c1 ++ T) := by
  obtain ⟨d1, d2⟩ := va_D_of.mp hD
  rw [List.map_append] at d1
  have d3 := (List.nodup_append.mp d1).2.2
  refine ⟨P_app hP1 (va_P_of.mpr fun q hq => ?_), va_D_of.mpr ⟨by rw [List.map_append, hf]; exact d1, fun q hq => ?_⟩⟩
  · have h0 := va_P_of.mp hP q (List.mem_append_right _ hq)
    refine h0.kept (hk q.1 h0.lt ?_)
    rintro (⟨k, e, h⟩ | h)
    · exact d3 q.1 (List.mem_map.mpr ⟨(q.1, e), List.mem_of_getElem? h, rfl⟩) q.1 (List.mem_map.mpr ⟨q, hq, rfl⟩) rfl
    · have := h0.lt; omega
  · rcases List.mem_append.mp hq with h | h
    · have h2 : q.1 ∈ wc.map (·.1) := by rw [← hf]; exact List.mem_map.mpr ⟨q, h, rfl⟩
      obtain ⟨q', h3, h4⟩ := List.mem_map.mp h2
      rw [← h4]
      exact d2 q' (List.mem_append_left _ h3)
    · exact d2 q (List.mem_append_right _ h)
theorem c_free {A : Nat → Prop} {wc T : va_W} {H0 H : Heap} {locs : List Loc} (hD : va_D A (wc ++ T)) (hS : va_S A H0 H locs) (hA : ∀ q, H0.size ≤ q → A q) : ∀ q, va_A wc H.size q → A q := by
  intro q h
  rcases h with ⟨k, e, h⟩ | h
  · exact (va_D_of.mp (D_left hD)).2 (q, e) (List.mem_of_getElem? h)
  · exact hA q (Nat.le_trans hS.1 h)
theorem c_back {D : va_G} {A : Nat → Prop} {cs Y : List va_W} {c1 : va_W} {H : Heap} {n : Nat} (is js : List Nat) (hn : Y.length = n) (h : (is ++ js).Perm (List.range n)) (hy : fl (pick Y is) = c1) (hj : pick Y js = pick cs js) (q : va_P D clG (c1 ++ fl (pick cs js)) H ∧ va_D A (c1 ++ fl (pick cs js))) : va_P D clG (fl Y) H ∧ va_D A (fl Y) := by
  rw [← hj, ← hy] at q
  exact ⟨q.1.perm (fl_pick hn h), q.2.perm (fl_pick hn h)⟩
section CC
variable {p : Program} {l : Launch} {e : Env} {R : Room} {s : State} {m : MethodId} {args : Array Value} {below : List Frame} {meth : Method} {c : Code} {H : Heap} {locs : List Loc} {cells slots : Nat} {Q : State → Prop}
variable {pc : Nat} {ls : Array Slot} {rest st0 : List Value} {a : Array Value} {A : Nat → Prop} {H0 : Heap} {mc ms n : Nat} {D : va_G} {wc : va_W} {cs : List va_W}
theorem c_i {S : Type} {r0 : Int32} {c1 : S → va_W} (is js : List Nat) (Y : S → List va_W) (hn : cs.length = n) (h : (is ++ js).Perm (List.range n)) (hw : fl (pick cs is) = wc)
    (hr : va_Run p l e R s m args below meth c H locs cells slots mc ms (F0 m pc ls st0) rest (qi_ D r0 c1 (va_A wc H.size) a) (va_A wc H.size))
    (hP : va_P D clG (fl cs) H) (hD : va_D A (fl cs)) (hS : va_S A H0 H locs) (hA : ∀ q, H0.size ≤ q → A q) (hf : ∀ u, (c1 u).map (·.1) = wc.map (·.1)) (hl : ∀ u, (Y u).length = n) (hy : ∀ u, fl (pick (Y u) is) = c1 u) (hj : ∀ u, pick (Y u) js = pick cs js)
    (kk : ∀ (u : S) (H1 : Heap) (locs1 : List Loc), va_P D clG (fl (Y u)) H1 → va_D A (fl (Y u)) → va_S A H0 H1 locs1 → W p l e R s m args below meth c H1 locs1 (cells + mc) (slots + ms) Q (F0 m (pc + 3) ls (.int r0 :: rest))) : W p l e R s m args below meth c H locs cells slots Q (F0 m pc ls st0) := by
  obtain ⟨hP2, hD2⟩ := c_perm is js hn h hw hP hD
  have hF := c_free hD2 hS hA
  refine va_calli hr hS (fun q _ h => hF q h) hF (fun r u t H1 locs1 ht _ hpost hB hz hk hS1 => ?_)
  subst hpost
  obtain ⟨hP1, hD1⟩ := hB
  rw [ht] at hP1
  obtain ⟨hP3, hD3⟩ := c_back is js (hl u) h (hy u) (hj u) (c_join hP2 hD2 (hf u) hk hP1)
  exact kk u H1 locs1 hP3 hD3 hS1
theorem c_l {S : Type} {r0 : Int64} {c1 : S → va_W} (is js : List Nat) (Y : S → List va_W) (hn : cs.length = n) (h : (is ++ js).Perm (List.range n)) (hw : fl (pick cs is) = wc)
    (hr : va_Run p l e R s m args below meth c H locs cells slots mc ms (F0 m pc ls st0) rest (ql_ D r0 c1 (va_A wc H.size) a) (va_A wc H.size))
    (hP : va_P D clG (fl cs) H) (hD : va_D A (fl cs)) (hS : va_S A H0 H locs) (hA : ∀ q, H0.size ≤ q → A q) (hf : ∀ u, (c1 u).map (·.1) = wc.map (·.1)) (hl : ∀ u, (Y u).length = n) (hy : ∀ u, fl (pick (Y u) is) = c1 u) (hj : ∀ u, pick (Y u) js = pick cs js)
    (kk : ∀ (u : S) (H1 : Heap) (locs1 : List Loc), va_P D clG (fl (Y u)) H1 → va_D A (fl (Y u)) → va_S A H0 H1 locs1 → W p l e R s m args below meth c H1 locs1 (cells + mc) (slots + ms) Q (F0 m (pc + 3) ls (.long r0 :: rest))) : W p l e R s m args below meth c H locs cells slots Q (F0 m pc ls st0) := by
  obtain ⟨hP2, hD2⟩ := c_perm is js hn h hw hP hD
  have hF := c_free hD2 hS hA
  refine va_calll hr hS (fun q _ h => hF q h) hF (fun r u t H1 locs1 ht _ hpost hB hz hk hS1 => ?_)
  subst hpost
  obtain ⟨hP1, hD1⟩ := hB
  rw [ht] at hP1
  obtain ⟨hP3, hD3⟩ := c_back is js (hl u) h (hy u) (hj u) (c_join hP2 hD2 (hf u) hk hP1)
  exact kk u H1 locs1 hP3 hD3 hS1
end CC
/-! towns kept: N of them; one pulled out -/
def twC (dA : Nat → ClassId) (a ah ao : Nat) (li ho ca ni se : Int32) (has hours : AI) (cy : Value) : va_W := [(a, .inr (3, [.ref ah, .ref ao, cy, .int li, .int ho, .int ca, .int ni, .int se])), (ah, .inl (dA 0, 6, .inl has)), (ao, .inl (dA 0, 36, .inl hours))]
def utF (dA : Nat → ClassId) (ta th to_ : Nat → Nat) (uL uH uC uN uS : Nat → Int32) (uhas uhours : Nat → AI) (ucity : Nat → Value) : Nat → va_W := fun j => twC dA (ta j) (th j) (to_ j) (uL j) (uH j) (uC j) (uN j) (uS j) (uhas j) (uhours j) (ucity j)
def utW (N : Nat) (f : Nat → va_W) : va_W := ((List.range N).map f).flatten
def utR (N : Nat) (f : Nat → va_W) (k : Nat) : va_W := (((List.range N).filter (fun j => decide (j ≠ k))).map f).flatten
theorem filter_perm {k : Nat} : ∀ (L : List Nat), L.Nodup → k ∈ L → (k :: L.filter (fun j => decide (j ≠ k))).Perm L
  | [], _, h => absurd h List.not_mem_nil
  | x :: L, hn, h => by
    obtain ⟨hx, hn2⟩ := List.nodup_cons.mp hn
    by_cases q : x = k
    · subst q
      have e : (x :: L).filter (fun j => decide (j ≠ x)) = L := by
        rw [List.filter_cons_of_neg (by simp)]
        exact List.filter_eq_self.mpr fun j hj => by
          have : j ≠ x := fun q => hx (q ▸ hj)
          simpa using this
      rw [e]
    · have hk : k ∈ L := by rcases List.mem_cons.mp h with h | h; exact absurd h.symm q; exact h
      rw [List.filter_cons_of_pos (by simpa using q)]
      exact (List.Perm.swap x k _).trans ((filter_perm L hn2 hk).cons x)
theorem ut_split {N k : Nat} (hk : k < N) (f : Nat → va_W) : (f k ++ utR N f k).Perm (utW N f) := by
  have h := ((filter_perm (List.range N) List.nodup_range (List.mem_range.mpr hk)).map f).flatten
  exact h
theorem utR_cong {N k : Nat} {f g : Nat → va_W} (h : ∀ j, j ≠ k → f j = g j) : utR N f k = utR N g k := by
  unfold utR
  congr 1
  exact List.map_congr_left fun j hj => h j (by simpa using (List.mem_filter.mp hj).2)
theorem utW_cong {N : Nat} {f g : Nat → va_W} (h : ∀ j, j < N → f j = g j) : utW N f = utW N g := by
  unfold utW
  congr 1
  exact List.map_congr_left fun j hj => h j (List.mem_range.mp hj)
theorem P_cons {D : va_G} {A : Nat → Prop} {U V : va_W} {cs : List va_W} {H : Heap} (h : U.Perm V) (q : va_P D clG (fl (U :: cs)) H ∧ va_D A (fl (U :: cs))) : va_P D clG (fl (V :: cs)) H ∧ va_D A (fl (V :: cs)) := by
  rw [fl_cons] at q ⊢
  exact ⟨q.1.perm (h.append_right _), q.2.perm (h.append_right _)⟩
/-- towns kept: the k-th pulled out -/
theorem P_pull {D : va_G} {A : Nat → Prop} {N k : Nat} {f : Nat → va_W} {cs : List va_W} {H : Heap} (hk : k < N) (q : va_P D clG (fl (utW N f :: cs)) H ∧ va_D A (fl (utW N f :: cs))) : va_P D clG (fl (f k :: utR N f k :: cs)) H ∧ va_D A (fl (f k :: utR N f k :: cs)) := by
  have h := P_cons (ut_split hk f).symm q
  rw [fl_cons] at h
  rw [fl_cons, fl_cons, ← List.append_assoc]
  exact h
theorem P_push {D : va_G} {A : Nat → Prop} {N k : Nat} {f g : Nat → va_W} {cs : List va_W} {H : Heap} (hk : k < N) (h : ∀ j, j ≠ k → g j = f j) (q : va_P D clG (fl (g k :: utR N f k :: cs)) H ∧ va_D A (fl (g k :: utR N f k :: cs))) : va_P D clG (fl (utW N g :: cs)) H ∧ va_D A (fl (utW N g :: cs)) := by
  rw [← utR_cong (N := N) h] at q
  refine P_cons (ut_split hk g) ?_
  rw [fl_cons]
  rw [fl_cons, fl_cons, ← List.append_assoc] at q
  exact q
theorem pref_at {N k : Nat} {f : Nat → Nat} (h : k < N) : pref N f k = some (f k) := by unfold pref; rw [if_pos h]
theorem updF_at {α : Type} {f : Nat → α} {k : Nat} {x : α} : updF f k x k = x := by unfold updF; rw [if_pos rfl]
theorem updF_no {α : Type} {f : Nat → α} {k j : Nat} {x : α} (h : j ≠ k) : updF f k x j = f j := by unfold updF; rw [if_neg h]
theorem utF_at {dA : Nat → ClassId} {ta th to_ : Nat → Nat} {uL uH uC uN uS : Nat → Int32} {uhas uhours : Nat → AI} {ucity : Nat → Value} {k : Nat} {l h c n s : Int32} {hs ho : AI} {cy : Value} : utF dA ta th to_ (updF uL k l) (updF uH k h) (updF uC k c) (updF uN k n) (updF uS k s) (updF uhas k hs) (updF uhours k ho) (updF ucity k cy) k = twC dA (ta k) (th k) (to_ k) l h c n s hs ho cy := by
  unfold utF
  simp only [updF_at]
theorem utF_ne {dA : Nat → ClassId} {ta th to_ : Nat → Nat} {uL uH uC uN uS : Nat → Int32} {uhas uhours : Nat → AI} {ucity : Nat → Value} {k j : Nat} {l h c n s : Int32} {hs ho : AI} {cy : Value} (q : j ≠ k) : utF dA ta th to_ (updF uL k l) (updF uH k h) (updF uC k c) (updF uN k n) (updF uS k s) (updF uhas k hs) (updF uhours k ho) (updF ucity k cy) j = utF dA ta th to_ uL uH uC uN uS uhas uhours ucity j := by
  unfold utF
  simp only [updF_no q]
theorem fl_swap (a b : va_W) (cs : List va_W) : (fl (a :: b :: cs)).Perm (fl (b :: a :: cs)) := by
  rw [fl_eq, fl_eq]
  exact (List.Perm.swap b a cs).flatten
theorem P_pull2 {D : va_G} {A : Nat → Prop} {N k : Nat} {f : Nat → va_W} {U : va_W} {cs : List va_W} {H : Heap} (hk : k < N) (q : va_P D clG (fl (U :: utW N f :: cs)) H ∧ va_D A (fl (U :: utW N f :: cs))) : va_P D clG (fl (U :: f k :: utR N f k :: cs)) H ∧ va_D A (fl (U :: f k :: utR N f k :: cs)) := by
  have h1 := P_pull hk ⟨q.1.perm (fl_swap _ _ _), q.2.perm (fl_swap _ _ _)⟩
  have e : (fl (f k :: utR N f k :: U :: cs)).Perm (fl (U :: f k :: utR N f k :: cs)) := by
    rw [fl_eq, fl_eq]
    exact (((List.Perm.swap U (utR N f k) cs).cons (f k)).trans (List.Perm.swap U (f k) _)).flatten
  exact ⟨h1.1.perm e, h1.2.perm e⟩
theorem P_push2 {D : va_G} {A : Nat → Prop} {N k : Nat} {f g : Nat → va_W} {U : va_W} {cs : List va_W} {H : Heap} (hk : k < N) (h : ∀ j, j ≠ k → g j = f j) (q : va_P D clG (fl (U :: g k :: utR N f k :: cs)) H ∧ va_D A (fl (U :: g k :: utR N f k :: cs))) : va_P D clG (fl (U :: utW N g :: cs)) H ∧ va_D A (fl (U :: utW N g :: cs)) := by
  have e : (fl (U :: g k :: utR N f k :: cs)).Perm (fl (g k :: utR N f k :: U :: cs)) := by
    rw [fl_eq, fl_eq]
    exact ((List.Perm.swap (g k) U _).trans ((List.Perm.swap (utR N f k) U cs).cons (g k))).flatten
  have h1 := P_push hk h ⟨q.1.perm e, q.2.perm e⟩
  exact ⟨h1.1.perm (fl_swap _ _ _), h1.2.perm (fl_swap _ _ _)⟩
