set_option maxRecDepth 100000
/-! reading on both sides: a line, a whole city -/
theorem bind_idm (X : Option ((Int32 × Int32) ⊕ ZS)) (K : ((Int32 × Int32) ⊕ ZS) → Option ((Int32 × Int32) ⊕ ZS)) (h : ∀ r, K r = some r) : X.bind K = X := by
  cases X with
  | none => rfl
  | some x => exact h x
set_option maxHeartbeats 4000000 in
theorem M_line {z e : Nat} {s : ZS} {spot sort place number : Int32} {word : Int64} (h : TR z e s spot sort place number word) (tx : AI) : MZ_line tx (nI z) s = if isK s 1 = true then MZ_cityLine tx (nI z) s else if isK s 2 = true then MZ_personLine tx (nI z) s else if isK s 3 = true then MZ_nearLine tx (nI z) s else if isK s 4 = true then MZ_askedLine tx (nI z) s else if isK s 5 = true then MZ_heardLine tx (nI z) s else if isK s 6 = true then MZ_wentLine tx (nI z) s else some (.inl ((1 : Int32), s.2.2.1)) := by
  unfold MZ_line
  rcases h.cases with ⟨a, b⟩ | ⟨a, b, -, -, -, i, hi, hn, hg, -⟩
  · have no : ∀ k, isK s k = false := fun k => by
      cases q : isK s k with
      | false => rfl
      | true => exact absurd (isK_tk q) a
    rw [if_neg a, no 1, no 2, no 3, no 4, no 5, no 6]
    rfl
  · obtain ⟨k2, k9, k1, k3, k6, k4, k5⟩ := kw_hash
    have h9 : s.2.2.2.2.2.2.2.2.2.2.2.2.2.2.2.2.2.2.2.2.2.2.2.2.2.2.2.2.2.1 i < 9 := by have := hg.2.1; omega
    rw [if_pos a, hi, Option.bind_some, gn_of hn, gn_of hn, gn_of h9]
    have no : ∀ (k : Nat) (v c : Int32), hashG (klen k) (kby k) = v → hashG (s.2.2.2.2.2.2.2.2.2.2.2.2.2.2.2.2.2.2.2.2.2.2.2.2.2.2.2.2.2.1 i) (s.2.2.2.2.2.2.2.2.2.2.2.2.2.2.2.2.2.2.2.2.2.2.2.2.2.2.2.2.2.2.1 i) = c → ¬ c = v → isK s k = false := by
      intro k v c h1 h2 h3
      cases q : isK s k with
      | false => rfl
      | true => exact absurd ((h2.symm.trans (isK_hash hi q)).trans h1) h3
    have ge : ∀ k, isK s k = !decide (eqC (s.2.2.2.2.2.2.2.2.2.2.2.2.2.2.2.2.2.2.2.2.2.2.2.2.2.2.2.2.2.1 i) (s.2.2.2.2.2.2.2.2.2.2.2.2.2.2.2.2.2.2.2.2.2.2.2.2.2.2.2.2.2.2.1 i) (klen k) (kby k) = 0) := fun k => isK_eq hi a
    have no2 : ∀ (k : Nat) (v : Int32), hashG (klen k) (kby k) = v → ¬ hashG (s.2.2.2.2.2.2.2.2.2.2.2.2.2.2.2.2.2.2.2.2.2.2.2.2.2.2.2.2.2.1 i) (s.2.2.2.2.2.2.2.2.2.2.2.2.2.2.2.2.2.2.2.2.2.2.2.2.2.2.2.2.2.2.1 i) = v → isK s k = false := by
      intro k v h1 h2
      cases q : isK s k with
      | false => rfl
      | true => exact absurd ((isK_hash hi q).trans h1) h2
    by_cases c2 : hashG (s.2.2.2.2.2.2.2.2.2.2.2.2.2.2.2.2.2.2.2.2.2.2.2.2.2.2.2.2.2.1 i) (s.2.2.2.2.2.2.2.2.2.2.2.2.2.2.2.2.2.2.2.2.2.2.2.2.2.2.2.2.2.2.1 i) = (-991716523 : Int32)
    · rw [if_pos c2, gn_of hn, gn_of h9, no 1 _ _ k1 c2 (by decide), no 3 _ _ k3 c2 (by decide), no 6 _ _ k6 c2 (by decide), no 4 _ _ k4 c2 (by decide), no 5 _ _ k5 c2 (by decide)]
      by_cases q : eqC (s.2.2.2.2.2.2.2.2.2.2.2.2.2.2.2.2.2.2.2.2.2.2.2.2.2.2.2.2.2.1 i) (s.2.2.2.2.2.2.2.2.2.2.2.2.2.2.2.2.2.2.2.2.2.2.2.2.2.2.2.2.2.2.1 i) (klen 2) (kby 2) = 0
      · rw [if_pos q, show isK s 2 = false by rw [ge 2]; simp [q]]; rfl
      · rw [if_neg q, show isK s 2 = true by rw [ge 2]; simp [q]]; exact bind_idm _ _ (fun r => by cases r <;> rfl)
    rw [if_neg c2]
    by_cases c1 : hashG (s.2.2.2.2.2.2.2.2.2.2.2.2.2.2.2.2.2.2.2.2.2.2.2.2.2.2.2.2.2.1 i) (s.2.2.2.2.2.2.2.2.2.2.2.2.2.2.2.2.2.2.2.2.2.2.2.2.2.2.2.2.2.2.1 i) = (3053931 : Int32)
    · rw [if_pos c1, gn_of hn, gn_of h9, no 2 _ _ k2 c1 (by decide), no 3 _ _ k3 c1 (by decide), no 6 _ _ k6 c1 (by decide), no 4 _ _ k4 c1 (by decide), no 5 _ _ k5 c1 (by decide)]
      by_cases q : eqC (s.2.2.2.2.2.2.2.2.2.2.2.2.2.2.2.2.2.2.2.2.2.2.2.2.2.2.2.2.2.1 i) (s.2.2.2.2.2.2.2.2.2.2.2.2.2.2.2.2.2.2.2.2.2.2.2.2.2.2.2.2.2.2.1 i) (klen 1) (kby 1) = 0
      · rw [if_pos q, show isK s 1 = false by rw [ge 1]; simp [q]]; rfl
      · rw [if_neg q, show isK s 1 = true by rw [ge 1]; simp [q]]; exact bind_idm _ _ (fun r => by cases r <;> rfl)
    rw [if_neg c1]
    by_cases c3 : hashG (s.2.2.2.2.2.2.2.2.2.2.2.2.2.2.2.2.2.2.2.2.2.2.2.2.2.2.2.2.2.1 i) (s.2.2.2.2.2.2.2.2.2.2.2.2.2.2.2.2.2.2.2.2.2.2.2.2.2.2.2.2.2.2.1 i) = (3377192 : Int32)
    · rw [if_pos c3, gn_of hn, gn_of h9, no 2 _ _ k2 c3 (by decide), no 1 _ _ k1 c3 (by decide), no 6 _ _ k6 c3 (by decide), no 4 _ _ k4 c3 (by decide), no 5 _ _ k5 c3 (by decide)]
      by_cases q : eqC (s.2.2.2.2.2.2.2.2.2.2.2.2.2.2.2.2.2.2.2.2.2.2.2.2.2.2.2.2.2.1 i) (s.2.2.2.2.2.2.2.2.2.2.2.2.2.2.2.2.2.2.2.2.2.2.2.2.2.2.2.2.2.2.1 i) (klen 3) (kby 3) = 0
      · rw [if_pos q, show isK s 3 = false by rw [ge 3]; simp [q]]; rfl
      · rw [if_neg q, show isK s 3 = true by rw [ge 3]; simp [q]]; exact bind_idm _ _ (fun r => by cases r <;> rfl)
    rw [if_neg c3]
    by_cases c6 : hashG (s.2.2.2.2.2.2.2.2.2.2.2.2.2.2.2.2.2.2.2.2.2.2.2.2.2.2.2.2.2.1 i) (s.2.2.2.2.2.2.2.2.2.2.2.2.2.2.2.2.2.2.2.2.2.2.2.2.2.2.2.2.2.2.1 i) = (3645716 : Int32)
    · rw [if_pos c6, gn_of hn, gn_of h9, no 2 _ _ k2 c6 (by decide), no 1 _ _ k1 c6 (by decide), no 3 _ _ k3 c6 (by decide), no 4 _ _ k4 c6 (by decide), no 5 _ _ k5 c6 (by decide)]
      by_cases q : eqC (s.2.2.2.2.2.2.2.2.2.2.2.2.2.2.2.2.2.2.2.2.2.2.2.2.2.2.2.2.2.1 i) (s.2.2.2.2.2.2.2.2.2.2.2.2.2.2.2.2.2.2.2.2.2.2.2.2.2.2.2.2.2.2.1 i) (klen 6) (kby 6) = 0
      · rw [if_pos q, show isK s 6 = false by rw [ge 6]; simp [q]]; rfl
      · rw [if_neg q, show isK s 6 = true by rw [ge 6]; simp [q]]; exact bind_idm _ _ (fun r => by cases r <;> rfl)
    rw [if_neg c6]
    by_cases c4 : hashG (s.2.2.2.2.2.2.2.2.2.2.2.2.2.2.2.2.2.2.2.2.2.2.2.2.2.2.2.2.2.1 i) (s.2.2.2.2.2.2.2.2.2.2.2.2.2.2.2.2.2.2.2.2.2.2.2.2.2.2.2.2.2.2.1 i) = (93113560 : Int32)
    · rw [if_pos c4, gn_of hn, gn_of h9, no 2 _ _ k2 c4 (by decide), no 1 _ _ k1 c4 (by decide), no 3 _ _ k3 c4 (by decide), no 6 _ _ k6 c4 (by decide), no 5 _ _ k5 c4 (by decide)]
      by_cases q : eqC (s.2.2.2.2.2.2.2.2.2.2.2.2.2.2.2.2.2.2.2.2.2.2.2.2.2.2.2.2.2.1 i) (s.2.2.2.2.2.2.2.2.2.2.2.2.2.2.2.2.2.2.2.2.2.2.2.2.2.2.2.2.2.2.1 i) (klen 4) (kby 4) = 0
      · rw [if_pos q, show isK s 4 = false by rw [ge 4]; simp [q]]; rfl
      · rw [if_neg q, show isK s 4 = true by rw [ge 4]; simp [q]]; exact bind_idm _ _ (fun r => by cases r <;> rfl)
    rw [if_neg c4]
    by_cases c5 : hashG (s.2.2.2.2.2.2.2.2.2.2.2.2.2.2.2.2.2.2.2.2.2.2.2.2.2.2.2.2.2.1 i) (s.2.2.2.2.2.2.2.2.2.2.2.2.2.2.2.2.2.2.2.2.2.2.2.2.2.2.2.2.2.2.1 i) = (99151926 : Int32)
    · rw [if_pos c5, gn_of hn, gn_of h9, no 2 _ _ k2 c5 (by decide), no 1 _ _ k1 c5 (by decide), no 3 _ _ k3 c5 (by decide), no 6 _ _ k6 c5 (by decide), no 4 _ _ k4 c5 (by decide)]
      by_cases q : eqC (s.2.2.2.2.2.2.2.2.2.2.2.2.2.2.2.2.2.2.2.2.2.2.2.2.2.2.2.2.2.1 i) (s.2.2.2.2.2.2.2.2.2.2.2.2.2.2.2.2.2.2.2.2.2.2.2.2.2.2.2.2.2.2.1 i) (klen 5) (kby 5) = 0
      · rw [if_pos q, show isK s 5 = false by rw [ge 5]; simp [q]]; rfl
      · rw [if_neg q, show isK s 5 = true by rw [ge 5]; simp [q]]; exact bind_idm _ _ (fun r => by cases r <;> rfl)
    rw [if_neg c5]
    rw [no2 2 _ k2 c2, no2 1 _ k1 c1, no2 3 _ k3 c3, no2 6 _ k6 c6, no2 4 _ k4 c4, no2 5 _ k5 c5]
    rfl
set_option maxHeartbeats 8000000 in
theorem line_sim {z e n m : Nat} (hz : z ≤ 900) (tx : AI) {s : ZS} {spot sort place number : Int32} {word : Int64} (h : TR z e s spot sort place number word) (h5 : ¬ sort = 5) {hour : Int32} {gives : Int32} {people : Int32} {nears : Int32} {askeds : Int32} {heards : Int32} {wents : Int32} {went : AI} {name : AL} {kind : AI} {near : AI} {asked : AI} {by_ : AI} {of_ : AI} {give : AI} {has : AI} {dies : AI} (hc : cityR n m s hour gives people nears askeds heards wents went name kind near asked by_ of_ give has dies) (f wa ao : Int32) :
    (∃ er r, MZ_line tx (nI z) s = some (.inl er) ∧ erO er.1 ∧ MX7_readLine (nI z) spot sort place number f wa word ao hour gives people nears askeds heards wents tx went name kind near asked by_ of_ give has dies = some r ∧ r.2.1 = 5 ∧ r.2.2.2.2.1 = er.1 ∧ r.2.2.2.2.2.1 = er.2) ∨
    (∃ e' s' n' m' a b c d w ao' hour' gives' people' nears' askeds' heards' wents' went' name' kind' near' asked' by_' of_' give' has' dies', MZ_line tx (nI z) s = some (.inr s') ∧ MX7_readLine (nI z) spot sort place number f wa word ao hour gives people nears askeds heards wents tx went name kind near asked by_ of_ give has dies = some (a, b, c, d, f, wa, w, ao', hour', gives', people', nears', askeds', heards', wents', went', name', kind', near', asked', by_', of_', give', has', dies') ∧ TR z e' s' a b c d w ∧ cityR n' m' s' hour' gives' people' nears' askeds' heards' wents' went' name' kind' near' asked' by_' of_' give' has' dies' ∧ ¬ b = 5 ∧ e ≤ e' ∧ ∃ t, t ≤ 99 ∧ hour' = nI t) := by
  obtain ⟨hp, hcn, hr, ha, hd⟩ := hc
  have hpe : people = nI n := hcn.1
  have hn := hp.1
  rw [M_line h]
  unfold MX7_readLine
  rw [M_isWord h (k := 1) (by decide) (by decide), M_isWord h (k := 2) (by decide) (by decide), M_isWord h (k := 3) (by decide) (by decide), M_isWord h (k := 4) (by decide) (by decide), M_isWord h (k := 5) (by decide) (by decide), M_isWord h (k := 6) (by decide) (by decide)]
  by_cases q1 : isK s 1 = true
  · rw [if_pos q1, q1, Option.bind_some, if_neg (by decide)]
    rcases cityLine_sim hz tx h (isK_tk q1) hp hcn f wa with ⟨er, a, c, d, w, hh, gg, k1, k2, k3⟩ | ⟨e', s1, s', a, b, c, d, w, hh, gg, k1, k2, k3, k4, k5, k6, k7, k8, k9⟩
    · exact Or.inl ⟨er, _, k1, k2, by rw [k3]; rfl, rfl, rfl, rfl⟩
    · subst k5
      have hcn1 := cntR_sm k4 hcn
      obtain ⟨x1, x2, x3, x4, x5, x6⟩ := hcn1
      refine Or.inr ⟨e', _, n, m, a, b, c, d, w, _, _, _, _, _, _, _, _, _, _, _, _, _, _, _, _, _, _, k1, by rw [k2]; rfl, k3, ⟨(by have h9 := phR_sm k4 hp; exact h9), ⟨x1, rfl, Or.inr k8, rfl, k9, x6⟩, (by have h9 := perR_sm k4 hr; exact h9), (by have h9 := askR_sm k4 ha; exact h9), (by have h9 := hrdR_sm k4 hd; exact h9)⟩, k6, by omega, k8⟩
  rw [if_neg q1, show isK s 1 = false by simpa using q1, Option.bind_some, if_pos (show b2i false = 0 from rfl)]
  by_cases q2 : isK s 2 = true
  · rw [if_pos q2, q2, Option.bind_some, if_neg (by decide), hpe]
    rcases personLine_sim hz tx h (isK_tk q2) (kind := kind) (has := has) (dies := dies) hp hcn f wa with ⟨er, a, c, d, w, x1, x2, x3, x4, x5, k1, k2, k3⟩ | ⟨e', s1, s2, s3, i, kd, t1, t2, a, b, c, d, w, W, n6, k1, k2, k3, k4, k5, k6, k7, k8, k9, k10, k11, k12, k13, k14, k15⟩
    · exact Or.inl ⟨er, _, k1, k2, by rw [k3]; rfl, rfl, rfl, rfl⟩
    · refine Or.inr ⟨e', _, n + 1, m, a, b, c, d, w, _, _, _, _, _, _, _, _, _, _, _, _, _, _, _, _, _, _, k10, by rw [k11]; rfl, k12, ?_, k13, by omega, k15⟩
      exact city_person n6 hp hcn hr ha hd k1 k2 k3 k4 k5 k6 k7 k8 k9
  rw [if_neg q2, show isK s 2 = false by simpa using q2, Option.bind_some, if_pos (show b2i false = 0 from rfl)]
  by_cases q3 : isK s 3 = true
  · rw [if_pos q3, q3, Option.bind_some, if_neg (by decide), hpe]
    rcases nearLine_sim hz tx h (isK_tk q3) (asked := asked) hp hcn hr f wa with ⟨er, a, c, d, w, x, y, k1, k2, k3⟩ | ⟨e', s1, k, k', a, b, c, d, w, k1, k2, k3, k4, k5, k6, k7, k8, k9, k10⟩
    · exact Or.inl ⟨er, _, k1, k2, by rw [k3]; rfl, rfl, rfl, rfl⟩
    · refine Or.inr ⟨e', _, n, m, a, b, c, d, w, _, _, _, _, _, _, _, _, _, _, _, _, _, _, _, _, _, _, k3, by rw [k4]; rfl, k5, ?_, k7, by omega, k9⟩
      exact city_near (people := people) hp (hpe ▸ hcn) hr ha hd k6 k1 k2 k10
  rw [if_neg q3, show isK s 3 = false by simpa using q3, Option.bind_some, if_pos (show b2i false = 0 from rfl)]
  by_cases q4 : isK s 4 = true
  · rw [if_pos q4, q4, Option.bind_some, if_neg (by decide), hpe]
    rcases askedLine_sim hz tx h (isK_tk q4) hp hcn hr ha f wa with ⟨er, a, c, d, w, x, y, u, k1, k2, k3⟩ | ⟨e', s1, s2, k, k', t, a, b, c, d, w, x, k1, k2, k3, k4, k5, k6, k7, k8, k9, k10, k11, k12, k13, k14⟩
    · exact Or.inl ⟨er, _, k1, k2, by rw [k3]; rfl, rfl, rfl, rfl⟩
    · refine Or.inr ⟨e', _, n, m, a, b, c, d, w, _, _, _, _, _, _, _, _, _, _, _, _, _, _, _, _, _, _, k8, by rw [k9]; rfl, k10, ?_, k11, by omega, k13⟩
      exact city_asked (people := people) hp (hpe ▸ hcn) hr ha hd k6 k7 k1 k2 k3 k4 k5 k14
  rw [if_neg q4, show isK s 4 = false by simpa using q4, Option.bind_some, if_pos (show b2i false = 0 from rfl)]
  by_cases q5 : isK s 5 = true
  · rw [if_pos q5, q5, Option.bind_some, if_neg (by decide), hpe]
    rcases heardLine_sim hz tx h (isK_tk q5) (by_ := by_) (of_ := of_) (give := give) hp hcn hr ha f wa with ⟨er, a, c, d, w, x, y, u, u1, u2, u3, k1, k2, k3⟩ | ⟨e', s1, s2, s3, s4, k, k', t, g, a, b, c, d, w, x, k1, k2, k3, k4, k5, k6, k7, k8, k9, k10, k11, k12, k13, k14, k15, k16, k17⟩
    · exact Or.inl ⟨er, _, k1, k2, by rw [k3]; rfl, rfl, rfl, rfl⟩
    · refine Or.inr ⟨e', _, n, m + 1, a, b, c, d, w, _, _, _, _, _, _, _, _, _, _, _, _, _, _, _, _, _, _, k11, by rw [k12]; rfl, k13, ?_, k14, by omega, k16⟩
      exact city_heard (people := people) hp (hpe ▸ hcn) hr ha hd k7 k8 k9 k10 k1 k2 k3 k4 k5 k6 k17
  rw [if_neg q5, show isK s 5 = false by simpa using q5, Option.bind_some, if_pos (show b2i false = 0 from rfl)]
  by_cases q6 : isK s 6 = true
  · rw [if_pos q6, q6, Option.bind_some, if_neg (by decide), hpe]
    rcases wentLine_sim hz tx h (isK_tk q6) hp hcn hr f wa with ⟨er, a, c, d, w, x, y, k1, k2, k3⟩ | ⟨e', s1, k, v, a, b, c, d, w, k1, k2, k3, k4, k5, k6, k7, k8⟩
    · exact Or.inl ⟨er, _, k1, k2, by rw [k3]; rfl, rfl, rfl, rfl⟩
    · refine Or.inr ⟨e', _, n, m, a, b, c, d, w, _, _, _, _, _, _, _, _, _, _, _, _, _, _, _, _, _, _, k2, by rw [k3]; rfl, k4, ?_, k6, by omega, k8⟩
      exact city_went (people := people) hp (hpe ▸ hcn) hr ha hd k5 k1
  rw [if_neg q6, show isK s 6 = false by simpa using q6, Option.bind_some, if_pos (show b2i false = 0 from rfl), flawN h5, Option.bind_some]
  exact Or.inl ⟨_, _, rfl, ⟨1, by decide, by decide, rfl⟩, rfl, rfl, rfl, h.pl.symm⟩
