set_option maxRecDepth 100000
/-! nights by draws -/
/-- two loops side by side -/
theorem loop2 {σ ρ τ π : Type} {f : σ → Option (σ ⊕ ρ)} {g : τ → Option (τ ⊕ π)} (I : Nat → σ → τ → Prop) (P : ρ → π → Prop) {n : Nat}
    (hs : ∀ i s t, i < n → I i s t → ∃ s' t', f s = some (.inl s') ∧ g t = some (.inl t') ∧ I (i + 1) s' t') (he : ∀ s t, I n s t → ∃ r q, f s = some (.inr r) ∧ g t = some (.inr q) ∧ P r q) :
    ∀ (d i : Nat) (s : σ) (t : τ) (k : Nat), i + d = n → d < k → I i s t → ∃ r q, loopN k f s = some r ∧ loopN k g t = some q ∧ P r q := by
  intro d
  induction d with
  | zero =>
    intro i s t k hi hk hI
    obtain ⟨k, rfl⟩ : ∃ j, k = j + 1 := ⟨k - 1, by omega⟩
    obtain rfl : i = n := by omega
    obtain ⟨r, q, e, e2, h⟩ := he s t hI
    exact ⟨r, q, by rw [loopN, e]; rfl, by rw [loopN, e2]; rfl, h⟩
  | succ d ih =>
    intro i s t k hi hk hI
    obtain ⟨k, rfl⟩ : ∃ j, k = j + 1 := ⟨k - 1, by omega⟩
    obtain ⟨s', t', e, e2, h⟩ := hs i s t (by omega) hI
    obtain ⟨r, q, e3, e4, h2⟩ := ih (i + 1) s' t' k (by omega) (by omega) h
    exact ⟨r, q, by rw [loopN, e]; exact e3, by rw [loopN, e2]; exact e4, h2⟩
theorem loop2_FU {σ ρ τ π : Type} {f : σ → Option (σ ⊕ ρ)} {g : τ → Option (τ ⊕ π)} (I : Nat → σ → τ → Prop) (P : ρ → π → Prop) (i0 n : Nat) (hi : i0 ≤ n) (hn : n < 100000) (s0 : σ) (t0 : τ) (h0 : I i0 s0 t0)
    (hs : ∀ i s t, i < n → I i s t → ∃ s' t', f s = some (.inl s') ∧ g t = some (.inl t') ∧ I (i + 1) s' t') (he : ∀ s t, I n s t → ∃ r q, f s = some (.inr r) ∧ g t = some (.inr q) ∧ P r q) : ∃ r q, loopN FU f s0 = some r ∧ loopN FU g t0 = some q ∧ P r q :=
  loop2 I P hs he (n - i0) i0 s0 t0 FU (by omega) (by unfold FU; omega) h0
def nextN (s : Nat) : Nat := (75 * s + 74) % 65537
theorem nextN_lt (s : Nat) : nextN s < 65537 := Nat.mod_lt _ (by decide)
theorem next_I {s : Nat} (h : s < 65537) : (((75 : Int32) * nI s) + (74 : Int32)) - (((75 : Int32) * nI s) + (74 : Int32)) / (65537 : Int32) * (65537 : Int32) = nI (nextN s) := by
  rw [show (75 : Int32) = nI 75 from rfl, show (74 : Int32) = nI 74 from rfl, show (65537 : Int32) = nI 65537 from rfl, pk_mul, nI_add]
  exact pk_rem (by omega) (by decide) (by decide)
theorem next_L {s : Nat} (h : s < 65537) : Int64.toInt32 ((((75 : Int64) * Int32.toInt64 (nI s)) + (74 : Int64)) - (((75 : Int64) * Int32.toInt64 (nI s)) + (74 : Int64)) / (65537 : Int64) * (65537 : Int64)) = nI (nextN s) := by
  rw [nI_l (by omega), show (75 : Int64) = lN 75 from rfl, show (74 : Int64) = lN 74 from rfl, show (65537 : Int64) = lN 65537 from rfl, lN_mul, lN_add, pk_lRem (by omega) (by decide) (by decide)]
  exact lN_i _
theorem rem100 {y : Nat} (h : y < 65537) : nI y - nI y / (100 : Int32) * (100 : Int32) = nI (y % 100) := by
  rw [show (100 : Int32) = nI 100 from rfl]
  exact pk_rem (by omega) (by decide) (by decide)
def drawN (liv : Int32) (d : Nat → Int32) (s0 : Nat) : Nat → Int32 × Nat
  | 0 => (0, s0)
  | i + 1 => if hasB liv (nI i) = false then drawN liv d s0 i else (if d i ≤ nI (nextN (drawN liv d s0 i).2 % 100) then (drawN liv d s0 i).1 ||| 0 else (drawN liv d s0 i).1 ||| ((1 : Int32) <<< (nI i &&& 31)), nextN (drawN liv d s0 i).2)
theorem drawN_lt {liv : Int32} {d : Nat → Int32} {s0 : Nat} (h : s0 < 65537) : ∀ i, (drawN liv d s0 i).2 < 65537 := by
  intro i
  induction i with
  | zero => exact h
  | succ i ih =>
    rw [drawN]
    by_cases c : hasB liv (nI i) = false
    · rw [if_pos c]; exact ih
    · rw [if_neg c]; exact nextN_lt _
theorem M_draws4 {n s0 : Nat} (hn : n ≤ 6) (hs : s0 < 65537) (liv : Int32) (pd : AI) : MX4_draws liv (nI s0) (nI n) n pd = some ((drawN liv pd s0 n).1, nI (drawN liv pd s0 n).2) := by
  unfold MX4_draws
  obtain ⟨r, e, hr⟩ := loop_FU (f := fun s_ : Int32 × Int32 × Int32 => BX4_draws_4 liv (nI n) n pd s_.1 s_.2.1 s_.2.2) (fun i s => s = ((drawN liv pd s0 i).1, nI i, nI (drawN liv pd s0 i).2)) (fun r => r = ((drawN liv pd s0 n).1, nI (drawN liv pd s0 n).2)) n (by omega) ((0 : Int32), (0 : Int32), nI s0) rfl
    (by
      intro i s hi hs'
      subst hs'
      refine Or.inl ⟨((drawN liv pd s0 (i + 1)).1, nI (i + 1), nI (drawN liv pd s0 (i + 1)).2), ?_, rfl⟩
      have hl := drawN_lt (liv := liv) (d := pd) hs i
      show BX4_draws_4 liv (nI n) n pd (drawN liv pd s0 i).1 (nI i) (nI (drawN liv pd s0 i).2) = _
      unfold BX4_draws_4
      rw [if_neg (nI_ge hi (by omega)), nI_1, M_isLiving4, Option.bind_some, drawN]
      by_cases c1 : hasB liv (nI i) = false
      · rw [if_pos (b2i_f c1), if_pos c1]
      · rw [if_neg (b2i_t (by simpa using c1)), if_neg c1, next_I hl]
        simp only [lt_]
        rw [rem100 (nextN_lt _), gi_nI (by omega) (by decide), nIc (by omega), gn_of hi]
        by_cases c2 : pd i ≤ nI (nextN (drawN liv pd s0 i).2 % 100)
        · rw [if_pos c2, if_pos c2]
        · rw [if_neg c2, if_neg c2])
    (by
      intro s hs'
      subst hs'
      exact ⟨_, by show BX4_draws_4 liv (nI n) n pd _ (nI n) _ = _; unfold BX4_draws_4; rw [if_pos (nI_le (Nat.le_refl n) (by omega))], rfl⟩)
  rw [e, hr]; rfl
theorem L_draws7 {n s0 : Nat} (hn : n ≤ 6) (hs : s0 < 65537) (liv : Int32) (d x : AI) (hx : x 42 = liv) (hx2 : x 46 = nI s0) : ∃ x', loopN FU (fun s_ : Int32 × Int32 × AI => BX7_aNight_4 (nI n) d s_.1 s_.2.1 s_.2.2) ((0 : Int32), (0 : Int32), x) = some ((drawN liv d s0 n).1, x') ∧ x' 46 = nI (drawN liv d s0 n).2 ∧ ∀ j, j ≠ 46 → x' j = x j := by
  obtain ⟨r, e, h1, h2, h3⟩ := loop_FU (f := fun s_ : Int32 × Int32 × AI => BX7_aNight_4 (nI n) d s_.1 s_.2.1 s_.2.2) (fun i s => s.1 = (drawN liv d s0 i).1 ∧ s.2.1 = nI i ∧ s.2.2 46 = nI (drawN liv d s0 i).2 ∧ ∀ j, j ≠ 46 → s.2.2 j = x j) (fun r => r.1 = (drawN liv d s0 n).1 ∧ r.2 46 = nI (drawN liv d s0 n).2 ∧ ∀ j, j ≠ 46 → r.2 j = x j) n (by omega) ((0 : Int32), (0 : Int32), x) ⟨rfl, rfl, hx2, fun _ _ => rfl⟩
    (by
      intro i s hi hs'
      obtain ⟨a, b, y⟩ := s
      obtain ⟨z1, z2, z3, z4⟩ := hs'
      dsimp only at z1 z2 z3 z4
      subst z1; subst z2
      have hl := drawN_lt (liv := liv) (d := d) hs i
      refine Or.inl ?_
      show ∃ s', BX7_aNight_4 (nI n) d (drawN liv d s0 i).1 (nI i) y = some (.inl s') ∧ _
      unfold BX7_aNight_4
      rw [if_neg (nI_ge hi (by omega)), nI_1, M_isLiving7, Option.bind_some, z4 42 (by decide), hx]
      by_cases c1 : hasB liv (nI i) = false
      · rw [if_pos (b2i_f c1)]
        exact ⟨_, rfl, by show _ = (drawN liv d s0 (i + 1)).1; rw [drawN, if_pos c1], rfl, by show y 46 = nI (drawN liv d s0 (i + 1)).2; rw [drawN, if_pos c1]; exact z3, z4⟩
      · rw [if_neg (b2i_t (by simpa using c1)), z3, next_L hl]
        simp only [lt_]
        rw [pk_us, rem100 (nextN_lt _), gi_nI (by omega) (by decide), nIc (by omega)]
        have hd : drawN liv d s0 (i + 1) = (if d i ≤ nI (nextN (drawN liv d s0 i).2 % 100) then (drawN liv d s0 i).1 ||| 0 else (drawN liv d s0 i).1 ||| ((1 : Int32) <<< (nI i &&& 31)), nextN (drawN liv d s0 i).2) := by rw [drawN, if_neg c1]
        have hy : ∀ j, j ≠ 46 → upd y 46 (nI (nextN (drawN liv d s0 i).2)) j = x j := fun j hj => by rw [pk_un hj]; exact z4 j hj
        have hq : upd y 46 (nI (nextN (drawN liv d s0 i).2)) 46 = nI (drawN liv d s0 (i + 1)).2 := by rw [pk_us, hd]
        by_cases c2 : d i ≤ nI (nextN (drawN liv d s0 i).2 % 100)
        · rw [if_pos c2]
          exact ⟨_, rfl, by rw [hd, if_pos c2], rfl, hq, hy⟩
        · rw [if_neg c2]
          exact ⟨_, rfl, by rw [hd, if_neg c2], rfl, hq, hy⟩)
    (by
      intro s hs'
      obtain ⟨a, b, y⟩ := s
      obtain ⟨z1, z2, z3, z4⟩ := hs'
      dsimp only at z1 z2 z3 z4
      subst z2
      exact ⟨_, by show BX7_aNight_4 (nI n) d a (nI n) y = _; unfold BX7_aNight_4; rw [if_pos (nI_le (Nat.le_refl n) (by omega))], z1, z3, z4⟩)
  exact ⟨r.2, by rw [e]; exact congrArg some (Prod.ext h1 rfl), h2, h3⟩
/-- the dead are taken out of the living: still a number below 2^n -/
theorem andnot_nI {L n : Nat} (hL : L < 2 ^ n) (hn : n ≤ 6) (s : Int32) : ∃ L', (nI L &&& (s ^^^ (-1 : Int32))) = nI L' ∧ L' < 2 ^ n := by
  have h2 := pow_le hn
  refine ⟨(nI L &&& (s ^^^ (-1 : Int32))).toBitVec.toNat, ?_, ?_⟩
  · apply Int32.toBitVec_inj.mp
    show _ = BitVec.ofNat 32 _
    rw [BitVec.ofNat_toNat, BitVec.setWidth_eq]
  · rw [Int32.toBitVec_and, BitVec.toNat_and]
    exact Nat.lt_of_le_of_lt Nat.and_le_left (by rw [pk_tn (by omega)]; exact hL)
theorem L_then7 {n : Nat} (hn : n ≤ 6) (cg : Int32) (heir th x : AI) : ∃ x', loopN FU (fun s_ : Int32 × AI => BX7_dieAll_11 (nI n) cg heir th s_.1 s_.2) ((0 : Int32), x) = some x' ∧ (∀ j, j < n → x' j = th j) ∧ ∀ j, n ≤ j → x' j = x j := by
  obtain ⟨a', e, h1, h2⟩ := loop_copy (f := fun s_ : Int32 × AI => BX7_dieAll_11 (nI n) cg heir th s_.1 s_.2) n 0 th (by omega) x (by
    intro i a hi
    show BX7_dieAll_11 (nI n) cg heir th (nI i) a = _
    unfold BX7_dieAll_11
    rw [if_neg (nI_ge hi (by omega)), nI_1, gi_nI (by omega) (by decide), gi_nI (by omega) (by decide), nIc (by omega), Nat.zero_add]) (by
    intro a
    show BX7_dieAll_11 (nI n) cg heir th (nI n) a = _
    unfold BX7_dieAll_11
    rw [if_pos (nI_le (Nat.le_refl n) (by omega))])
  exact ⟨a', e, fun j hj => by have := h1 j hj; rwa [Nat.zero_add] at this, fun j hj => h2 j (by omega)⟩
/-- some die for good: the same town on both sides -/
theorem dies_R {n : Nat} (hn : n ≤ 6) {liv hour cat nights seed : Int32} {has hours x : AI} (hR : townR n liv hour cat nights seed has hours x) (hM : moneyI n liv cat has) (set : Int32) (th tr heir then_ : AI) (counted : Bool) :
    ∃ cat' has' hours' cg x' heir' th', MX4_dies set liv hour cat nights seed th tr has hours (nI n) = some (liv &&& (set ^^^ (-1 : Int32)), hour, cat', nights, seed, has', hours') ∧ MX7_dieAll set counted (nI n) x heir then_ = some (cg, x', heir', th') ∧
      townR n (liv &&& (set ^^^ (-1 : Int32))) hour cat' (if counted = true then nights + 1 else nights) seed has' hours' x' ∧ moneyI n (liv &&& (set ^^^ (-1 : Int32))) cat' has' := by
  obtain ⟨has', hours', e1, e2, e3⟩ := M_dies4 hn set liv hour cat nights seed th tr has hours hM.deadO
  obtain ⟨L, hN, cN, g1, g2, g3, g4, g5, g6⟩ := hM
  obtain ⟨r1, r2, r3, r4, r5, r6, r7⟩ := hR
  obtain ⟨heir', eh, hh⟩ := M_heirs7 hn x heir hours r7
  obtain ⟨th', f1, f2⟩ := M_dying7 hn set then_ x heir' hours has r6 hh
  obtain ⟨x1, k1, k2, k3⟩ := L_then7 hn (dieC set (goesS (x 42) hours n set) has n) heir' th' x
  rw [r1] at f1 f2 k1
  have k3' : ∀ j, 6 ≤ j → x1 j = x j := fun j hj => k3 j (by omega)
  have ht : ∀ p, p < n → hasB set (nI p) = true → pers n (goesS liv hours n set p) := fun p hp _ => goesS_pers hn set hp
  obtain ⟨L', hL1, hL2⟩ := andnot_nI g2 hn set
  have hmo : moneyI n (liv &&& (set ^^^ (-1 : Int32))) (cat + dieC set (goesS liv hours n set) has n) has' := by
    refine ⟨L', thenN liv hours n hN set, cN + thenCN liv hours n hN set, by rw [g1]; exact hL1, hL2, fun j hj => ?_, ?_, ?_, ?_⟩
    · rw [e2 j hj]
      exact thenH_nI g3 set hj
    · rw [g4, ← nI_add]
      congr 1
      exact thenC_nI g3 set
    · have := thenN_le (liv := liv) (a := hours) hn g6 set
      omega
    · intro j hj hl
      rw [hasB_andn (by omega)] at hl
      cases c : hasB liv (nI j)
      · exact thenN_dead hn hj c set
      · rw [c, Bool.true_and] at hl
        have hs : hasB set (nI j) = true := by simpa using hl
        have ht2 : ∀ p, p < n → hasB set (nI p) = true → goesS liv hours n set p = -2 ∨ ∃ i, i < n ∧ goesS liv hours n set p = nI i ∧ hasB set (nI i) = false := fun p hp _ => goesS_in hn set hp
        show dieHN set (goesS liv hours n set) hN (dieBN liv set hN) n j = 0
        have hk : ∀ i, i ≤ n → dieHN set (goesS liv hours n set) hN (dieBN liv set hN) i j = 0 := by
          intro i
          induction i with
          | zero =>
            intro _
            show dieBN liv set hN j = 0
            unfold dieBN
            rw [if_pos (Or.inl hs)]
          | succ i ih =>
            intro hi
            show (if hasB set (nI i) = true ∧ goesS liv hours n set i = nI j then _ else dieHN set (goesS liv hours n set) hN (dieBN liv set hN) i j) = 0
            rw [if_neg, ih (by omega)]
            rintro ⟨h1, h2⟩
            rcases ht2 i (by omega) h1 with q | ⟨z, hz, q, h3⟩
            · rw [q] at h2; exact nI_ne_m2 (by omega) h2.symm
            · rw [h2] at q
              have := (nI_eq (by omega) (by omega)).mp q
              subst this
              rw [hs] at h3; cases h3
        exact hk n (Nat.le_refl n)
  have u43 : x1 43 = cat := by rw [k3' 43 (by decide)]; exact r2
  have u42 : ∀ y, upd x1 43 y 42 = liv := fun y => by rw [pk_un (by decide), k3' 42 (by decide)]; exact r1
  have base : ∀ y z : Int32, ∀ j, j ≠ 42 → j ≠ 43 → upd (upd x1 43 y) 42 z j = x1 j := fun y z j h1 h2 => by rw [pk_un h1, pk_un h2]
  have hrel' : ∀ X : AI, (∀ j, 6 ≤ j → j < 42 → X j = x j) → hrel hours' X := by
    intro X hX j hj
    rw [hX (6 + j) (by omega) (by omega), e3 j hj]
    exact r7 j hj
  unfold MX7_dieAll
  rw [eh, Option.bind_some, f1, Option.bind_some]
  dsimp only
  rw [k1, Option.bind_some]
  simp only [lt_]
  rw [u43, u42]
  cases counted
  · rw [iff_]
    refine ⟨_, has', hours', _, _, heir', th', e1, rfl, ⟨pk_us, ?_, ?_, ?_, ?_, ?_, ?_⟩, hmo⟩
    · rw [pk_un (by decide), pk_us]
    · rw [base _ _ 44 (by decide) (by decide), k3' 44 (by decide)]; exact r3
    · rw [base _ _ 45 (by decide) (by decide), k3' 45 (by decide)]; exact r4
    · rw [base _ _ 46 (by decide) (by decide), k3' 46 (by decide)]; exact r5
    · intro j hj; rw [base _ _ j (by omega) (by omega), k2 j hj, f2 j hj, e2 j hj]
    · exact hrel' _ (fun j h1 h2 => by rw [base _ _ j (by omega) (by omega), k3' j h1])
  · rw [ift]
    refine ⟨_, has', hours', _, _, heir', th', e1, rfl, ⟨?_, ?_, ?_, ?_, ?_, ?_, ?_⟩, hmo⟩
    · rw [pk_un (by decide), pk_us]
    · rw [pk_un (by decide), pk_un (by decide), pk_us]
    · rw [pk_un (by decide), base _ _ 44 (by decide) (by decide), k3' 44 (by decide)]; exact r3
    · rw [pk_us, base _ _ 45 (by decide) (by decide), k3' 45 (by decide), r4]; rfl
    · rw [pk_un (by decide), base _ _ 46 (by decide) (by decide), k3' 46 (by decide)]; exact r5
    · intro j hj; rw [pk_un (by omega), base _ _ j (by omega) (by omega), k2 j hj, f2 j hj, e2 j hj]
    · exact hrel' _ (fun j h1 h2 => by rw [pk_un (by omega), base _ _ j (by omega) (by omega), k3' j h1])
/-- a night by draws on both sides -/
theorem night_R {n s0 : Nat} (hn : n ≤ 6) (hs : s0 < 65537) {liv hour cat nights : Int32} {has hours x pd dies : AI} (hR : townR n liv hour cat nights (nI s0) has hours x) (hM : moneyI n liv cat has) (hds : ∀ j, j < n → dies j = pd j) (th tr heir then_ : AI) (counted : Bool) :
    ∃ cat' has' hours' cg x' heir' th', MX4_dies (drawN liv pd s0 n).1 liv hour cat nights (nI (drawN liv pd s0 n).2) th tr has hours (nI n) = some (liv &&& ((drawN liv pd s0 n).1 ^^^ (-1 : Int32)), hour, cat', nights, nI (drawN liv pd s0 n).2, has', hours') ∧
      MX7_aNight counted (nI n) x dies heir then_ = some ((drawN liv pd s0 n).1, cg, x', heir', th') ∧
      townR n (liv &&& ((drawN liv pd s0 n).1 ^^^ (-1 : Int32))) hour cat' (if counted = true then nights + 1 else nights) (nI (drawN liv pd s0 n).2) has' hours' x' ∧ moneyI n (liv &&& ((drawN liv pd s0 n).1 ^^^ (-1 : Int32))) cat' has' := by
  have hdr : ∀ i, i ≤ n → drawN liv dies s0 i = drawN liv pd s0 i := by
    intro i
    induction i with
    | zero => intro _; rfl
    | succ i ih => intro hi; rw [drawN, drawN, ih (by omega), hds i (by omega)]
  obtain ⟨r1, r2, r3, r4, r5, r6, r7⟩ := hR
  obtain ⟨x1, e1, e2, e3⟩ := L_draws7 hn hs liv dies x r1 r5
  rw [hdr n (Nat.le_refl n)] at e1 e2
  have hR1 : townR n liv hour cat nights (nI (drawN liv pd s0 n).2) has hours x1 := ⟨by rw [e3 42 (by decide)]; exact r1, by rw [e3 43 (by decide)]; exact r2, by rw [e3 44 (by decide)]; exact r3, by rw [e3 45 (by decide)]; exact r4, e2, fun j hj => by rw [e3 j (by omega)]; exact r6 j hj, fun j hj => by rw [e3 (6 + j) (by omega)]; exact r7 j hj⟩
  obtain ⟨cat', has', hours', cg, x', heir', th', f1, f2, f3, f4⟩ := dies_R hn hR1 hM (drawN liv pd s0 n).1 th tr heir then_ counted
  refine ⟨cat', has', hours', cg, x', heir', th', f1, ?_, f3, f4⟩
  unfold MX7_aNight
  rw [e1, Option.bind_some]
  dsimp only
  rw [f2, Option.bind_some]
theorem M_become (l h c m s : Int32) (th fh tr fr : AI) : MX4_become l h c m s th fh tr fr = some (l, h, c, m, s, va_cpy fh th 0 0 6, va_cpy fr tr 0 0 36) := rfl
/-- all nights, on both sides -/
theorem L_nights {n m s0 : Nat} (hn : n ≤ 6) (hm : m ≤ 60) (hs : s0 < 65537) {tcat : Int32} {v pd dies : AI} (hv : v 43 = tcat) (hds : ∀ j, j < n → dies j = pd j) {liv hour cat nights : Int32} {has hours x : AI} (hR : townR n liv hour cat nights (nI s0) has hours x) (hM : moneyI n liv cat has) (nl nh nc nn ns cg : Int32) (nhas nhours heir then_ : AI) :
    ∃ r q, loopN FU (fun s_ : Int32 × Int32 × Int32 × Int32 × Int32 × Int32 × Int32 × AI × AI × Int32 × Int32 × Int32 × Int32 × Int32 × AI × AI => BX1_nightsWhy_65 (nI m) tcat (nI n) n pd s_.1 s_.2.1 s_.2.2.1 s_.2.2.2.1 s_.2.2.2.2.1 s_.2.2.2.2.2.1 s_.2.2.2.2.2.2.1 s_.2.2.2.2.2.2.2.1 s_.2.2.2.2.2.2.2.2.1 s_.2.2.2.2.2.2.2.2.2.1 s_.2.2.2.2.2.2.2.2.2.2.1 s_.2.2.2.2.2.2.2.2.2.2.2.1 s_.2.2.2.2.2.2.2.2.2.2.2.2.1 s_.2.2.2.2.2.2.2.2.2.2.2.2.2.1 s_.2.2.2.2.2.2.2.2.2.2.2.2.2.2.1 s_.2.2.2.2.2.2.2.2.2.2.2.2.2.2.2) ((1 : Int32), (-2 : Int32), liv, hour, cat, nights, nI s0, has, hours, nl, nh, nc, nn, ns, nhas, nhours) = some r ∧
      loopN FU (fun s_ : Int32 × Int32 × Int32 × AI × AI × AI => BX7_nightsAll_20 (nI m) v (nI n) dies s_.1 s_.2.1 s_.2.2.1 s_.2.2.2.1 s_.2.2.2.2.1 s_.2.2.2.2.2) ((1 : Int32), cg, (-2 : Int32), x, heir, then_) = some q ∧
      r.2.2.2.2.1 = q.2.2.2.2 ∧ townR n r.2.2.2.2.2.1 r.2.2.2.2.2.2.1 r.2.2.2.2.2.2.2.1 r.2.2.2.2.2.2.2.2.1 r.2.2.2.2.2.2.2.2.2.1 r.1 r.2.1 q.1 := by
  refine loop2_FU (f := fun s_ : Int32 × Int32 × Int32 × Int32 × Int32 × Int32 × Int32 × AI × AI × Int32 × Int32 × Int32 × Int32 × Int32 × AI × AI => BX1_nightsWhy_65 (nI m) tcat (nI n) n pd s_.1 s_.2.1 s_.2.2.1 s_.2.2.2.1 s_.2.2.2.2.1 s_.2.2.2.2.2.1 s_.2.2.2.2.2.2.1 s_.2.2.2.2.2.2.2.1 s_.2.2.2.2.2.2.2.2.1 s_.2.2.2.2.2.2.2.2.2.1 s_.2.2.2.2.2.2.2.2.2.2.1 s_.2.2.2.2.2.2.2.2.2.2.2.1 s_.2.2.2.2.2.2.2.2.2.2.2.2.1 s_.2.2.2.2.2.2.2.2.2.2.2.2.2.1 s_.2.2.2.2.2.2.2.2.2.2.2.2.2.2.1 s_.2.2.2.2.2.2.2.2.2.2.2.2.2.2.2)
    (g := fun s_ : Int32 × Int32 × Int32 × AI × AI × AI => BX7_nightsAll_20 (nI m) v (nI n) dies s_.1 s_.2.1 s_.2.2.1 s_.2.2.2.1 s_.2.2.2.2.1 s_.2.2.2.2.2)
    (fun i s t => s.1 = nI i ∧ t.1 = nI i ∧ s.2.1 = t.2.2.1 ∧ ∃ sN, sN < 65537 ∧ s.2.2.2.2.2.2.1 = nI sN ∧ townR n s.2.2.1 s.2.2.2.1 s.2.2.2.2.1 s.2.2.2.2.2.1 (nI sN) s.2.2.2.2.2.2.2.1 s.2.2.2.2.2.2.2.2.1 t.2.2.2.1 ∧ moneyI n s.2.2.1 s.2.2.2.2.1 s.2.2.2.2.2.2.2.1)
    (fun r q => r.2.2.2.2.1 = q.2.2.2.2 ∧ townR n r.2.2.2.2.2.1 r.2.2.2.2.2.2.1 r.2.2.2.2.2.2.2.1 r.2.2.2.2.2.2.2.2.1 r.2.2.2.2.2.2.2.2.2.1 r.1 r.2.1 q.1) 1 (m + 1) (by omega) (by omega) _ _ ⟨rfl, rfl, rfl, s0, hs, rfl, hR, hM⟩ ?_ ?_
  · intro i s t hi hI
    obtain ⟨s1, s2, s3, s4, s5, s6, s7, s8, s9, s10, s11, s12, s13, s14, s15, s16⟩ := s
    obtain ⟨t1, t2, t3, t4, t5, t6⟩ := t
    obtain ⟨z1, z2, z3, sN, z4, z5, z6, z7⟩ := hI
    dsimp only at z1 z2 z3 z5 z6 z7
    subst z1; subst z2; subst z3; subst z5
    obtain ⟨cat', has', hours', cg', x', heir', th', f1, f2, f3, f4⟩ := night_R hn z4 z6 z7 hds s15 s16 t5 t6 false
    have f3' := become_R (n := n) hn f3 (t := s8) (u := s9)
    have f4' := become_M (n := n) hn f4 (t := s8)
    rw [if_neg (by decide)] at f3'
    have hlt := drawN_lt (liv := s3) (d := pd) z4 n
    show ∃ s' t', BX1_nightsWhy_65 (nI m) tcat (nI n) n pd (nI i) s2 s3 s4 s5 s6 (nI sN) s8 s9 s10 s11 s12 s13 s14 s15 s16 = some (.inl s') ∧ BX7_nightsAll_20 (nI m) v (nI n) dies (nI i) t2 s2 t4 t5 t6 = some (.inl t') ∧ _
    unfold BX1_nightsWhy_65 BX7_nightsAll_20
    rw [if_neg (nI_nlt (by omega) (by omega)), if_neg (nI_nlt (by omega) (by omega)), nI_1, M_draws4 hn z4, Option.bind_some]
    dsimp only
    rw [f1, Option.bind_some, M_become, Option.bind_some, f2, Option.bind_some]
    dsimp only
    have hx43 : x' 43 = cat' := f3'.2.1
    by_cases c1 : s2 = -2
    · rw [if_pos c1, if_pos c1]
      by_cases c2 : cat' ≤ tcat
      · rw [if_pos c2, if_pos (show x' 43 ≤ v 43 by rw [hx43, hv]; exact c2)]
        exact ⟨_, _, rfl, rfl, rfl, rfl, rfl, _, hlt, rfl, f3', f4'⟩
      · rw [if_neg c2, if_neg (show ¬ x' 43 ≤ v 43 by rw [hx43, hv]; exact c2)]
        exact ⟨_, _, rfl, rfl, rfl, rfl, rfl, _, hlt, rfl, f3', f4'⟩
    · rw [if_neg c1, if_neg c1]
      exact ⟨_, _, rfl, rfl, rfl, rfl, rfl, _, hlt, rfl, f3', f4'⟩
  · intro s t hI
    obtain ⟨s1, s2, s3, s4, s5, s6, s7, s8, s9, s10, s11, s12, s13, s14, s15, s16⟩ := s
    obtain ⟨t1, t2, t3, t4, t5, t6⟩ := t
    obtain ⟨z1, z2, z3, sN, z4, z5, z6, z7⟩ := hI
    dsimp only at z1 z2 z3 z5 z6 z7
    subst z1; subst z2; subst z3; subst z5
    refine ⟨(s8, s9, s15, s16, s2, s3, s4, s5, s6, nI sN, s10, s11, s12, s13, s14), (t4, t5, t6, t2, s2), ?_, ?_, rfl, z6⟩
    · show BX1_nightsWhy_65 (nI m) tcat (nI n) n pd (nI (m + 1)) s2 s3 s4 s5 s6 (nI sN) s8 s9 s10 s11 s12 s13 s14 s15 s16 = _
      unfold BX1_nightsWhy_65
      rw [if_pos (nI_lt (by omega) (by omega))]
    · show BX7_nightsAll_20 (nI m) v (nI n) dies (nI (m + 1)) t2 s2 t4 t5 t6 = _
      unfold BX7_nightsAll_20
      rw [if_pos (nI_lt (by omega) (by omega))]
def whyS (is : Bool) (s q : Int32) : Int32 := if is = false then 1 else if inB s 0 65536 = false then 2 else if inB q 0 60 = false then 2 else 0
theorem M_refSeed7 (is : Bool) (s q : Int32) : MX7_refusesSeed is s q = some (whyS is s q) := by
  unfold MX7_refusesSeed whyS
  rw [M_in7, M_in7]
  cases is
  · rfl
  · cases inB s 0 65536
    · rfl
    · cases inB q 0 60 <;> rfl
theorem whyS_cases (is : Bool) (s q : Int32) : (whyS is s q = 0 ∧ is = true ∧ inB s 0 65536 = true ∧ inB q 0 60 = true) ∨ (whyS is s q = 1 ∨ whyS is s q = 2) := by
  unfold whyS
  cases is
  · exact Or.inr (Or.inl rfl)
  · cases inB s 0 65536
    · exact Or.inr (Or.inr rfl)
    · cases inB q 0 60
      · exact Or.inr (Or.inr rfl)
      · exact Or.inl ⟨rfl, rfl, rfl, rfl⟩
theorem inB_nI {x : Int32} {m : Nat} (hm : m < 2 ^ 31) (h : inB x 0 (nI m) = true) : ∃ k, k ≤ m ∧ x = nI k := inB_of hm h
/-- both sides' nights: refused alike, or gone through alike -/
theorem M_nights {n : Nat} (hn : n ≤ 6) {liv hour cat nights seed : Int32} {has hours v pd dies : AI} (hR : townR n liv hour cat nights seed has hours v) (hI : townI n liv hour cat nights seed has) (hds : ∀ j, j < n → dies j = pd j) (is : Bool) (s q catAt rl rh rc rn rs nl nh nc nn ns cg fc : Int32) (rhas rhours nhas nhours x heir then_ : AI) :
    (∃ w, whyS is s q = w ∧ ¬ w = 0 ∧ (w = 1 ∨ w = 2) ∧ MX1_nightsWhy is s q catAt rl rh rc rn rs liv hour cat nights seed rhas rhours has hours (nI n) nl nh nc nn ns nhas nhours n pd = some (w, catAt, rl, rh, rc, rn, rs, rhas, rhours, nl, nh, nc, nn, ns, nhas, nhours)) ∨
    (whyS is s q = 0 ∧ is = true ∧ ∃ r m, MX1_nightsWhy is s q catAt rl rh rc rn rs liv hour cat nights seed rhas rhours has hours (nI n) nl nh nc nn ns nhas nhours n pd = some r ∧ r.1 = 0 ∧ MX7_nightsAll s q cg v x (nI n) heir then_ dies = some m ∧ r.2.1 = m.2.1 ∧ townR n r.2.2.1 r.2.2.2.1 r.2.2.2.2.1 r.2.2.2.2.2.1 r.2.2.2.2.2.2.1 r.2.2.2.2.2.2.2.1 r.2.2.2.2.2.2.2.2.1 m.2.2.1) := by
  rcases whyS_cases is s q with ⟨e, e1, e2, e3⟩ | e
  · refine Or.inr ⟨e, e1, ?_⟩
    subst e1
    obtain ⟨s0, hs0, rfl⟩ := inB_nI (m := 65536) (by decide) e2
    obtain ⟨m0, hm0, rfl⟩ := inB_nI (m := 60) (by decide) e3
    obtain ⟨x1, ex, hx⟩ := M_works7 v x
    have hR1 := hR.copy hn hx
    have hR2 : townR n liv hour cat nights (nI s0) has hours (upd x1 46 (nI s0)) := by
      obtain ⟨r1, r2, r3, r4, r5, r6, r7⟩ := hR1
      exact ⟨by rw [pk_un (by decide)]; exact r1, by rw [pk_un (by decide)]; exact r2, by rw [pk_un (by decide)]; exact r3, by rw [pk_un (by decide)]; exact r4, pk_us, fun j hj => by rw [pk_un (by omega)]; exact r6 j hj, fun j hj => by rw [pk_un (by omega)]; exact r7 j hj⟩
    obtain ⟨r, m, l1, l2, l3, l4⟩ := L_nights (m := m0) hn hm0 (by omega) (v := v) hR.2.1 hds (become_R hn hR2 (t := rhas) (u := rhours)) (become_M hn hI.money (t := rhas)) nl nh nc nn ns cg nhas nhours heir then_
    have a1 : MX1_numberWhy true true = some 0 := rfl
    refine ⟨((0 : Int32), r.2.2.2.2.1, r.2.2.2.2.2.1, r.2.2.2.2.2.2.1, r.2.2.2.2.2.2.2.1, r.2.2.2.2.2.2.2.2.1, r.2.2.2.2.2.2.2.2.2.1, r.1, r.2.1, r.2.2.2.2.2.2.2.2.2.2.1, r.2.2.2.2.2.2.2.2.2.2.2.1, r.2.2.2.2.2.2.2.2.2.2.2.2.1, r.2.2.2.2.2.2.2.2.2.2.2.2.2.1, r.2.2.2.2.2.2.2.2.2.2.2.2.2.2, r.2.2.1, r.2.2.2.1), (m.2.2.2.1, m.2.2.2.2, m.1, m.2.1, m.2.2.1), ?_, rfl, ?_, l3, l4⟩
    · unfold MX1_nightsWhy
      rw [M_in, Option.bind_some, show inB (nI s0) 0 65536 = true from e2, ift, M_in, Option.bind_some, show inB (nI m0) 0 60 = true from e3, ift, a1, Option.bind_some, if_pos rfl, M_become, Option.bind_some]
      dsimp only
      rw [l1, Option.bind_some]
    · unfold MX7_nightsAll
      rw [ex, Option.bind_some, l2, Option.bind_some]
  · refine Or.inl ⟨whyS is s q, rfl, by rcases e with e | e <;> rw [e] <;> decide, e, ?_⟩
    unfold MX1_nightsWhy whyS
    unfold whyS at e
    rw [M_in, Option.bind_some, M_in]
    cases is
    · cases inB s 0 65536
      · rfl
      · cases inB q 0 60 <;> rfl
    · cases h1 : inB s 0 65536
      · rfl
      · cases h2 : inB q 0 60
        · rfl
        · rw [h1, h2] at e
          simp at e
theorem op_nights {n : Nat} (h0 : 0 < n) (hn : n ≤ 6) {liv hour cat nights seed : Int32} {has hours v pd dies : AI} (hR : townR n liv hour cat nights seed has hours v) (hI : townI n liv hour cat nights seed has) (hds : ∀ j, j < n → dies j = pd j) (p s q catAt rl rh rc rn rs nl nh nc nn ns cg fc : Int32) (rhas rhours nhas nhours x heir then_ : AI) :
    ∃ a tr rX rM, MX1_nights p s q catAt (nI n) liv hour cat nights seed rl rh rc rn rs nl nh nc nn ns has hours rhas rhours nhas nhours n pd = some (a, tr, -1, rX) ∧ MX7_nights p s q cg fc (nI n) v x heir then_ dies = some (a, 0, tr, -1, rM) ∧ ¬ tr = 4 := by
  unfold MX1_nights MX7_nights MX1_anew MX1_no MX7_refused MX7_good
  rw [M_isP1 h0 hn, M_isP7]
  simp only [Option.bind_some]
  rw [M_refSeed7, Option.bind_some]
  rcases M_nights hn hR hI hds (isP n p) s q catAt rl rh rc rn rs nl nh nc nn ns cg fc rhas rhours nhas nhours x heir then_ with ⟨w, e, e0, e1, e2⟩ | ⟨e, e1, r, m, e2, e3, e4, e5, e6⟩
  · rw [e2, Option.bind_some, e]
    dsimp only
    rcases e1 with rfl | rfl <;> rw [if_neg (by decide), if_neg (by decide)] <;> exact ⟨_, _, _, _, rfl, rfl, by decide⟩
  · obtain ⟨k, hk, rfl⟩ := isP_of hn e1
    rw [e2, Option.bind_some, if_pos e3, e, if_pos (by decide), e4, Option.bind_some, gi_nI (by omega) (by decide), gi_nI (by omega) (by decide), nIc (by omega), e6.2.2.2.2.2.1 k hk]
    exact ⟨_, _, _, _, rfl, rfl, by decide⟩
theorem op_lives {n : Nat} (hn : n ≤ 6) {liv hour cat nights seed : Int32} {has hours v pd dies : AI} (hR : townR n liv hour cat nights seed has hours v) (hI : townI n liv hour cat nights seed has) (hds : ∀ j, j < n → dies j = pd j) (s q catAt rl rh rc rn rs nl nh nc nn ns cg fc : Int32) (rhas rhours nhas nhours x heir then_ : AI) :
    ∃ a tr rX rM, MX1_lives s q catAt (nI n) liv hour cat nights seed rl rh rc rn rs nl nh nc nn ns has hours rhas rhours nhas nhours n pd = some (a, tr, -1, rX) ∧ MX7_lives s q cg fc (nI n) v x heir then_ dies = some (a, 0, tr, -1, rM) ∧ ¬ tr = 4 := by
  unfold MX1_lives MX7_lives MX1_anew MX1_no MX7_refused MX7_good
  simp only [Option.bind_some]
  rw [M_refSeed7, Option.bind_some]
  rcases M_nights hn hR hI hds true s q catAt rl rh rc rn rs nl nh nc nn ns cg fc rhas rhours nhas nhours x heir then_ with ⟨w, e, e0, e1, e2⟩ | ⟨e, e1, r, m, e2, e3, e4, e5, e6⟩
  · rw [e2, Option.bind_some, e]
    dsimp only
    rcases e1 with rfl | rfl <;> rw [if_neg (by decide), if_neg (by decide)] <;> exact ⟨_, _, _, _, rfl, rfl, by decide⟩
  · rw [e2, Option.bind_some, if_pos e3, e, if_pos (by decide), e4, Option.bind_some, e6.1]
    exact ⟨_, _, _, _, rfl, rfl, by decide⟩
theorem op_firstCat {n : Nat} (hn : n ≤ 6) {liv hour cat nights seed : Int32} {has hours v pd dies : AI} (hR : townR n liv hour cat nights seed has hours v) (hI : townI n liv hour cat nights seed has) (hds : ∀ j, j < n → dies j = pd j) (s q catAt rl rh rc rn rs nl nh nc nn ns cg fc : Int32) (rhas rhours nhas nhours x heir then_ : AI) :
    ∃ a tr rX rM, MX1_firstCat s q catAt (nI n) liv hour cat nights seed rl rh rc rn rs nl nh nc nn ns has hours rhas rhours nhas nhours n pd = some (a, tr, -1, rX) ∧ MX7_firstCat s q cg fc (nI n) v x heir then_ dies = some (a, 0, tr, -1, rM) ∧ ¬ tr = 4 := by
  unfold MX1_firstCat MX7_firstCat MX1_anew MX1_no MX7_refused MX7_good
  simp only [Option.bind_some]
  rw [M_refSeed7, Option.bind_some]
  rcases M_nights hn hR hI hds true s q catAt rl rh rc rn rs nl nh nc nn ns cg fc rhas rhours nhas nhours x heir then_ with ⟨w, e, e0, e1, e2⟩ | ⟨e, e1, r, m, e2, e3, e4, e5, e6⟩
  · rw [e2, Option.bind_some, e]
    dsimp only
    rcases e1 with rfl | rfl <;> rw [if_neg (by decide), if_neg (by decide)] <;> exact ⟨_, _, _, _, rfl, rfl, by decide⟩
  · rw [e2, Option.bind_some, if_pos e3, e, if_pos (by decide), e4, Option.bind_some, e5]
    exact ⟨_, _, _, _, rfl, rfl, by decide⟩
