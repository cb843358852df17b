set_option maxRecDepth 100000
/-! op 0: feed; ops 2, 3, 49: fault, where, trouble; op 48: size; op 47: who is led -/
def byteN (p : Int32) (j : Nat) : Int32 := vp_nar .byte (Int8.toInt32 (Int32.toInt8 (p >>> (nI (24 - 8 * j) &&& 31))))
def tapeW (p : Nat → Int32) (t : Nat) (tp : AI) : Nat → AI
  | 0 => tp
  | i + 1 => upd (tapeW p t tp i) (t + i) (byteN (p (i / 4)) (i % 4))
theorem L_bytes1 {t i : Nat} (ht : t + i + 4 ≤ 900) (p : Nat → Int32) (q : Nat) (hq : i = 4 * q) (tp : AI) : MX1_bytes (p q) (nI (t + i)) (tapeW p t tp i) = some (nI (t + (i + 4)), tapeW p t tp (i + 4)) := by
  obtain ⟨r, e, hr⟩ := loop_FU (f := fun s_ : Int32 × Int32 × AI => BX1_bytes_3 (p q) s_.1 s_.2.1 s_.2.2) (fun j s => s = ((if j < 4 then nI (24 - 8 * j) else -8), nI (t + (i + j)), tapeW p t tp (i + j))) (fun r => r = (tapeW p t tp (i + 4), nI (t + (i + 4)))) 4 (by decide) ((24 : Int32), nI (t + i), tapeW p t tp i) rfl
    (by
      intro j s hj hs
      subst hs
      refine Or.inl ⟨_, ?_, rfl⟩
      show BX1_bytes_3 (p q) (if j < 4 then nI (24 - 8 * j) else -8) (nI (t + (i + j))) (tapeW p t tp (i + j)) = _
      unfold BX1_bytes_3
      rw [if_pos hj, if_neg (nI_pos (by omega)), gi_nI (by omega) (by decide), nI_1, nIc (by omega)]
      have e1 : nI (24 - 8 * j) + (-8 : Int32) = if j + 1 < 4 then nI (24 - 8 * (j + 1)) else -8 := by
        have : ∀ j, j < 4 → nI (24 - 8 * j) + (-8 : Int32) = if j + 1 < 4 then nI (24 - 8 * (j + 1)) else -8 := by decide +kernel
        exact this j hj
      have e2 : tapeW p t tp (i + (j + 1)) = upd (tapeW p t tp (i + j)) (t + (i + j)) (byteN (p q) j) := by
        show upd (tapeW p t tp (i + j)) (t + (i + j)) (byteN (p ((i + j) / 4)) ((i + j) % 4)) = _
        rw [show (i + j) / 4 = q by omega, show (i + j) % 4 = j by omega]
      rw [e1, e2, show t + (i + (j + 1)) = t + (i + j) + 1 by omega]
      rfl)
    (by
      intro s hs
      subst hs
      exact ⟨_, by show BX1_bytes_3 (p q) (if 4 < 4 then nI (24 - 8 * 4) else -8) (nI (t + (i + 4))) (tapeW p t tp (i + 4)) = _; rw [show (if 4 < 4 then nI (24 - 8 * 4) else (-8 : Int32)) = -8 from if_neg (by decide)]; unfold BX1_bytes_3; rw [if_pos (by decide)], rfl⟩)
  unfold MX1_bytes
  rw [e, Option.bind_some, hr]
theorem op_feed {t : Nat} (ht : t ≤ 900) (a b c d e : Int32) (tp : AI) : ∃ x t' tp', MX1_feed a b c d e (nI t) tp = some (x, nI t', tp') ∧ MX7_feed a b c d e (nI t) tp = some (x, 0, nI t', tp') ∧ t' ≤ 900 := by
  unfold MX1_feed MX7_feed
  have e0 : nI t + (20 : Int32) = nI (t + 20) := by rw [show (20 : Int32) = nI 20 from rfl, nI_add]
  rw [e0]
  by_cases h : t + 20 ≤ 900
  · have hle : nI (t + 20) ≤ (900 : Int32) := nI_le (b := 900) h (by decide)
    rw [if_pos hle, if_pos hle]
    let p : Nat → Int32 := fun i => match i with | 0 => a | 1 => b | 2 => c | 3 => d | _ => e
    refine ⟨nI (t + 20), t + 20, tapeW p t tp 20, ?_, ?_, h⟩
    · have b0 := L_bytes1 (t := t) (i := 0) (by omega) p 0 rfl tp
      have b1 := L_bytes1 (t := t) (i := 4) (by omega) p 1 rfl tp
      have b2 := L_bytes1 (t := t) (i := 8) (by omega) p 2 rfl tp
      have b3 := L_bytes1 (t := t) (i := 12) (by omega) p 3 rfl tp
      have b4 := L_bytes1 (t := t) (i := 16) (by omega) p 4 rfl tp
      rw [show MX1_bytes a (nI t) tp = _ from b0, Option.bind_some]
      dsimp only
      rw [show MX1_bytes b (nI (t + (0 + 4))) (tapeW p t tp (0 + 4)) = _ from b1, Option.bind_some]
      dsimp only
      rw [show MX1_bytes c (nI (t + (4 + 4))) (tapeW p t tp (4 + 4)) = _ from b2, Option.bind_some]
      dsimp only
      rw [show MX1_bytes d (nI (t + (8 + 4))) (tapeW p t tp (8 + 4)) = _ from b3, Option.bind_some]
      dsimp only
      rw [show MX1_bytes e (nI (t + (12 + 4))) (tapeW p t tp (12 + 4)) = _ from b4, Option.bind_some]
    · obtain ⟨r, er, hr⟩ := loop_FU (f := fun s_ : Int32 × Int32 × AI => BX7_feed_23 a b c d e s_.1 s_.2.1 s_.2.2) (fun i s => s = (nI i, nI (t + i), tapeW p t tp i)) (fun r => r = (tapeW p t tp 20, nI (t + 20))) 20 (by decide) ((0 : Int32), nI t, tp) rfl
        (by
          intro i s hi hs
          subst hs
          have sh : ∀ i, i < 20 → ((24 : Int32) - ((8 : Int32) * (nI i - nI i / (4 : Int32) * (4 : Int32)))) = nI (24 - 8 * (i % 4)) := by decide +kernel
          have fin : ∀ (z : Int32), z = p (i / 4) → (gi (nI (t + i)) 900 <| lt_ (Int8.toInt32 (Int32.toInt8 (z >>> (((24 : Int32) - ((8 : Int32) * (nI i - nI i / (4 : Int32) * (4 : Int32)))) &&& 31)))) fun y8 => some (Sum.inl (β := AI × Int32) ((nI i + (1 : Int32)), (nI (t + i) + (1 : Int32)), (upd (tapeW p t tp i) (Int32.toNatClampNeg (nI (t + i))) (vp_nar .byte y8))))) = some (.inl (nI (i + 1), nI (t + (i + 1)), tapeW p t tp (i + 1))) := by
            intro z hz
            subst hz
            simp only [lt_]
            rw [gi_nI (by omega) (by decide), nIc (by omega), sh i hi, nI_1, nI_1]
            rfl
          refine Or.inl ⟨_, ?_, rfl⟩
          show BX7_feed_23 a b c d e (nI i) (nI (t + i)) (tapeW p t tp i) = _
          unfold BX7_feed_23
          rw [if_neg (show ¬ (20 : Int32) ≤ nI i from nI_ge (b := 20) hi (by decide))]
          by_cases c1 : 4 ≤ i
          · rw [if_pos (show (4 : Int32) ≤ nI i from nI_le (a := 4) c1 (by omega))]
            by_cases c2 : 8 ≤ i
            · rw [if_pos (show (8 : Int32) ≤ nI i from nI_le (a := 8) c2 (by omega))]
              by_cases c3 : 12 ≤ i
              · rw [if_pos (show (12 : Int32) ≤ nI i from nI_le (a := 12) c3 (by omega))]
                by_cases c4 : 16 ≤ i
                · rw [if_pos (show (16 : Int32) ≤ nI i from nI_le (a := 16) c4 (by omega))]
                  exact fin e (by rw [show i / 4 = 4 by omega]; rfl)
                · rw [if_neg (show ¬ (16 : Int32) ≤ nI i from nI_ge (b := 16) (by omega) (by decide))]
                  exact fin d (by rw [show i / 4 = 3 by omega]; rfl)
              · rw [if_neg (show ¬ (12 : Int32) ≤ nI i from nI_ge (b := 12) (by omega) (by decide))]
                exact fin c (by rw [show i / 4 = 2 by omega]; rfl)
            · rw [if_neg (show ¬ (8 : Int32) ≤ nI i from nI_ge (b := 8) (by omega) (by decide))]
              exact fin b (by rw [show i / 4 = 1 by omega]; rfl)
          · rw [if_neg (show ¬ (4 : Int32) ≤ nI i from nI_ge (b := 4) (by omega) (by decide))]
            exact fin a (by rw [show i / 4 = 0 by omega]; rfl))
        (by
          intro s hs
          subst hs
          exact ⟨_, by show BX7_feed_23 a b c d e (nI 20) _ _ = _; unfold BX7_feed_23; rw [if_pos (by decide)], rfl⟩)
      rw [er, Option.bind_some, hr]
  · have hle : ¬ nI (t + 20) ≤ (900 : Int32) := nI_ge (a := 900) (by omega) (by omega)
    rw [if_neg hle, if_neg hle]
    exact ⟨_, t, tp, rfl, rfl, ht⟩
/-- what where() tells -/
theorem op_where {tr wx wm : Int32} (h : wm = if tr = 4 then wx else -1) : MX1_where tr wx = some wm ∧ MX7_where wm = some (wm, 0) := by
  refine ⟨?_, rfl⟩
  unfold MX1_where
  rw [h]
  by_cases c : tr = 4
  · rw [if_pos c, if_pos c]
  · rw [if_neg c, if_neg c]
theorem op_size {n : Nat} (hn : n ≤ 6) {liv hour cat nights seed : Int32} {has hours v : AI} (hR : townR n liv hour cat nights seed has hours v) (hI : townI n liv hour cat nights seed has) (p taped im um gives ppl ne as_ he we : Int32) :
    ∃ a, MX1_size p taped im um gives ppl ne as_ he we liv hour nights seed = some a ∧ MX7_size p taped um im gives ppl ne as_ he we v = some (a, 0) := by
  obtain ⟨L, hN, cN, hr, nN, sN, g1, g2, -⟩ := hI
  have h64 := pow_le hn
  obtain ⟨r1, r2, r3, r4, r5, -⟩ := hR
  unfold MX1_size MX7_size
  rw [M_in7, r1, r3, r4, r5, g1, M_ones1 (show L < 64 by omega), M_bits7 (show L < 64 by omega)]
  by_cases c : p = 12
  · rw [if_pos c, if_pos c]; exact ⟨_, rfl, rfl⟩
  · rw [if_neg c, if_neg c]
    simp only [Option.bind_some]
    cases hb : inB p 0 11
    · rw [iff_]
      have ne_ : ∀ k : Nat, k ≤ 11 → ¬ p = nI k := by
        intro k hk z
        subst z
        have : inB (nI k) 0 11 = true := by
          unfold inB
          rw [decide_eq_true (nI_pos' (by omega)), decide_eq_true (show nI k ≤ (11 : Int32) from nI_le (b := 11) hk (by decide))]; rfl
        rw [this] at hb; cases hb
      rw [if_neg (show ¬ p = (0 : Int32) from ne_ 0 (by decide)), if_neg (show ¬ p = (1 : Int32) from ne_ 1 (by decide)), if_neg (show ¬ p = (2 : Int32) from ne_ 2 (by decide)), if_neg (show ¬ p = (3 : Int32) from ne_ 3 (by decide)), if_neg (show ¬ p = (4 : Int32) from ne_ 4 (by decide)), if_neg (show ¬ p = (5 : Int32) from ne_ 5 (by decide)), if_neg (show ¬ p = (6 : Int32) from ne_ 6 (by decide)), if_neg (show ¬ p = (7 : Int32) from ne_ 7 (by decide)), if_neg (show ¬ p = (8 : Int32) from ne_ 8 (by decide)), if_neg (show ¬ p = (9 : Int32) from ne_ 9 (by decide)), if_neg (show ¬ p = (10 : Int32) from ne_ 10 (by decide)), if_neg (show ¬ p = (11 : Int32) from ne_ 11 (by decide))]
      exact ⟨_, rfl, rfl⟩
    · rw [ift]
      obtain ⟨k, hk, rfl⟩ := inB_nI (m := 11) (by decide) hb
      rcases (show k = 0 ∨ k = 1 ∨ k = 2 ∨ k = 3 ∨ k = 4 ∨ k = 5 ∨ k = 6 ∨ k = 7 ∨ k = 8 ∨ k = 9 ∨ k = 10 ∨ k = 11 by omega) with rfl | rfl | rfl | rfl | rfl | rfl | rfl | rfl | rfl | rfl | rfl | rfl <;> exact ⟨_, rfl, rfl⟩
/-- who is led: the p-th who lives and has no heir; none -/
def ledS (liv : Int32) (H : Nat → Int32) (p : Int32) : Nat → (Int32 × Option Nat)
  | 0 => (0, none)
  | i + 1 => match ledS liv H p i with
    | (c, some j) => (c, some j)
    | (c, none) => if hasB liv (nI i) = false then (c, none) else if H i = -2 then (if c = p then (c, some i) else (c + 1, none)) else (c, none)
theorem ledS_stay {liv : Int32} {H : Nat → Int32} {p : Int32} {i j : Nat} {c : Int32} (h : ledS liv H p i = (c, some j)) : ∀ d, ledS liv H p (i + d) = (c, some j) := by
  intro d
  induction d with
  | zero => exact h
  | succ d ih => rw [← Nat.add_assoc, ledS, ih]
def ledOut : Int32 ⊕ Unit → Option Int32
  | .inl z => some z
  | .inr _ => none
theorem L_led {f : Int32 × Int32 → Option ((Int32 × Int32) ⊕ (Int32 ⊕ Unit))} {liv p : Int32} {H : Nat → Int32} {n : Nat} (hn : n ≤ 6)
    (hs : ∀ i c, i < n → f (c, nI i) = if hasB liv (nI i) = false then some (.inl (c, nI (i + 1))) else if H i = -2 then (if c = p then some (.inr (.inl (nI i))) else some (.inl (c + 1, nI (i + 1)))) else some (.inl (c, nI (i + 1)))) (he : ∀ c, f (c, nI n) = some (.inr (.inr ()))) :
    ∃ r, loopN FU f ((0 : Int32), (0 : Int32)) = some r ∧ ledOut r = ((ledS liv H p n).2).map nI := by
  refine loop_FU (f := f) (fun i s => s.2 = nI i ∧ ledS liv H p i = (s.1, none)) (fun r => ledOut r = ((ledS liv H p n).2).map nI) n (by omega) ((0 : Int32), (0 : Int32)) ⟨rfl, rfl⟩ ?_ ?_
  · intro i s hi hI
    obtain ⟨c, z⟩ := s
    obtain ⟨h1, h2⟩ := hI
    dsimp only at h1 h2
    subst h1
    rw [hs i c hi]
    by_cases c1 : hasB liv (nI i) = false
    · rw [if_pos c1]
      exact Or.inl ⟨_, rfl, rfl, by rw [ledS, h2]; show (if _ then _ else _) = _; rw [if_pos c1]⟩
    · rw [if_neg c1]
      by_cases c2 : H i = -2
      · rw [if_pos c2]
        by_cases c3 : c = p
        · rw [if_pos c3]
          have e : ledS liv H p (i + 1) = (c, some i) := by rw [ledS, h2]; show (if _ then _ else _) = _; rw [if_neg c1, if_pos c2, if_pos c3]
          have e2 := ledS_stay e (n - (i + 1))
          rw [show i + 1 + (n - (i + 1)) = n by omega] at e2
          exact Or.inr ⟨_, rfl, by rw [e2]; rfl⟩
        · rw [if_neg c3]
          exact Or.inl ⟨_, rfl, rfl, by rw [ledS, h2]; show (if _ then _ else _) = _; rw [if_neg c1, if_pos c2, if_neg c3]⟩
      · rw [if_neg c2]
        exact Or.inl ⟨_, rfl, rfl, by rw [ledS, h2]; show (if _ then _ else _) = _; rw [if_neg c1, if_neg c2]⟩
  · intro s hI
    obtain ⟨c, z⟩ := s
    obtain ⟨h1, h2⟩ := hI
    dsimp only at h1 h2
    subst h1
    exact ⟨_, he c, by rw [h2]; rfl⟩
def ledF (liv : Int32) (a : AI) (n : Nat) (p : Int32) : Option Nat := (ledS liv (fun i => heirF liv (hX a) i n) p n).2
theorem op_led7 {n : Nat} (hn : n ≤ 6) {liv hour cat nights seed : Int32} {has hours v : AI} (hR : townR n liv hour cat nights seed has hours v) (p : Int32) (x : AI) : ∃ x', MX7_led p (nI n) v x = some (match ledF liv hours n p with | some j => (nI j, 0, x') | none => (0, 1, x')) := by
  obtain ⟨x1, ex, hx⟩ := M_works7 v x
  have hR1 := hR.copy hn hx
  obtain ⟨r, e, h⟩ := L_led (f := fun s_ : Int32 × Int32 => BX7_led_20 p (nI n) x1 s_.1 s_.2) (liv := liv) (p := p) (H := fun i => heirF liv (hX hours) i n) hn (by
    intro i c hi
    show BX7_led_20 p (nI n) x1 c (nI i) = _
    unfold BX7_led_20
    rw [if_neg (nI_ge hi (by omega)), nI_1, M_isLiving7, Option.bind_some, hR1.1]
    by_cases c1 : hasB liv (nI i) = false
    · rw [if_pos (b2i_f c1), if_pos c1]
    · rw [if_neg (b2i_t (by simpa using c1)), if_neg c1, M_heir7 hn (by omega) hours x1 hR1.2.2.2.2.2.2, Option.bind_some, hR1.1]) (by
    intro c
    show BX7_led_20 p (nI n) x1 c (nI n) = _
    unfold BX7_led_20
    rw [if_pos (nI_le (Nat.le_refl n) (by omega))])
  refine ⟨x1, ?_⟩
  unfold MX7_led
  rw [ex, Option.bind_some, e, Option.bind_some]
  unfold ledF
  cases r with
  | inl z =>
    cases hq : (ledS liv (fun i => heirF liv (hX hours) i n) p n).2 with
    | none => rw [hq] at h; cases h
    | some j =>
      rw [hq] at h
      have h : some z = some (nI j) := h
      rw [Option.some.inj h]
  | inr z =>
    cases hq : (ledS liv (fun i => heirF liv (hX hours) i n) p n).2 with
    | none => rfl
    | some j => rw [hq] at h; cases h
