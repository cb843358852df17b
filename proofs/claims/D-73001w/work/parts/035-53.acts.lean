set_option maxRecDepth 100000
/-! acts: ask, die, night, undo, image, back; what is remembered on both sides -/
def updF {α : Type} (f : Nat → α) (k : Nat) (x : α) : Nat → α := fun j => if j = k then x else f j
theorem updF_s {α : Type} {f : Nat → α} {k : Nat} {x : α} : updF f k x k = x := if_pos rfl
theorem updF_n {α : Type} {f : Nat → α} {k j : Nat} {x : α} (h : j ≠ k) : updF f k x j = f j := if_neg h
theorem updF_self {α : Type} {f : Nat → α} {k : Nat} : updF f k (f k) = f := by
  funext j
  unfold updF
  split
  · rename_i h; rw [h]
  · rfl
/-- the first falls out, all go one down -/
def rotF {α : Type} (f : Nat → α) (x : α) : Nat → α := fun j => if j < 15 then f (j + 1) else x
def memR (n hc k : Nat) (uL uH uC uN uS : Nat → Int32) (uhas uhours : Nat → AI) (ucity : Nat → Value) (past : AI) : Prop := ∀ m, m < k → townR n (uL m) (uH m) (uC m) (uN m) (uS m) (uhas m) (uhours m) (slice past m) ∧ townI n (uL m) (uH m) (uC m) (uN m) (uS m) (uhas m) ∧ ucity m = .ref hc
theorem townI.of {n : Nat} {liv hour cat nights seed : Int32} {has : AI} (h : moneyI n liv cat has) {hr nN sN : Nat} (e1 : hour = nI hr) (h1 : hr ≤ 999) (e2 : nights = nI nN) (h2 : nN ≤ 999) (e3 : seed = nI sN) (h3 : sN < 65537) : townI n liv hour cat nights seed has := by
  obtain ⟨L, hN, cN, g1, g2, g3, g4, g5, g6⟩ := h
  exact ⟨L, hN, cN, hr, nN, sN, g1, g2, g3, g4, g5, g6, e1, h1, e2, h2, e3, h3⟩
theorem townI.nums {n : Nat} {liv hour cat nights seed : Int32} {has : AI} (h : townI n liv hour cat nights seed has) : ∃ hr nN sN, hour = nI hr ∧ hr ≤ 999 ∧ nights = nI nN ∧ nN ≤ 999 ∧ seed = nI sN ∧ sN < 65537 := by
  obtain ⟨L, hN, cN, hr, nN, sN, -, -, -, -, -, -, e1, h1, e2, h2, e3, h3⟩ := h
  exact ⟨hr, nN, sN, e1, h1, e2, h2, e3, h3⟩
theorem townI.cpy {n : Nat} (hn : n ≤ 6) {liv hour cat nights seed : Int32} {has t : AI} (h : townI n liv hour cat nights seed has) : townI n liv hour cat nights seed (va_cpy has t 0 0 6) := by
  obtain ⟨hr, nN, sN, e1, h1, e2, h2, e3, h3⟩ := h.nums
  exact townI.of (become_M hn h.money) e1 h1 e2 h2 e3 h3
theorem slice_congr {n : Nat} (hn : n ≤ 6) {liv hour cat nights seed : Int32} {has hours v w : AI} (h : townR n liv hour cat nights seed has hours v) (e : ∀ j, j < 47 → w j = v j) : townR n liv hour cat nights seed has hours w := h.copy hn e
/-- k are remembered, one more is -/
theorem mem_push {n hc k : Nat} (hn : n ≤ 6) (hk : k < 16) {uL uH uC uN uS : Nat → Int32} {uhas uhours : Nat → AI} {ucity : Nat → Value} {past p' v : AI} (h : memR n hc k uL uH uC uN uS uhas uhours ucity past) {l ho c ni s : Int32} {ha hs : AI} (hR : townR n l ho c ni s ha hs v) (hI : townI n l ho c ni s ha) (h1 : ∀ m, m < k → ∀ j, j < 47 → slice p' m j = slice past m j) (h2 : ∀ j, j < 47 → slice p' k j = v j) :
    memR n hc (k + 1) (updF uL k l) (updF uH k ho) (updF uC k c) (updF uN k ni) (updF uS k s) (updF uhas k ha) (updF uhours k hs) (updF ucity k (.ref hc)) p' := by
  intro m hm
  by_cases c : m = k
  · subst c
    simp only [updF_s]
    exact ⟨hR.copy hn h2, hI, trivial⟩
  · simp only [updF_n c]
    obtain ⟨a, b, d⟩ := h m (by omega)
    exact ⟨a.copy hn (h1 m (by omega)), b, d⟩
theorem mem_rot {n hc : Nat} (hn : n ≤ 6) {uL uH uC uN uS : Nat → Int32} {uhas uhours : Nat → AI} {ucity : Nat → Value} {past p' v : AI} (h : memR n hc 16 uL uH uC uN uS uhas uhours ucity past) {l ho c ni s : Int32} {ha hs : AI} (hR : townR n l ho c ni s ha hs v) (hI : townI n l ho c ni s ha) (h1 : ∀ m, m < 15 → ∀ j, j < 47 → slice p' m j = slice past (m + 1) j) (h2 : ∀ j, j < 47 → slice p' 15 j = v j) :
    memR n hc 16 (rotF uL l) (rotF uH ho) (rotF uC c) (rotF uN ni) (rotF uS s) (rotF uhas ha) (rotF uhours hs) (rotF ucity (.ref hc)) p' := by
  intro m hm
  unfold rotF
  by_cases c : m < 15
  · simp only [if_pos c]
    obtain ⟨a, b, d⟩ := h (m + 1) (by omega)
    exact ⟨a.copy hn (h1 m c), b, d⟩
  · simp only [if_neg c]
    obtain rfl : m = 15 := by omega
    exact ⟨hR.copy hn h2, hI, trivial⟩
theorem M_note (l h c m s : Int32) (th fh tr fr : AI) : MX1_note l h c m s th tr fh fr = some (l, h, c, m, s, va_cpy fh th 0 0 6, va_cpy fr tr 0 0 36) := rfl
theorem M_done {k hx : Nat} (hk : k < 16) {ra : Nat → Option Nat} (hr : ra k = some hx) (l h c m s : Int32) (uh ur wh wr : AI) : MX1_done hx (nI k) l h c m s uh ur wh wr ra = some (true, nI (k + 1), l, h, c, m, s, va_cpy wh uh 0 0 6, va_cpy wr ur 0 0 36) := by
  unfold MX1_done
  rw [if_neg (show ¬ nI k = (16 : Int32) from fun z => absurd ((nI_eq (b := 16) (by omega) (by decide)).mp z) (by omega)), gi_nI hk (by decide), nIc (by omega), gq_of hr, M_become, Option.bind_some, nI_1]
theorem M_doneL (l h c m s : Int32) (uh ur wh wr : AI) : MX1_doneL l h c m s uh ur wh wr = some (true, l, h, c, m, s, va_cpy wh uh 0 0 6, va_cpy wr ur 0 0 36) := rfl
theorem M_stay7 {n : Nat} (hn : n ≤ 6) {liv hour cat nights seed : Int32} {has hours x : AI} (h : townR n liv hour cat nights seed has hours x) (v : AI) : ∃ v', MX7_stays x v = some v' ∧ townR n liv hour cat nights seed has hours v' ∧ ∀ j, j < 47 → v' j = x j := by
  obtain ⟨v', e, e1, -⟩ := M_stays7 x v
  exact ⟨v', e, h.copy hn e1, e1⟩
theorem nI999 {k : Nat} (h : k ≤ 999) : nI k = (999 : Int32) ↔ k = 999 := by
  rw [show (999 : Int32) = nI 999 from rfl]
  exact nI_eq (by omega) (by decide)
/-- what is the same whether the memory is full or not: an ask -/
theorem ask_core {n g : Nat} (h0 : 0 < n) (hn : n ≤ 6) (hg : g < 2 ^ 20) {liv hour cat nights seed : Int32} {has hours v : AI} (hR : townR n liv hour cat nights seed has hours v) (hI : townI n liv hour cat nights seed has) {pk : Nat → Nat} {pr kind near : AI} (hk : kindR n pk pr kind near) (p q : Int32) (k : Nat) (hk16 : k ≤ 16) (past x : AI) :
    (∃ tr, ¬ tr = 0 ∧ ¬ tr = 4 ∧ (∀ {α : Type} (A : Int32 → Option α) (B : Option α), ((MX1_areTwo p q (nI n)).bind fun r3 => if (b2i r3) = 0 then A 1 else (MX4_isLiving p liv).bind fun r6 => if (b2i r6) = 0 then A 5 else (MX4_isLiving q liv).bind fun r11 => if (b2i r11) = 0 then A 5 else (MX4_canAsk p q liv n pk pr).bind fun r14 => if (b2i r14) = 0 then A 6 else if hour = (999 : Int32) then A 3 else B) = A tr) ∧ MX7_ask p q (nI k) (nI g) (nI n) v kind near past x = some (-1, 0, tr, -1, nI k, v, past, x)) ∨
    (∃ a has' hours' hour' k' v' past' x', (∀ {α : Type} (A : Int32 → Option α) (B : Option α), ((MX1_areTwo p q (nI n)).bind fun r3 => if (b2i r3) = 0 then A 1 else (MX4_isLiving p liv).bind fun r6 => if (b2i r6) = 0 then A 5 else (MX4_isLiving q liv).bind fun r11 => if (b2i r11) = 0 then A 5 else (MX4_canAsk p q liv n pk pr).bind fun r14 => if (b2i r14) = 0 then A 6 else if hour = (999 : Int32) then A 3 else B) = B) ∧
      MX4_asks p q hour (nI g) has hours = some (a, hour', has', hours') ∧ MX7_ask p q (nI k) (nI g) (nI n) v kind near past x = some (a, 0, 0, -1, nI k', v', past', x') ∧ townR n liv hour' cat nights seed has' hours' v' ∧ townI n liv hour' cat nights seed has' ∧
      ((k < 16 ∧ k' = k + 1 ∧ (∀ m, m < k → ∀ j, j < 47 → slice past' m j = slice past m j) ∧ (∀ j, j < 47 → slice past' k j = v j)) ∨ (k = 16 ∧ k' = 16 ∧ (∀ m, m < 15 → ∀ j, j < 47 → slice past' m j = slice past (m + 1) j) ∧ (∀ j, j < 47 → slice past' 15 j = v j)))) := by
  unfold MX7_ask MX7_refused MX7_good
  rw [M_areTwo1 h0 hn, M_areTwo7]
  simp only [Option.bind_some]
  by_cases c : (isP n p && (isP n q && decide (p ≠ q))) = false
  · rw [if_pos (b2i_f c)]
    exact Or.inl ⟨1, by decide, by decide, fun A B => by rw [if_pos (b2i_f c)], rfl⟩
  · have ct : (isP n p && (isP n q && decide (p ≠ q))) = true := by cases hb : (isP n p && (isP n q && decide (p ≠ q))); exact absurd hb c; rfl
    rw [if_neg (b2i_t ct)]
    simp only [if_neg (b2i_t ct)]
    have c' : isP n p = true ∧ isP n q = true ∧ p ≠ q := by
      cases h1 : isP n p <;> cases h2 : isP n q <;> simp [h1, h2] at ct ⊢
      exact ct
    obtain ⟨i, hi, rfl⟩ := isP_of hn c'.1
    obtain ⟨j, hj, rfl⟩ := isP_of hn c'.2.1
    have hij : i ≠ j := fun z => c'.2.2 (by rw [z])
    rw [M_bit, M_bit, Option.bind_some, hR.1]
    simp only [M_isLiving4, Option.bind_some]
    by_cases c2 : hasB liv (nI i) = false
    · rw [if_pos (b2i_f c2)]
      exact Or.inl ⟨5, by decide, by decide, fun A B => by rw [if_pos (b2i_f c2)], rfl⟩
    · have c2' : hasB liv (nI i) = true := by simpa using c2
      rw [if_neg (b2i_t c2')]
      simp only [if_neg (b2i_t c2')]
      by_cases c3 : hasB liv (nI j) = false
      · rw [if_pos (b2i_f c3)]
        exact Or.inl ⟨5, by decide, by decide, fun A B => by rw [if_pos (b2i_f c3)], rfl⟩
      · have c3' : hasB liv (nI j) = true := by simpa using c3
        rw [if_neg (b2i_t c3')]
        simp only [if_neg (b2i_t c3')]
        have hca : canA liv pk pr i j = (mayAskK (pk i) && mayBeK (pk j) (pr j) (nI i)) := by unfold canA; rw [c2', c3', decide_eq_true hij]; simp
        rw [M_mayAsk14 hn hi hj hk]
        simp only [M_canAsk4 hn hi hj, Option.bind_some, hca]
        cases c4 : (mayAskK (pk i) && mayBeK (pk j) (pr j) (nI i))
        · rw [iff_]
          exact Or.inl ⟨6, by decide, by decide, fun A B => by rw [iff_], rfl⟩
        · rw [ift]
          simp only [ift]
          rw [hR.2.2.1]
          by_cases c5 : hour = (999 : Int32)
          · rw [if_pos c5]
            exact Or.inl ⟨3, by decide, by decide, fun A B => by rw [if_pos c5], rfl⟩
          · rw [if_neg c5]
            simp only [if_neg c5]
            obtain ⟨hr, nN, sN, e1, h1, e2, h2, e3, h3⟩ := hI.nums
            subst e1
            have hr9 : hr ≠ 999 := fun z => c5 ((nI999 h1).mpr z)
            obtain ⟨k', p', m1, m2⟩ := M_remembers7 hk16 v past
            obtain ⟨x1, ex, hx⟩ := M_works7 v x
            have hR1 := hR.copy hn hx
            obtain ⟨a, has', x2, a1, a2, a3, a4, -, a5⟩ := asks_R hn hi hj hij hg (by omega) hR1 hI.money c2' c3'
            obtain ⟨v', s1, s2, s3⟩ := M_stay7 hn a3 v
            refine Or.inr ⟨a, has', _, _, k', v', p', x2, fun A B => trivial, a1, ?_, s2, townI.of a4 rfl (by omega) e2 h2 e3 h3, m2⟩
            rw [m1, Option.bind_some, ex, Option.bind_some, gi_nI (by omega) (by decide), a2, Option.bind_some, s1, Option.bind_some, gi_nI (by omega) (by decide), nIc (by omega)]
            dsimp only
            have hd : v' i - x1 i = a := by
              rw [s3 i (by omega), a3.2.2.2.2.2.1 i hi, hR1.2.2.2.2.2.1 i hi]
              obtain ⟨L, hN, cN, g1, g2, g3, g4, g5, g6⟩ := hI.money
              have hb : ∀ j, j < n → hN j ≤ 594 := fun j hj => by have := sumTo_get (f := hN) n j hj; omega
              obtain ⟨has2, b1, b2⟩ := M_asks4 hn hi hj hij hg (hr := hr) (hours := hours) g3 hb
              have e := Option.some.inj (a1.symm.trans b1)
              have e1 : a = nI (min g (hN j)) := congrArg (fun z => z.1) e
              have e2 : has' = has2 := congrArg (fun z => z.2.2.1) e
              rw [e2, b2 i hi, g3 i hi, e1]
              unfold asksH
              rw [if_pos rfl, pk_sub (by omega), show hN i + min g (hN j) - hN i = min g (hN j) by omega]
            rw [hd]
/-! op 40: ask -/
theorem op_ask {n g hc hx k : Nat} (h0 : 0 < n) (hn : n ≤ 6) (hg : g < 2 ^ 20) {liv hour cat nights seed : Int32} {has hours v : AI} (hR : townR n liv hour cat nights seed has hours v) (hI : townI n liv hour cat nights seed has) {pk : Nat → Nat} {pr kind near : AI} (hk : kindR n pk pr kind near) (p q : Int32) (hk16 : k < 16) {ra : Nat → Option Nat} (hra : ra k = some hx) {uL uH uC uN uS : Nat → Int32} {uhas uhours : Nat → AI} {ucity : Nat → Value} {past : AI} (hm : memR n hc k uL uH uC uN uS uhas uhours ucity past) (wl wh wc wn ws : Int32) (whas whours x : AI) (wcity : Value) :
    ∃ a tr k' hour' wl' wh' wc' wn' ws' has' hours' whas' whours' ul uh uc un us ua uo wcity' uy v' past' x', MX1_ask hc hx p q (nI k) (nI g) (nI n) liv hour cat nights seed wl wh wc wn ws has hours whas whours (uL k) (uH k) (uC k) (uN k) (uS k) (uhas k) (uhours k) n pk pr wcity (ucity k) ra = some (a, tr, -1, nI k', hour', wl', wh', wc', wn', ws', has', hours', whas', whours', ul, uh, uc, un, us, ua, uo, wcity', uy) ∧
      MX7_ask p q (nI k) (nI g) (nI n) v kind near past x = some (a, 0, tr, -1, nI k', v', past', x') ∧ ¬ tr = 4 ∧ k' ≤ 16 ∧ townR n liv hour' cat nights seed has' hours' v' ∧ townI n liv hour' cat nights seed has' ∧
      memR n hc k' (updF uL k ul) (updF uH k uh) (updF uC k uc) (updF uN k un) (updF uS k us) (updF uhas k ua) (updF uhours k uo) (updF ucity k uy) past' := by
  unfold MX1_ask MX1_anew MX1_no
  rw [Option.bind_some]
  simp only [Option.bind_some]
  rcases ask_core h0 hn hg hR hI hk p q k (by omega) past x with ⟨tr, t1, t2, t3, t4⟩ | ⟨a, has', hours', hour', k', v', past', x', t1, t2, t3, t4, t5, t6⟩
  · have e := t3 (fun z => some ((-1 : Int32), z, (-1 : Int32), nI k, hour, wl, wh, wc, wn, ws, has, hours, whas, whours, uL k, uH k, uC k, uN k, uS k, uhas k, uhours k, wcity, ucity k)) ((MX1_note liv hour cat nights seed whas whours has hours).bind fun r18 =>
            (MX4_asks p q hour (nI g) has hours).bind fun r20 =>
            (MX1_done hx (nI k) r18.1 r18.2.1 r18.2.2.1 r18.2.2.2.1 r18.2.2.2.2.1 (uhas k) (uhours k) r18.2.2.2.2.2.1 r18.2.2.2.2.2.2 ra).bind fun r22 =>
            some (r20.1, (0 : Int32), (-1 : Int32), r22.2.1, r20.2.1, r18.1, r18.2.1, r18.2.2.1, r18.2.2.2.1, r18.2.2.2.2.1, r20.2.2.1, r20.2.2.2, r18.2.2.2.2.2.1, r18.2.2.2.2.2.2, r22.2.2.1, r22.2.2.2.1, r22.2.2.2.2.1, r22.2.2.2.2.2.1, r22.2.2.2.2.2.2.1, r22.2.2.2.2.2.2.2.1, r22.2.2.2.2.2.2.2.2, (Value.ref hc), (Value.ref hc)))
    refine ⟨_, _, k, _, _, _, _, _, _, _, _, _, _, _, _, _, _, _, _, _, _, _, _, _, _, e, t4, t2, by omega, hR, hI, ?_⟩
    simp only [updF_self]
    exact hm
  · have e := t1 (fun z => some ((-1 : Int32), z, (-1 : Int32), nI k, hour, wl, wh, wc, wn, ws, has, hours, whas, whours, uL k, uH k, uC k, uN k, uS k, uhas k, uhours k, wcity, ucity k)) ((MX1_note liv hour cat nights seed whas whours has hours).bind fun r18 =>
            (MX4_asks p q hour (nI g) has hours).bind fun r20 =>
            (MX1_done hx (nI k) r18.1 r18.2.1 r18.2.2.1 r18.2.2.2.1 r18.2.2.2.2.1 (uhas k) (uhours k) r18.2.2.2.2.2.1 r18.2.2.2.2.2.2 ra).bind fun r22 =>
            some (r20.1, (0 : Int32), (-1 : Int32), r22.2.1, r20.2.1, r18.1, r18.2.1, r18.2.2.1, r18.2.2.2.1, r18.2.2.2.2.1, r20.2.2.1, r20.2.2.2, r18.2.2.2.2.2.1, r18.2.2.2.2.2.2, r22.2.2.1, r22.2.2.2.1, r22.2.2.2.2.1, r22.2.2.2.2.2.1, r22.2.2.2.2.2.2.1, r22.2.2.2.2.2.2.2.1, r22.2.2.2.2.2.2.2.2, (Value.ref hc), (Value.ref hc)))
    have hB : ((MX1_note liv hour cat nights seed whas whours has hours).bind fun r18 =>
            (MX4_asks p q hour (nI g) has hours).bind fun r20 =>
            (MX1_done hx (nI k) r18.1 r18.2.1 r18.2.2.1 r18.2.2.2.1 r18.2.2.2.2.1 (uhas k) (uhours k) r18.2.2.2.2.2.1 r18.2.2.2.2.2.2 ra).bind fun r22 =>
            some (r20.1, (0 : Int32), (-1 : Int32), r22.2.1, r20.2.1, r18.1, r18.2.1, r18.2.2.1, r18.2.2.2.1, r18.2.2.2.2.1, r20.2.2.1, r20.2.2.2, r18.2.2.2.2.2.1, r18.2.2.2.2.2.2, r22.2.2.1, r22.2.2.2.1, r22.2.2.2.2.1, r22.2.2.2.2.2.1, r22.2.2.2.2.2.2.1, r22.2.2.2.2.2.2.2.1, r22.2.2.2.2.2.2.2.2, (Value.ref hc), (Value.ref hc))) = some (a, 0, -1, nI (k + 1), hour', liv, hour, cat, nights, seed, has', hours', va_cpy has whas 0 0 6, va_cpy hours whours 0 0 36, liv, hour, cat, nights, seed, va_cpy (va_cpy has whas 0 0 6) (uhas k) 0 0 6, va_cpy (va_cpy hours whours 0 0 36) (uhours k) 0 0 36, .ref hc, .ref hc) := by
      rw [M_note, Option.bind_some, t2, Option.bind_some, M_done hk16 hra, Option.bind_some]
    have e := e.trans hB
    rcases t6 with ⟨q1, q2, q3, q4⟩ | ⟨q1, -⟩
    · subst q2
      refine ⟨_, _, k + 1, _, _, _, _, _, _, _, _, _, _, _, _, _, _, _, _, _, _, _, _, _, _, e, t3, by decide, by omega, t4, t5, ?_⟩
      exact mem_push hn hk16 hm (become_R hn (become_R hn hR)) (hI.cpy hn |>.cpy hn) q3 q4
    · omega
theorem op_askL {n g hc : Nat} (h0 : 0 < n) (hn : n ≤ 6) (hg : g < 2 ^ 20) {liv hour cat nights seed : Int32} {has hours v : AI} (hR : townR n liv hour cat nights seed has hours v) (hI : townI n liv hour cat nights seed has) {pk : Nat → Nat} {pr kind near : AI} (hk : kindR n pk pr kind near) (p q : Int32) {uL uH uC uN uS : Nat → Int32} {uhas uhours : Nat → AI} {ucity : Nat → Value} {past : AI} (hm : memR n hc 16 uL uH uC uN uS uhas uhours ucity past) (wl wh wc wn ws : Int32) (whas whours x : AI) (wcity : Value) (ta : Nat → Nat) :
    ∃ a tr hour' wl' wh' wc' wn' ws' has' hours' whas' whours' ul uh uc un us ua uo wcity' uy w v' past' x', MX1_askL hc (ta 0) (ta 1) (ta 2) (ta 3) (ta 4) (ta 5) (ta 6) (ta 7) (ta 8) (ta 9) (ta 10) (ta 11) (ta 12) (ta 13) (ta 14) (ta 15) p q (nI g) (nI n) liv hour cat nights seed wl wh wc wn ws has hours whas whours (uL 0) (uH 0) (uC 0) (uN 0) (uS 0) (uhas 0) (uhours 0) n pk pr wcity (ucity 0) = some (a, tr, -1, hour', wl', wh', wc', wn', ws', has', hours', whas', whours', ul, uh, uc, un, us, ua, uo, wcity', uy, w) ∧
      MX7_ask p q 16 (nI g) (nI n) v kind near past x = some (a, 0, tr, -1, 16, v', past', x') ∧ ¬ tr = 4 ∧ townR n liv hour' cat nights seed has' hours' v' ∧ townI n liv hour' cat nights seed has' ∧
      ((ul = uL 0 ∧ uh = uH 0 ∧ uc = uC 0 ∧ un = uN 0 ∧ us = uS 0 ∧ ua = uhas 0 ∧ uo = uhours 0 ∧ uy = ucity 0 ∧ w = (some (ta 0), some (ta 1), some (ta 2), some (ta 3), some (ta 4), some (ta 5), some (ta 6), some (ta 7), some (ta 8), some (ta 9), some (ta 10), some (ta 11), some (ta 12), some (ta 13), some (ta 14), some (ta 15)) ∧ past' = past) ∨
       (w = (some (ta 1), some (ta 2), some (ta 3), some (ta 4), some (ta 5), some (ta 6), some (ta 7), some (ta 8), some (ta 9), some (ta 10), some (ta 11), some (ta 12), some (ta 13), some (ta 14), some (ta 15), some (ta 0)) ∧ memR n hc 16 (rotF uL ul) (rotF uH uh) (rotF uC uc) (rotF uN un) (rotF uS us) (rotF uhas ua) (rotF uhours uo) (rotF ucity uy) past')) := by
  unfold MX1_askL MX1_anew MX1_no
  rw [Option.bind_some]
  simp only [Option.bind_some]
  rcases ask_core h0 hn hg hR hI hk p q 16 (by omega) past x with ⟨tr, t1, t2, t3, t4⟩ | ⟨a, has', hours', hour', k', v', past', x', t1, t2, t3, t4, t5, t6⟩
  · have e := t3 (fun z => some ((-1 : Int32), z, (-1 : Int32), hour, wl, wh, wc, wn, ws, has, hours, whas, whours, uL 0, uH 0, uC 0, uN 0, uS 0, uhas 0, uhours 0, wcity, ucity 0, some (ta 0), some (ta 1), some (ta 2), some (ta 3), some (ta 4), some (ta 5), some (ta 6), some (ta 7), some (ta 8), some (ta 9), some (ta 10), some (ta 11), some (ta 12), some (ta 13), some (ta 14), some (ta 15)))
      ((MX1_note liv hour cat nights seed whas whours has hours).bind fun r18 => (MX4_asks p q hour (nI g) has hours).bind fun r20 => (MX1_doneL r18.1 r18.2.1 r18.2.2.1 r18.2.2.2.1 r18.2.2.2.2.1 (uhas 0) (uhours 0) r18.2.2.2.2.2.1 r18.2.2.2.2.2.2).bind fun r22 => some (r20.1, (0 : Int32), (-1 : Int32), r20.2.1, r18.1, r18.2.1, r18.2.2.1, r18.2.2.2.1, r18.2.2.2.2.1, r20.2.2.1, r20.2.2.2, r18.2.2.2.2.2.1, r18.2.2.2.2.2.2, r22.2.1, r22.2.2.1, r22.2.2.2.1, r22.2.2.2.2.1, r22.2.2.2.2.2.1, r22.2.2.2.2.2.2.1, r22.2.2.2.2.2.2.2, (Value.ref hc), (Value.ref hc), some (ta 1), some (ta 2), some (ta 3), some (ta 4), some (ta 5), some (ta 6), some (ta 7), some (ta 8), some (ta 9), some (ta 10), some (ta 11), some (ta 12), some (ta 13), some (ta 14), some (ta 15), some (ta 0)))
    exact ⟨_, _, _, _, _, _, _, _, _, _, _, _, _, _, _, _, _, _, _, _, _, _, _, _, _, e, t4, t2, hR, hI, Or.inl ⟨rfl, rfl, rfl, rfl, rfl, rfl, rfl, rfl, rfl, rfl⟩⟩
  · have e := t1 (fun z => some ((-1 : Int32), z, (-1 : Int32), hour, wl, wh, wc, wn, ws, has, hours, whas, whours, uL 0, uH 0, uC 0, uN 0, uS 0, uhas 0, uhours 0, wcity, ucity 0, some (ta 0), some (ta 1), some (ta 2), some (ta 3), some (ta 4), some (ta 5), some (ta 6), some (ta 7), some (ta 8), some (ta 9), some (ta 10), some (ta 11), some (ta 12), some (ta 13), some (ta 14), some (ta 15)))
      ((MX1_note liv hour cat nights seed whas whours has hours).bind fun r18 => (MX4_asks p q hour (nI g) has hours).bind fun r20 => (MX1_doneL r18.1 r18.2.1 r18.2.2.1 r18.2.2.2.1 r18.2.2.2.2.1 (uhas 0) (uhours 0) r18.2.2.2.2.2.1 r18.2.2.2.2.2.2).bind fun r22 => some (r20.1, (0 : Int32), (-1 : Int32), r20.2.1, r18.1, r18.2.1, r18.2.2.1, r18.2.2.2.1, r18.2.2.2.2.1, r20.2.2.1, r20.2.2.2, r18.2.2.2.2.2.1, r18.2.2.2.2.2.2, r22.2.1, r22.2.2.1, r22.2.2.2.1, r22.2.2.2.2.1, r22.2.2.2.2.2.1, r22.2.2.2.2.2.2.1, r22.2.2.2.2.2.2.2, (Value.ref hc), (Value.ref hc), some (ta 1), some (ta 2), some (ta 3), some (ta 4), some (ta 5), some (ta 6), some (ta 7), some (ta 8), some (ta 9), some (ta 10), some (ta 11), some (ta 12), some (ta 13), some (ta 14), some (ta 15), some (ta 0)))
    have hB : ((MX1_note liv hour cat nights seed whas whours has hours).bind fun r18 => (MX4_asks p q hour (nI g) has hours).bind fun r20 => (MX1_doneL r18.1 r18.2.1 r18.2.2.1 r18.2.2.2.1 r18.2.2.2.2.1 (uhas 0) (uhours 0) r18.2.2.2.2.2.1 r18.2.2.2.2.2.2).bind fun r22 => some (r20.1, (0 : Int32), (-1 : Int32), r20.2.1, r18.1, r18.2.1, r18.2.2.1, r18.2.2.2.1, r18.2.2.2.2.1, r20.2.2.1, r20.2.2.2, r18.2.2.2.2.2.1, r18.2.2.2.2.2.2, r22.2.1, r22.2.2.1, r22.2.2.2.1, r22.2.2.2.2.1, r22.2.2.2.2.2.1, r22.2.2.2.2.2.2.1, r22.2.2.2.2.2.2.2, (Value.ref hc), (Value.ref hc), some (ta 1), some (ta 2), some (ta 3), some (ta 4), some (ta 5), some (ta 6), some (ta 7), some (ta 8), some (ta 9), some (ta 10), some (ta 11), some (ta 12), some (ta 13), some (ta 14), some (ta 15), some (ta 0))) = some (a, 0, -1, hour', liv, hour, cat, nights, seed, has', hours', va_cpy has whas 0 0 6, va_cpy hours whours 0 0 36, liv, hour, cat, nights, seed, va_cpy (va_cpy has whas 0 0 6) (uhas 0) 0 0 6, va_cpy (va_cpy hours whours 0 0 36) (uhours 0) 0 0 36, Value.ref hc, Value.ref hc, some (ta 1), some (ta 2), some (ta 3), some (ta 4), some (ta 5), some (ta 6), some (ta 7), some (ta 8), some (ta 9), some (ta 10), some (ta 11), some (ta 12), some (ta 13), some (ta 14), some (ta 15), some (ta 0)) := by
      rw [M_note, Option.bind_some, t2, Option.bind_some, M_doneL, Option.bind_some]
    have e := e.trans hB
    rcases t6 with ⟨q1, -⟩ | ⟨q1, q2, q3, q4⟩
    · omega
    · subst q2
      refine ⟨_, _, _, _, _, _, _, _, _, _, _, _, _, _, _, _, _, _, _, _, _, _, _, _, _, e, t3, by decide, t4, t5, Or.inr ⟨rfl, ?_⟩⟩
      exact mem_rot hn hm (become_R hn (become_R hn hR)) (hI.cpy hn |>.cpy hn) q3 q4
