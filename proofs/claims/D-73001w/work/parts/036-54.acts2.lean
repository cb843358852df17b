set_option maxRecDepth 100000
/-! op 41: die -/
theorem die_core {n : Nat} (h0 : 0 < n) (hn : n ≤ 6) {liv hour cat nights seed : Int32} {has hours v : AI} (hR : townR n liv hour cat nights seed has hours v) (hI : townI n liv hour cat nights seed has) (p : Int32) (k : Nat) (hk16 : k ≤ 16) (past x heir then_ whas whours : AI) (cg : Int32) :
    (∃ w, (w = 1 ∨ w = 5) ∧ whyL n liv p = w ∧ MX7_die p (nI k) cg (nI n) v past x heir then_ = some (-1, 0, w, -1, nI k, cg, v, past, x, heir, then_)) ∨
    (whyL n liv p = 0 ∧ ∃ a liv' cat' has' hours' cg' k' v' past' x' heir' th', MX4_heir p liv (nI n) hours = some a ∧
      MX4_dies ((1 : Int32) <<< (p &&& 31)) liv hour cat nights seed has hours (va_cpy has whas 0 0 6) (va_cpy hours whours 0 0 36) (nI n) = some (liv', hour, cat', nights, seed, has', hours') ∧ MX7_die p (nI k) cg (nI n) v past x heir then_ = some (a, 0, 0, -1, nI k', cg', v', past', x', heir', th') ∧ townR n liv' hour cat' nights seed has' hours' v' ∧ townI n liv' hour cat' nights seed has' ∧
      ((k < 16 ∧ k' = k + 1 ∧ (∀ m, m < k → ∀ j, j < 47 → slice past' m j = slice past m j) ∧ (∀ j, j < 47 → slice past' k j = v j)) ∨ (k = 16 ∧ k' = 16 ∧ (∀ m, m < 15 → ∀ j, j < 47 → slice past' m j = slice past (m + 1) j) ∧ (∀ j, j < 47 → slice past' 15 j = v j)))) := by
  unfold MX7_die MX7_refused MX7_good
  rw [M_whyL7, hR.1]
  simp only [Option.bind_some]
  rcases whyL_cases n liv p with ⟨e, e1, e2⟩ | e
  · refine Or.inr ⟨e, ?_⟩
    rw [e, if_pos (by decide)]
    obtain ⟨i, hi, rfl⟩ := isP_of hn e1
    obtain ⟨hr, nN, sN, q1, h1, q2, h2, q3, h3⟩ := hI.nums
    obtain ⟨k', p', m1, m2⟩ := M_remembers7 hk16 v past
    obtain ⟨x1, ex, hx⟩ := M_works7 v x
    have hR1 := hR.copy hn hx
    obtain ⟨cat', has', hours', cg', x', heir', th', f1, f2, f3, f4⟩ := dies_R hn (become_R hn hR1 (t := whas) (u := whours)) (become_M hn hI.money (t := whas)) ((1 : Int32) <<< (nI i &&& 31)) has hours heir then_ false
    rw [if_neg (by decide)] at f3
    obtain ⟨v', s1, s2, s3⟩ := M_stay7 hn f3 v
    refine ⟨_, _, cat', has', hours', cg', k', v', p', x', heir', th', M_heir4 hn (by omega) liv hours, f1, ?_, s2, townI.of f4 q1 h1 q2 h2 q3 h3, m2⟩
    rw [m1, Option.bind_some, ex, Option.bind_some, M_heir7 hn (by omega) hours x1 hR1.2.2.2.2.2.2, Option.bind_some, f2, Option.bind_some, s1, Option.bind_some, hR1.1]
  · refine Or.inl ⟨whyL n liv p, e, rfl, ?_⟩
    rcases e with e | e <;> rw [e, if_neg (by decide)]
theorem op_die {n hc hx k : Nat} (h0 : 0 < n) (hn : n ≤ 6) {liv hour cat nights seed : Int32} {has hours v : AI} (hR : townR n liv hour cat nights seed has hours v) (hI : townI n liv hour cat nights seed has) (p : Int32) (hk16 : k < 16) {ra : Nat → Option Nat} (hra : ra k = some hx) {uL uH uC uN uS : Nat → Int32} {uhas uhours : Nat → AI} {ucity : Nat → Value} {past : AI} (hm : memR n hc k uL uH uC uN uS uhas uhours ucity past) (wl wh wc wn ws cg : Int32) (whas whours x heir then_ : AI) (wcity : Value) :
    ∃ a tr k' tl' th' tc' tn' ts' wl' wh' wc' wn' ws' has' hours' whas' whours' ul uh uc un us ua uo wcity' uy cg' v' past' rM, MX1_die hc hx p (nI k) (nI n) liv hour cat nights seed wl wh wc wn ws has hours whas whours (uL k) (uH k) (uC k) (uN k) (uS k) (uhas k) (uhours k) wcity (ucity k) ra = some (a, tr, -1, nI k', tl', th', tc', tn', ts', wl', wh', wc', wn', ws', has', hours', whas', whours', ul, uh, uc, un, us, ua, uo, wcity', uy) ∧
      MX7_die p (nI k) cg (nI n) v past x heir then_ = some (a, 0, tr, -1, nI k', cg', v', past', rM) ∧ ¬ tr = 4 ∧ k' ≤ 16 ∧ townR n tl' th' tc' tn' ts' has' hours' v' ∧ townI n tl' th' tc' tn' ts' has' ∧
      memR n hc k' (updF uL k ul) (updF uH k uh) (updF uC k uc) (updF uN k un) (updF uS k us) (updF uhas k ua) (updF uhours k uo) (updF ucity k uy) past' := by
  unfold MX1_die MX1_anew MX1_no
  rw [Option.bind_some]
  simp only [Option.bind_some]
  rw [M_whyL1 h0 hn, Option.bind_some]
  rcases die_core h0 hn hR hI p k (by omega) past x heir then_ whas whours cg with ⟨w, w1, w2, w3⟩ | ⟨w2, a, liv', cat', has', hours', cg', k', v', past', x', heir', th', t1, t2, t3, t4, t5, t6⟩
  · rw [w2, if_neg (by rcases w1 with rfl | rfl <;> decide), w3]
    refine ⟨_, _, k, _, _, _, _, _, _, _, _, _, _, _, _, _, _, _, _, _, _, _, _, _, _, _, _, _, _, _, rfl, rfl, by rcases w1 with rfl | rfl <;> decide, by omega, hR, hI, ?_⟩
    simp only [updF_self]
    exact hm
  · rw [w2, if_pos rfl, M_note, Option.bind_some, t1, Option.bind_some, t2, Option.bind_some, M_done hk16 hra, Option.bind_some, t3]
    rcases t6 with ⟨q1, q2, q3, q4⟩ | ⟨q1, -⟩
    · subst q2
      refine ⟨_, _, k + 1, _, _, _, _, _, _, _, _, _, _, _, _, _, _, _, _, _, _, _, _, _, _, _, _, _, _, _, rfl, rfl, by decide, by omega, t4, t5, ?_⟩
      exact mem_push hn hk16 hm (become_R hn (become_R hn hR)) (hI.cpy hn |>.cpy hn) q3 q4
    · omega
theorem op_dieL {n hc : Nat} (h0 : 0 < n) (hn : n ≤ 6) {liv hour cat nights seed : Int32} {has hours v : AI} (hR : townR n liv hour cat nights seed has hours v) (hI : townI n liv hour cat nights seed has) (p : Int32) {uL uH uC uN uS : Nat → Int32} {uhas uhours : Nat → AI} {ucity : Nat → Value} {past : AI} (hm : memR n hc 16 uL uH uC uN uS uhas uhours ucity past) (wl wh wc wn ws cg : Int32) (whas whours x heir then_ : AI) (wcity : Value) (ta : Nat → Nat) :
    ∃ a tr tl' th' tc' tn' ts' wl' wh' wc' wn' ws' has' hours' whas' whours' ul uh uc un us ua uo wcity' uy w cg' v' past' rM, MX1_dieL hc (ta 0) (ta 1) (ta 2) (ta 3) (ta 4) (ta 5) (ta 6) (ta 7) (ta 8) (ta 9) (ta 10) (ta 11) (ta 12) (ta 13) (ta 14) (ta 15) p (nI n) liv hour cat nights seed wl wh wc wn ws has hours whas whours (uL 0) (uH 0) (uC 0) (uN 0) (uS 0) (uhas 0) (uhours 0) wcity (ucity 0) = some (a, tr, -1, tl', th', tc', tn', ts', wl', wh', wc', wn', ws', has', hours', whas', whours', ul, uh, uc, un, us, ua, uo, wcity', uy, w) ∧
      MX7_die p 16 cg (nI n) v past x heir then_ = some (a, 0, tr, -1, 16, cg', v', past', rM) ∧ ¬ tr = 4 ∧ townR n tl' th' tc' tn' ts' has' hours' v' ∧ townI n tl' th' tc' tn' ts' has' ∧
      ((ul = uL 0 ∧ uh = uH 0 ∧ uc = uC 0 ∧ un = uN 0 ∧ us = uS 0 ∧ ua = uhas 0 ∧ uo = uhours 0 ∧ uy = ucity 0 ∧ w = (some (ta 0), some (ta 1), some (ta 2), some (ta 3), some (ta 4), some (ta 5), some (ta 6), some (ta 7), some (ta 8), some (ta 9), some (ta 10), some (ta 11), some (ta 12), some (ta 13), some (ta 14), some (ta 15)) ∧ past' = past) ∨
       (w = (some (ta 1), some (ta 2), some (ta 3), some (ta 4), some (ta 5), some (ta 6), some (ta 7), some (ta 8), some (ta 9), some (ta 10), some (ta 11), some (ta 12), some (ta 13), some (ta 14), some (ta 15), some (ta 0)) ∧ memR n hc 16 (rotF uL ul) (rotF uH uh) (rotF uC uc) (rotF uN un) (rotF uS us) (rotF uhas ua) (rotF uhours uo) (rotF ucity uy) past')) := by
  unfold MX1_dieL MX1_anew MX1_no
  rw [Option.bind_some]
  simp only [Option.bind_some]
  rw [M_whyL1 h0 hn, Option.bind_some]
  rcases die_core h0 hn hR hI p 16 (by omega) past x heir then_ whas whours cg with ⟨w, w1, w2, w3⟩ | ⟨w2, a, liv', cat', has', hours', cg', k', v', past', x', heir', th', t1, t2, t3, t4, t5, t6⟩
  · rw [w2, if_neg (by rcases w1 with rfl | rfl <;> decide)]
    exact ⟨_, _, _, _, _, _, _, _, _, _, _, _, _, _, _, _, _, _, _, _, _, _, _, _, _, _, _, _, _, _, rfl, w3, by rcases w1 with rfl | rfl <;> decide, hR, hI, Or.inl ⟨rfl, rfl, rfl, rfl, rfl, rfl, rfl, rfl, rfl, rfl⟩⟩
  · rw [w2, if_pos rfl, M_note, Option.bind_some, t1, Option.bind_some, t2, Option.bind_some, M_doneL, Option.bind_some]
    rcases t6 with ⟨q1, -⟩ | ⟨q1, q2, q3, q4⟩
    · omega
    · subst q2
      refine ⟨_, _, _, _, _, _, _, _, _, _, _, _, _, _, _, _, _, _, _, _, _, _, _, _, _, _, _, _, _, _, rfl, t3, by decide, t4, t5, Or.inr ⟨rfl, ?_⟩⟩
      exact mem_rot hn hm (become_R hn (become_R hn hR)) (hI.cpy hn |>.cpy hn) q3 q4
/-! op 42: night -/
theorem night_core {n : Nat} (hn : n ≤ 6) {liv hour cat nights seed : Int32} {has hours v pd dies : AI} (hR : townR n liv hour cat nights seed has hours v) (hI : townI n liv hour cat nights seed has) (hds : ∀ j, j < n → dies j = pd j) (k : Nat) (hk16 : k ≤ 16) (past x heir then_ nhas nhours : AI) (cg : Int32) :
    (nights = 999 ∧ MX7_night (nI k) cg (nI n) v past x heir then_ dies = some (-1, 0, 3, -1, nI k, cg, v, past, x, heir, then_)) ∨
    (¬ nights = 999 ∧ ∃ set seed' liv' cat' has' hours' cg' k' v' past' x' heir' th', MX4_draws liv seed (nI n) n pd = some (set, seed') ∧
      MX4_dies set liv hour cat nights seed' has hours (va_cpy has nhas 0 0 6) (va_cpy hours nhours 0 0 36) (nI n) = some (liv', hour, cat', nights, seed', has', hours') ∧ MX7_night (nI k) cg (nI n) v past x heir then_ dies = some (set, 0, 0, -1, nI k', cg', v', past', x', heir', th') ∧ townR n liv' hour cat' (nights + 1) seed' has' hours' v' ∧ townI n liv' hour cat' (nights + 1) seed' has' ∧
      ((k < 16 ∧ k' = k + 1 ∧ (∀ m, m < k → ∀ j, j < 47 → slice past' m j = slice past m j) ∧ (∀ j, j < 47 → slice past' k j = v j)) ∨ (k = 16 ∧ k' = 16 ∧ (∀ m, m < 15 → ∀ j, j < 47 → slice past' m j = slice past (m + 1) j) ∧ (∀ j, j < 47 → slice past' 15 j = v j)))) := by
  unfold MX7_night MX7_refused MX7_good
  rw [hR.2.2.2.1]
  by_cases c : nights = 999
  · rw [if_pos c]
    exact Or.inl ⟨c, rfl⟩
  · rw [if_neg c]
    refine Or.inr ⟨c, ?_⟩
    obtain ⟨hr, nN, sN, q1, h1, q2, h2, q3, h3⟩ := hI.nums
    subst q3
    have hn9 : nN ≠ 999 := fun z => c (by rw [q2]; exact (nI999 h2).mpr z)
    obtain ⟨k', p', m1, m2⟩ := M_remembers7 hk16 v past
    obtain ⟨x1, ex, hx⟩ := M_works7 v x
    have hR1 := hR.copy hn hx
    obtain ⟨cat', has', hours', cg', x', heir', th', f1, f2, f3, f4⟩ := night_R (pd := pd) hn h3 (become_R hn hR1 (t := nhas) (u := nhours)) (become_M hn hI.money (t := nhas)) hds has hours heir then_ true
    rw [if_pos rfl] at f3
    obtain ⟨v', s1, s2, s3⟩ := M_stay7 hn f3 v
    refine ⟨_, _, _, cat', has', hours', cg', k', v', p', x', heir', th', M_draws4 hn h3 liv pd, f1, ?_, s2, townI.of f4 q1 h1 (by rw [q2, nI_1]) (by omega) rfl (drawN_lt h3 n), m2⟩
    rw [m1, Option.bind_some, ex, Option.bind_some, f2, Option.bind_some, s1, Option.bind_some, Option.bind_some]
theorem op_night {n hc hx k : Nat} (hn : n ≤ 6) {liv hour cat nights seed : Int32} {has hours v pd dies : AI} (hR : townR n liv hour cat nights seed has hours v) (hI : townI n liv hour cat nights seed has) (hds : ∀ j, j < n → dies j = pd j) (hk16 : k < 16) {ra : Nat → Option Nat} (hra : ra k = some hx) {uL uH uC uN uS : Nat → Int32} {uhas uhours : Nat → AI} {ucity : Nat → Value} {past : AI} (hm : memR n hc k uL uH uC uN uS uhas uhours ucity past) (wl wh wc wn ws nl nh nc nn ns cg : Int32) (whas whours nhas nhours x heir then_ : AI) (wcity ncity : Value) :
    ∃ a tr k' tl' th' tc' tn' ts' wl' wh' wc' wn' ws' has' hours' whas' whours' nl' nh' nc' nn' ns' nhas' nhours' ul uh uc un us ua uo wcity' ncity' uy cg' v' past' rM, MX1_night hc hx (nI k) (nI n) liv hour cat nights seed wl wh wc wn ws has hours whas whours nl nh nc nn ns nhas nhours (uL k) (uH k) (uC k) (uN k) (uS k) (uhas k) (uhours k) n pd wcity ncity (ucity k) ra = some (a, tr, -1, nI k', tl', th', tc', tn', ts', wl', wh', wc', wn', ws', has', hours', whas', whours', nl', nh', nc', nn', ns', nhas', nhours', ul, uh, uc, un, us, ua, uo, wcity', ncity', uy) ∧
      MX7_night (nI k) cg (nI n) v past x heir then_ dies = some (a, 0, tr, -1, nI k', cg', v', past', rM) ∧ ¬ tr = 4 ∧ k' ≤ 16 ∧ townR n tl' th' tc' tn' ts' has' hours' v' ∧ townI n tl' th' tc' tn' ts' has' ∧
      memR n hc k' (updF uL k ul) (updF uH k uh) (updF uC k uc) (updF uN k un) (updF uS k us) (updF uhas k ua) (updF uhours k uo) (updF ucity k uy) past' := by
  unfold MX1_night MX1_anew MX1_no
  rw [Option.bind_some]
  simp only [Option.bind_some]
  rcases night_core hn hR hI hds k (by omega) past x heir then_ nhas nhours cg with ⟨w1, w2⟩ | ⟨w1, set, seed', liv', cat', has', hours', cg', k', v', past', x', heir', th', t1, t2, t3, t4, t5, t6⟩
  · rw [if_pos w1, w2]
    refine ⟨_, _, k, _, _, _, _, _, _, _, _, _, _, _, _, _, _, _, _, _, _, _, _, _, _, _, _, _, _, _, _, _, _, _, _, _, _, _, rfl, rfl, by decide, by omega, hR, hI, ?_⟩
    simp only [updF_self]
    exact hm
  · rw [if_neg w1, M_note, Option.bind_some, t1, Option.bind_some, M_become, Option.bind_some, t2, Option.bind_some, M_done hk16 hra, Option.bind_some, t3]
    rcases t6 with ⟨q1, q2, q3, q4⟩ | ⟨q1, -⟩
    · subst q2
      refine ⟨_, _, k + 1, _, _, _, _, _, _, _, _, _, _, _, _, _, _, _, _, _, _, _, _, _, _, _, _, _, _, _, _, _, _, _, _, _, _, _, rfl, rfl, by decide, by omega, t4, t5, ?_⟩
      exact mem_push hn hk16 hm (become_R hn (become_R hn hR)) (hI.cpy hn |>.cpy hn) q3 q4
    · omega
theorem op_nightL {n hc : Nat} (hn : n ≤ 6) {liv hour cat nights seed : Int32} {has hours v pd dies : AI} (hR : townR n liv hour cat nights seed has hours v) (hI : townI n liv hour cat nights seed has) (hds : ∀ j, j < n → dies j = pd j) {uL uH uC uN uS : Nat → Int32} {uhas uhours : Nat → AI} {ucity : Nat → Value} {past : AI} (hm : memR n hc 16 uL uH uC uN uS uhas uhours ucity past) (wl wh wc wn ws nl nh nc nn ns cg : Int32) (whas whours nhas nhours x heir then_ : AI) (wcity ncity : Value) (ta : Nat → Nat) :
    ∃ a tr tl' th' tc' tn' ts' wl' wh' wc' wn' ws' has' hours' whas' whours' nl' nh' nc' nn' ns' nhas' nhours' ul uh uc un us ua uo wcity' ncity' uy w cg' v' past' rM, MX1_nightL hc (ta 0) (ta 1) (ta 2) (ta 3) (ta 4) (ta 5) (ta 6) (ta 7) (ta 8) (ta 9) (ta 10) (ta 11) (ta 12) (ta 13) (ta 14) (ta 15) (nI n) liv hour cat nights seed wl wh wc wn ws has hours whas whours nl nh nc nn ns nhas nhours (uL 0) (uH 0) (uC 0) (uN 0) (uS 0) (uhas 0) (uhours 0) n pd wcity ncity (ucity 0) = some (a, tr, -1, tl', th', tc', tn', ts', wl', wh', wc', wn', ws', has', hours', whas', whours', nl', nh', nc', nn', ns', nhas', nhours', ul, uh, uc, un, us, ua, uo, wcity', ncity', uy, w) ∧
      MX7_night 16 cg (nI n) v past x heir then_ dies = some (a, 0, tr, -1, 16, cg', v', past', rM) ∧ ¬ tr = 4 ∧ townR n tl' th' tc' tn' ts' has' hours' v' ∧ townI n tl' th' tc' tn' ts' has' ∧
      ((ul = uL 0 ∧ uh = uH 0 ∧ uc = uC 0 ∧ un = uN 0 ∧ us = uS 0 ∧ ua = uhas 0 ∧ uo = uhours 0 ∧ uy = ucity 0 ∧ w = (some (ta 0), some (ta 1), some (ta 2), some (ta 3), some (ta 4), some (ta 5), some (ta 6), some (ta 7), some (ta 8), some (ta 9), some (ta 10), some (ta 11), some (ta 12), some (ta 13), some (ta 14), some (ta 15)) ∧ past' = past) ∨
       (w = (some (ta 1), some (ta 2), some (ta 3), some (ta 4), some (ta 5), some (ta 6), some (ta 7), some (ta 8), some (ta 9), some (ta 10), some (ta 11), some (ta 12), some (ta 13), some (ta 14), some (ta 15), some (ta 0)) ∧ memR n hc 16 (rotF uL ul) (rotF uH uh) (rotF uC uc) (rotF uN un) (rotF uS us) (rotF uhas ua) (rotF uhours uo) (rotF ucity uy) past')) := by
  unfold MX1_nightL MX1_anew MX1_no
  rw [Option.bind_some]
  simp only [Option.bind_some]
  rcases night_core hn hR hI hds 16 (by omega) past x heir then_ nhas nhours cg with ⟨w1, w2⟩ | ⟨w1, set, seed', liv', cat', has', hours', cg', k', v', past', x', heir', th', t1, t2, t3, t4, t5, t6⟩
  · rw [if_pos w1]
    exact ⟨_, _, _, _, _, _, _, _, _, _, _, _, _, _, _, _, _, _, _, _, _, _, _, _, _, _, _, _, _, _, _, _, _, _, _, _, _, _, rfl, w2, by decide, hR, hI, Or.inl ⟨rfl, rfl, rfl, rfl, rfl, rfl, rfl, rfl, rfl, rfl⟩⟩
  · rw [if_neg w1, M_note, Option.bind_some, t1, Option.bind_some, M_become, Option.bind_some, t2, Option.bind_some, M_doneL, Option.bind_some]
    rcases t6 with ⟨q1, -⟩ | ⟨q1, q2, q3, q4⟩
    · omega
    · subst q2
      refine ⟨_, _, _, _, _, _, _, _, _, _, _, _, _, _, _, _, _, _, _, _, _, _, _, _, _, _, _, _, _, _, _, _, _, _, _, _, _, _, rfl, t3, by decide, t4, t5, Or.inr ⟨rfl, ?_⟩⟩
      exact mem_rot hn hm (become_R hn (become_R hn hR)) (hI.cpy hn |>.cpy hn) q3 q4
/-! op 44: undo -/
theorem op_undo {n hc hx k : Nat} (hn : n ≤ 6) {liv hour cat nights seed : Int32} {has hours v : AI} (hR : townR n liv hour cat nights seed has hours v) (hI : townI n liv hour cat nights seed has) (hk16 : k < 16) {ra : Nat → Option Nat} (hra : ra k = some hx) {uL uH uC uN uS : Nat → Int32} {uhas uhours : Nat → AI} {ucity : Nat → Value} {past : AI} (hm : memR n hc (k + 1) uL uH uC uN uS uhas uhours ucity past) :
    ∃ tl' th' tc' tn' ts' has' hours' v', MX1_undo hx hc (nI (k + 1)) (uL k) (uH k) (uC k) (uN k) (uS k) liv hour cat nights seed has hours (uhas k) (uhours k) (ucity k) (.ref hc) ra = some (true, 0, -1, nI k, tl', th', tc', tn', ts', has', hours', .ref hc) ∧
      MX7_undo (nI (k + 1)) past v = some (true, 0, 0, -1, nI k, v') ∧ townR n tl' th' tc' tn' ts' has' hours' v' ∧ townI n tl' th' tc' tn' ts' has' ∧ memR n hc k uL uH uC uN uS uhas uhours ucity past := by
  obtain ⟨v', e, e1, -⟩ := M_undo7 hk16 past v
  obtain ⟨a, b, d⟩ := hm k (by omega)
  refine ⟨_, _, _, _, _, va_cpy (uhas k) has 0 0 6, va_cpy (uhours k) hours 0 0 36, v', ?_, e, (become_R hn a).copy hn e1, b.cpy hn, fun m h => hm m (by omega)⟩
  · have hy : MX1_yes 0 = some (true, 0, -1) := rfl
    unfold MX1_undo
    rw [if_neg (nI_ne0 (by omega) (by omega)), nI_m1 (by omega), Nat.add_sub_cancel, hy, Option.bind_some, gi_nI hk16 (by decide), nIc (by omega), gq_of hra, d, gv_of, M_become, Option.bind_some]
theorem op_undo0 {hx hc : Nat} (ul uh uc un us liv hour cat nights seed : Int32) (has hours ua uo past v : AI) (uy cy : Value) (ra : Nat → Option Nat) :
    MX1_undo hx hc 0 ul uh uc un us liv hour cat nights seed has hours ua uo uy cy ra = some (false, 6, -1, 0, liv, hour, cat, nights, seed, has, hours, cy) ∧ MX7_undo 0 past v = some (false, 0, 6, -1, 0, v) := by
  refine ⟨?_, M_undo70 past v⟩
  unfold MX1_undo MX1_yes MX1_anew
  rw [if_pos rfl]
  rfl
/-! op 45: image; op 46: back -/
theorem op_image {n hc hx k : Nat} (hn : n ≤ 6) {liv hour cat nights seed : Int32} {has hours v : AI} (hR : townR n liv hour cat nights seed has hours v) (hI : townI n liv hour cat nights seed has) (hk3 : k < 3) {ra : Nat → Option Nat} (hra : ra k = some hx) {uL uH uC uN uS : Nat → Int32} {uhas uhours : Nat → AI} {ucity : Nat → Value} {kept : AI} (hm : memR n hc k uL uH uC uN uS uhas uhours ucity kept) :
    ∃ ua uo kept', MX1_image hc hx (nI k) (uL k) (uH k) (uC k) (uN k) (uS k) liv hour cat nights seed (uhas k) (uhours k) has hours (ucity k) ra = some (nI k, 0, -1, nI (k + 1), liv, hour, cat, nights, seed, ua, uo, .ref hc) ∧
      MX7_image (nI k) v kept = some (nI k, 0, 0, -1, nI (k + 1), kept') ∧ memR n hc (k + 1) (updF uL k liv) (updF uH k hour) (updF uC k cat) (updF uN k nights) (updF uS k seed) (updF uhas k ua) (updF uhours k uo) (updF ucity k (.ref hc)) kept' := by
  obtain ⟨kept', e, e1, e2⟩ := M_image7 hk3 v kept
  refine ⟨va_cpy has (uhas k) 0 0 6, va_cpy hours (uhours k) 0 0 36, kept', ?_, e, ?_⟩
  · unfold MX1_image MX1_anew
    rw [Option.bind_some, if_neg (show ¬ nI k = (3 : Int32) from fun z => absurd ((nI_eq (b := 3) (by omega) (by decide)).mp z) (by omega)), gi_nI hk3 (by decide), nIc (by omega), gq_of hra, M_become, Option.bind_some, nI_1, nI_m1 (by omega), Nat.add_sub_cancel]
  · exact mem_push hn (by omega) hm (become_R hn hR) (hI.cpy hn) (fun m hm' j hj => by unfold slice; exact e2 _ (by omega)) e1
theorem op_image3 {hc hx : Nat} (ul uh uc un us liv hour cat nights seed : Int32) (ua uo has hours v kept : AI) (uy : Value) (ra : Nat → Option Nat) :
    MX1_image hc hx 3 ul uh uc un us liv hour cat nights seed ua uo has hours uy ra = some (-1, 3, -1, 3, ul, uh, uc, un, us, ua, uo, uy) ∧ MX7_image 3 v kept = some (-1, 0, 3, -1, 3, kept) := by
  refine ⟨?_, M_image73 v kept⟩
  unfold MX1_image MX1_anew MX1_no
  rw [Option.bind_some, if_pos rfl]
  rfl
theorem op_back {n hc hx k i : Nat} (hn : n ≤ 6) {v : AI} (hk3 : k ≤ 3) (hi : i < k) {ra : Nat → Option Nat} (hra : ra i = some hx) {uL uH uC uN uS : Nat → Int32} {uhas uhours : Nat → AI} {ucity : Nat → Value} {kept : AI} (hm : memR n hc k uL uH uC uN uS uhas uhours ucity kept) (um liv hour cat nights seed acts : Int32) (has hours : AI) :
    ∃ tl' th' tc' tn' ts' has' hours' v', MX1_back hx hc (nI i) (nI k) um (uL i) (uH i) (uC i) (uN i) (uS i) liv hour cat nights seed has hours (uhas i) (uhours i) (ucity i) (.ref hc) ra = some (true, 0, -1, 0, tl', th', tc', tn', ts', has', hours', .ref hc) ∧
      MX7_back (nI i) acts (nI k) kept v = some (true, 0, 0, -1, 0, v') ∧ townR n tl' th' tc' tn' ts' has' hours' v' ∧ townI n tl' th' tc' tn' ts' has' := by
  obtain ⟨v', e, e1, -⟩ := M_back7 hi hk3 acts kept v
  obtain ⟨a, b, d⟩ := hm i hi
  refine ⟨_, _, _, _, _, va_cpy (uhas i) has 0 0 6, va_cpy (uhours i) hours 0 0 36, v', ?_, e, (become_R hn a).copy hn e1, b.cpy hn⟩
  · have hy : MX1_yes 0 = some (true, 0, -1) := rfl
    have hin : inB (nI i) 0 (nI k - 1) = true := by
      rw [nI_m1 (by omega)]
      unfold inB
      rw [decide_eq_true (nI_pos' (by omega)), decide_eq_true (nI_le (by omega) (by omega))]; rfl
    unfold MX1_back
    rw [M_in, Option.bind_some, hin, ift, hy, Option.bind_some, gi_nI (by omega) (by decide), nIc (by omega), gq_of hra, d, gv_of, M_become, Option.bind_some]
theorem op_backn {hx hc k : Nat} (hk3 : k ≤ 3) (p : Int32) (h : p < 0 ∨ ¬ p < nI k) (ra : Nat → Option Nat) (um il ih ic in_ is liv hour cat nights seed acts : Int32) (has hours ia io kept v : AI) (iy cy : Value) :
    MX1_back hx hc p (nI k) um il ih ic in_ is liv hour cat nights seed has hours ia io iy cy ra = some (false, 1, -1, um, liv, hour, cat, nights, seed, has, hours, cy) ∧ MX7_back p acts (nI k) kept v = some (false, 0, 1, -1, acts, v) := by
  refine ⟨?_, M_back7n acts kept v h⟩
  have hin : inB p 0 (nI k - 1) = false := by
    unfold inB
    by_cases c : 0 ≤ p
    · obtain ⟨j, hj, rfl⟩ := nI_of (x := p) (Int32.not_lt.mpr c)
      have hk : k ≤ j := by
        rcases h with h | h
        · exact absurd h (nI_pos hj)
        · by_cases c2 : k ≤ j
          · exact c2
          · exact absurd (nI_lt (by omega) (by omega)) h
      by_cases c0 : k = 0
      · subst c0
        have h1 : ¬ nI j ≤ nI 0 - 1 := fun z => absurd (Int32.le_trans (nI_pos' hj) z) (by decide)
        simp [h1]
      · rw [nI_m1 (by omega)]
        have : ¬ nI j ≤ nI (k - 1) := nI_ge (by omega) hj
        simp [this]
    · simp [c]
  unfold MX1_back MX1_yes MX1_anew
  simp only [Option.bind_some]
  rw [M_in, Option.bind_some, hin, iff_]
  rfl
