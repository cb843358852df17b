set_option maxRecDepth 100000
/-! no city yet: both sides refuse alike -/
theorem op_personN : ∃ a tr, MX1_personN = some (a, tr, -1) ∧ MX7_personN = some (a, 0, tr, -1) ∧ ¬ tr = 4 := ⟨_, _, rfl, rfl, by decide⟩
theorem op_registerN : ∃ a tr, MX1_registerN = some (a, tr, -1) ∧ MX7_registerN = some (a, 0, tr, -1) ∧ ¬ tr = 4 := ⟨_, _, rfl, rfl, by decide⟩
theorem op_heirN : ∃ a tr, MX1_heirN = some (a, tr, -1) ∧ MX7_heirN = some (a, 0, tr, -1) ∧ ¬ tr = 4 := ⟨_, _, rfl, rfl, by decide⟩
theorem op_heirToN : ∃ a tr, MX1_heirToN = some (a, tr, -1) ∧ MX7_heirToN = some (a, 0, tr, -1) ∧ ¬ tr = 4 := ⟨_, _, rfl, rfl, by decide⟩
theorem op_hopesN : ∃ a tr, MX1_hopesN = some (a, tr, -1) ∧ MX7_hopesN = some (a, 0, tr, -1) ∧ ¬ tr = 4 := ⟨_, _, rfl, rfl, by decide⟩
theorem op_catN : ∃ a tr, MX1_catN = some (a, tr, -1) ∧ MX7_catN = some (a, 0, tr, -1) ∧ ¬ tr = 4 := ⟨_, _, rfl, rfl, by decide⟩
theorem op_richestN : ∃ a tr, MX1_richestN = some (a, tr, -1) ∧ MX7_richestN = some (a, 0, tr, -1) ∧ ¬ tr = 4 := ⟨_, _, rfl, rfl, by decide⟩
theorem op_goesToN : ∃ a tr, MX1_goesToN = some (a, tr, -1) ∧ MX7_goesToN = some (a, 0, tr, -1) ∧ ¬ tr = 4 := ⟨_, _, rfl, rfl, by decide⟩
theorem op_hasThenN : ∃ a tr, MX1_hasThenN = some (a, tr, -1) ∧ MX7_hasThenN = some (a, 0, tr, -1) ∧ ¬ tr = 4 := ⟨_, _, rfl, rfl, by decide⟩
theorem op_catThenN : ∃ a tr, MX1_catThenN = some (a, tr, -1) ∧ MX7_catThenN = some (a, 0, tr, -1) ∧ ¬ tr = 4 := ⟨_, _, rfl, rfl, by decide⟩
theorem op_roundsN : ∃ a tr, MX1_roundsN = some (a, tr, -1) ∧ MX7_roundsN = some (a, 0, tr, -1) ∧ ¬ tr = 4 := ⟨_, _, rfl, rfl, by decide⟩
theorem op_worthiestN : ∃ a tr, MX1_worthiestN = some (a, tr, -1) ∧ MX7_worthiestN = some (a, 0, tr, -1) ∧ ¬ tr = 4 := ⟨_, _, rfl, rfl, by decide⟩
theorem op_plotN : ∃ a tr, MX1_plotN = some (a, tr, -1) ∧ MX7_plotN = some (a, 0, tr, -1) ∧ ¬ tr = 4 := ⟨_, _, rfl, rfl, by decide⟩
theorem op_meanN : ∃ a tr, MX1_meanN = some (a, tr, -1) ∧ MX7_meanN = some (a, 0, tr, -1) ∧ ¬ tr = 4 := ⟨_, _, rfl, rfl, by decide⟩
theorem op_oddsN (p1 : Int32) : ∃ a tr, MX1_oddsN p1 = some (a, tr, -1) ∧ MX7_oddsN = some (a, 0, tr, -1) ∧ ¬ tr = 4 := by
  unfold MX1_oddsN
  rw [M_in]
  cases inB p1 0 594 <;> exact ⟨_, _, rfl, rfl, by decide⟩
theorem op_passesN : ∃ a tr, MX1_passesN = some (a, tr, -1) ∧ MX7_passesN = some (a, 0, tr, -1) ∧ ¬ tr = 4 := ⟨_, _, rfl, rfl, by decide⟩
theorem op_catMeanN : ∃ a tr, MX1_catMeanN = some (a, tr, -1) ∧ MX7_catMeanN = some (a, 0, tr, -1) ∧ ¬ tr = 4 := ⟨_, _, rfl, rfl, by decide⟩
theorem op_bestN (p1 : Int32) : ∃ a tr, MX1_bestN p1 = some (a, tr, -1) ∧ MX7_bestN = some (a, 0, tr, -1) ∧ ¬ tr = 4 := by
  unfold MX1_bestN
  rw [M_in]
  cases inB p1 1 3 <;> exact ⟨_, _, rfl, rfl, by decide⟩
theorem op_bestMeanN (p1 : Int32) : ∃ a tr, MX1_bestMeanN p1 = some (a, tr, -1) ∧ MX7_bestMeanN = some (a, 0, tr, -1) ∧ ¬ tr = 4 := by
  unfold MX1_bestMeanN
  rw [M_in]
  cases inB p1 1 3 <;> exact ⟨_, _, rfl, rfl, by decide⟩
theorem op_tourN (p1 : Int32) : ∃ a tr, MX1_tourN p1 = some (a, tr, -1) ∧ MX7_tourN = some (a, 0, tr, -1) ∧ ¬ tr = 4 := by
  unfold MX1_tourN
  rw [M_in]
  cases inB p1 0 12 <;> exact ⟨_, _, rfl, rfl, by decide⟩
theorem op_tourHoursN (p1 : Int32) : ∃ a tr, MX1_tourHoursN p1 = some (a, tr, -1) ∧ MX7_tourHoursN = some (a, 0, tr, -1) ∧ ¬ tr = 4 := by
  unfold MX1_tourHoursN
  rw [M_in]
  cases inB p1 0 12 <;> exact ⟨_, _, rfl, rfl, by decide⟩
theorem op_apartN : ∃ a tr, MX1_apartN = some (a, tr, -1) ∧ MX7_apartN = some (a, 0, tr, -1) ∧ ¬ tr = 4 := ⟨_, _, rfl, rfl, by decide⟩
theorem op_toAskN : ∃ a tr, MX1_toAskN = some (a, tr, -1) ∧ MX7_toAskN = some (a, 0, tr, -1) ∧ ¬ tr = 4 := ⟨_, _, rfl, rfl, by decide⟩
theorem op_rivalsN : ∃ a tr, MX1_rivalsN = some (a, tr, -1) ∧ MX7_rivalsN = some (a, 0, tr, -1) ∧ ¬ tr = 4 := ⟨_, _, rfl, rfl, by decide⟩
theorem op_fitsN : ∃ a tr, MX1_fitsN = some (a, tr, -1) ∧ MX7_fitsN = some (a, 0, tr, -1) ∧ ¬ tr = 4 := ⟨_, _, rfl, rfl, by decide⟩
theorem op_fitAtN : ∃ a tr, MX1_fitAtN = some (a, tr, -1) ∧ MX7_fitAtN = some (a, 0, tr, -1) ∧ ¬ tr = 4 := ⟨_, _, rfl, rfl, by decide⟩
theorem op_heirByN : ∃ a tr, MX1_heirByN = some (a, tr, -1) ∧ MX7_heirByN = some (a, 0, tr, -1) ∧ ¬ tr = 4 := ⟨_, _, rfl, rfl, by decide⟩
theorem op_lookN : ∃ a tr, MX1_lookN = some (a, tr, -1) ∧ MX7_lookN = some (a, 0, tr, -1) ∧ ¬ tr = 4 := ⟨_, _, rfl, rfl, by decide⟩
theorem op_lookLeavesN : ∃ a tr, MX1_lookLeavesN = some (a, tr, -1) ∧ MX7_lookLeavesN = some (a, 0, tr, -1) ∧ ¬ tr = 4 := ⟨_, _, rfl, rfl, by decide⟩
theorem op_judgeN : ∃ a tr, MX1_judgeN = some (a, tr, -1) ∧ MX7_judgeN = some (a, 0, tr, -1) ∧ ¬ tr = 4 := ⟨_, _, rfl, rfl, by decide⟩
theorem op_begsN (p0 : Int32) : ∃ a tr, MX1_begsN p0 = some (a, tr, -1) ∧ MX7_begsN = some (a, 0, tr, -1) ∧ ¬ tr = 4 := by
  unfold MX1_begsN
  rw [M_in]
  cases inB p0 0 9 <;> exact ⟨_, _, rfl, rfl, by decide⟩
theorem op_restsN (p0 : Int32) : ∃ a tr, MX1_restsN p0 = some (a, tr, -1) ∧ MX7_restsN = some (a, 0, tr, -1) ∧ ¬ tr = 4 := by
  unfold MX1_restsN
  rw [M_in]
  cases inB p0 0 9 <;> exact ⟨_, _, rfl, rfl, by decide⟩
theorem op_restN (p0 : Int32) : ∃ a tr, MX1_restN p0 = some (a, tr, -1) ∧ MX7_restN = some (a, 0, tr, -1) ∧ ¬ tr = 4 := by
  unfold MX1_restN
  rw [M_in]
  cases inB p0 0 9 <;> exact ⟨_, _, rfl, rfl, by decide⟩
theorem op_nightsN (p1 : Int32) (p2 : Int32) : ∃ a tr, MX1_nightsN p1 p2 = some (a, tr, -1) ∧ MX7_nightsN = some (a, 0, tr, -1) ∧ ¬ tr = 4 := by
  unfold MX1_nightsN MX1_nightsWhyF
  rw [M_in, M_in]
  cases inB p1 0 65536
  · exact ⟨_, _, rfl, rfl, by decide⟩
  · cases inB p2 0 60
    · exact ⟨_, _, rfl, rfl, by decide⟩
    · exact ⟨_, _, rfl, rfl, by decide⟩
theorem op_livesN (p0 : Int32) (p1 : Int32) : ∃ a tr, MX1_livesN p0 p1 = some (a, tr, -1) ∧ MX7_livesN = some (a, 0, tr, -1) ∧ ¬ tr = 4 := by
  unfold MX1_livesN MX1_nightsWhyF
  rw [M_in, M_in]
  cases inB p0 0 65536
  · exact ⟨_, _, rfl, rfl, by decide⟩
  · cases inB p1 0 60
    · exact ⟨_, _, rfl, rfl, by decide⟩
    · exact ⟨_, _, rfl, rfl, by decide⟩
theorem op_firstCatN (p0 : Int32) (p1 : Int32) : ∃ a tr, MX1_firstCatN p0 p1 = some (a, tr, -1) ∧ MX7_firstCatN = some (a, 0, tr, -1) ∧ ¬ tr = 4 := by
  unfold MX1_firstCatN MX1_nightsWhyF
  rw [M_in, M_in]
  cases inB p0 0 65536
  · exact ⟨_, _, rfl, rfl, by decide⟩
  · cases inB p1 0 60
    · exact ⟨_, _, rfl, rfl, by decide⟩
    · exact ⟨_, _, rfl, rfl, by decide⟩
theorem op_askN : ∃ a tr, MX1_askN = some (a, tr, -1) ∧ MX7_askN = some (a, 0, tr, -1) ∧ ¬ tr = 4 := ⟨_, _, rfl, rfl, by decide⟩
theorem op_dieN : ∃ a tr, MX1_dieN = some (a, tr, -1) ∧ MX7_dieN = some (a, 0, tr, -1) ∧ ¬ tr = 4 := ⟨_, _, rfl, rfl, by decide⟩
theorem op_nightN : ∃ a tr, MX1_nightN = some (a, tr, -1) ∧ MX7_nightN = some (a, 0, tr, -1) ∧ ¬ tr = 4 := ⟨_, _, rfl, rfl, by decide⟩
theorem op_imageN : ∃ a tr, MX1_imageN = some (a, tr, -1) ∧ MX7_imageN = some (a, 0, tr, -1) ∧ ¬ tr = 4 := ⟨_, _, rfl, rfl, by decide⟩
theorem op_seedN (p0 : Int32) : ∃ a tr, MX1_seedN p0 = some (a, tr, -1) ∧ MX7_seedN = some (a, 0, tr, -1) ∧ ¬ tr = 4 := by
  unfold MX1_seedN
  rw [M_in]
  cases inB p0 0 65536 <;> exact ⟨_, _, rfl, rfl, by decide⟩
theorem op_undoN : MX1_undoN 0 = some (false, 6, -1) ∧ MX7_undoN = some (false, 0, 6, -1) := ⟨rfl, rfl⟩
theorem op_backN (p : Int32) : MX1_backN p 0 = some (false, 1, -1) ∧ MX7_backN = some (false, 0, 1, -1) := by
  refine ⟨?_, rfl⟩
  have hin : inB p 0 (0 - 1) = false := by
    unfold inB
    by_cases c : 0 ≤ p
    · have : ¬ p ≤ 0 - 1 := fun z => absurd (Int32.le_trans c z) (by decide)
      rw [decide_eq_false this, Bool.and_false]
    · rw [decide_eq_false c, Bool.false_and]
  unfold MX1_backN
  rw [M_in, hin]; rfl
theorem op_sizeN (p t : Int32) : ∃ a, MX1_sizeN p t = some a ∧ MX7_sizeN p t = some (a, 0) := by
  unfold MX1_sizeN MX7_sizeN
  rw [M_in, M_in7]
  by_cases c : p = 12
  · rw [if_pos c, if_pos c]; exact ⟨_, rfl, rfl⟩
  · rw [if_neg c, if_neg c]
    cases inB p 0 11 <;> exact ⟨_, rfl, rfl⟩

