set_option maxRecDepth 100000
theorem knw {b : Bool} {r : Int32} (h : MX1_numberWhy false b = some r) : r = 1 := by
  have h : some (1 : Int32) = some r := h
  exact (Option.some.inj h).symm
def MX1_isPersonN  : Option Bool :=
  some false
def MX1_personN  : Option (Int32 × Int32 × Int32) :=
  (MX1_anew).bind fun r1 =>
  (MX1_isPersonN).bind fun r3 =>
  (MX1_no (1 : Int32)).bind fun r6 =>
  some (r6.1, r6.2, r1.2)
def MX7_isPersonN  : Option Bool :=
  some false
def MX7_personN  : Option (Int32 × Int32 × Int32 × Int32) :=
  (MX7_isPersonN).bind fun r1 =>
  (MX7_refused (1 : Int32)).bind fun r4 =>
  some (r4.1, (0 : Int32), r4.2.1, r4.2.2)
def MX1_areTwoN  : Option Bool :=
  (MX1_isPersonN).bind fun r1 =>
  some false
def MX1_registerN  : Option (Int32 × Int32 × Int32) :=
  (MX1_anew).bind fun r1 =>
  (MX1_areTwoN).bind fun r3 =>
  (MX1_no (1 : Int32)).bind fun r6 =>
  some (r6.1, r6.2, r1.2)
def MX7_areTwoN  : Option Bool :=
  (MX7_isPersonN).bind fun r1 =>
  some false
def MX7_registerN  : Option (Int32 × Int32 × Int32 × Int32) :=
  (MX7_areTwoN).bind fun r1 =>
  (MX7_refused (1 : Int32)).bind fun r4 =>
  some (r4.1, (0 : Int32), r4.2.1, r4.2.2)
def MX1_livesWhyN  : Option Int32 :=
  (MX1_isPersonN).bind fun r1 =>
  some (1 : Int32)
def MX1_heirN  : Option (Int32 × Int32 × Int32) :=
  (MX1_anew).bind fun r1 =>
  (MX1_livesWhyN).bind fun r3 =>
  (MX1_no (1 : Int32)).bind fun r6 =>
  some (r6.1, r6.2, r1.2)
def MX7_refusesLivingN  : Option Int32 :=
  (MX7_isPersonN).bind fun r1 =>
  some (1 : Int32)
def MX7_heirN  : Option (Int32 × Int32 × Int32 × Int32) :=
  (MX7_refusesLivingN).bind fun r1 =>
  (MX7_refused (1 : Int32)).bind fun r4 =>
  some (r4.1, (0 : Int32), r4.2.1, r4.2.2)
def MX1_heirToN  : Option (Int32 × Int32 × Int32) :=
  (MX1_anew).bind fun r1 =>
  (MX1_isPersonN).bind fun r3 =>
  (MX1_no (1 : Int32)).bind fun r6 =>
  some (r6.1, r6.2, r1.2)
def MX7_heirToN  : Option (Int32 × Int32 × Int32 × Int32) :=
  (MX7_isPersonN).bind fun r1 =>
  (MX7_refused (1 : Int32)).bind fun r4 =>
  some (r4.1, (0 : Int32), r4.2.1, r4.2.2)
def MX1_hopesN  : Option (Int32 × Int32 × Int32) :=
  (MX1_anew).bind fun r1 =>
  (MX1_livesWhyN).bind fun r3 =>
  (MX1_no (1 : Int32)).bind fun r6 =>
  some (r6.1, r6.2, r1.2)
def MX7_hopesN  : Option (Int32 × Int32 × Int32 × Int32) :=
  (MX7_refusesLivingN).bind fun r1 =>
  (MX7_refused (1 : Int32)).bind fun r4 =>
  some (r4.1, (0 : Int32), r4.2.1, r4.2.2)
def MX1_catN  : Option (Int32 × Int32 × Int32) :=
  (MX1_anew).bind fun r1 =>
  (MX1_no (1 : Int32)).bind fun r3 =>
  some (r3.1, r3.2, r1.2)
def MX7_catN  : Option (Int32 × Int32 × Int32 × Int32) :=
  (MX7_refused (1 : Int32)).bind fun r1 =>
  some (r1.1, (0 : Int32), r1.2.1, r1.2.2)
def MX1_richestN  : Option (Int32 × Int32 × Int32) :=
  (MX1_anew).bind fun r1 =>
  (MX1_no (1 : Int32)).bind fun r3 =>
  some (r3.1, r3.2, r1.2)
def MX7_richestN  : Option (Int32 × Int32 × Int32 × Int32) :=
  (MX7_refused (1 : Int32)).bind fun r1 =>
  some (r1.1, (0 : Int32), r1.2.1, r1.2.2)
def MX1_goesToN  : Option (Int32 × Int32 × Int32) :=
  (MX1_anew).bind fun r1 =>
  (MX1_isPersonN).bind fun r3 =>
  (MX1_isPersonN).bind fun r5 =>
  (MX1_numberWhy false false).bind fun r8 =>
  (MX1_no (1 : Int32)).bind fun r11 =>
  some (r11.1, r11.2, r1.2)
def MX7_goesToN  : Option (Int32 × Int32 × Int32 × Int32) :=
  (MX7_isPersonN).bind fun r1 =>
  (MX7_refused (1 : Int32)).bind fun r4 =>
  some (r4.1, (0 : Int32), r4.2.1, r4.2.2)
def MX1_hasThenN  : Option (Int32 × Int32 × Int32) :=
  (MX1_anew).bind fun r1 =>
  (MX1_livesWhyN).bind fun r3 =>
  (MX1_no (1 : Int32)).bind fun r7 =>
  some (r7.1, r7.2, r1.2)
def MX7_hasThenN  : Option (Int32 × Int32 × Int32 × Int32) :=
  (MX7_refusesLivingN).bind fun r1 =>
  (MX7_refused (1 : Int32)).bind fun r4 =>
  some (r4.1, (0 : Int32), r4.2.1, r4.2.2)
def MX1_catThenN  : Option (Int32 × Int32 × Int32) :=
  (MX1_anew).bind fun r1 =>
  (MX1_numberWhy false false).bind fun r3 =>
  (MX1_no (1 : Int32)).bind fun r6 =>
  some (r6.1, r6.2, r1.2)
def MX7_catThenN  : Option (Int32 × Int32 × Int32 × Int32) :=
  (MX7_refused (1 : Int32)).bind fun r1 =>
  some (r1.1, (0 : Int32), r1.2.1, r1.2.2)
def MX1_roundsN  : Option (Int32 × Int32 × Int32) :=
  (MX1_anew).bind fun r1 =>
  (MX1_no (1 : Int32)).bind fun r3 =>
  some (r3.1, r3.2, r1.2)
def MX7_roundsN  : Option (Int32 × Int32 × Int32 × Int32) :=
  (MX7_refused (1 : Int32)).bind fun r1 =>
  some (r1.1, (0 : Int32), r1.2.1, r1.2.2)
def MX1_worthiestN  : Option (Int32 × Int32 × Int32) :=
  (MX1_anew).bind fun r1 =>
  (MX1_no (1 : Int32)).bind fun r3 =>
  some (r3.1, r3.2, r1.2)
def MX7_worthiestN  : Option (Int32 × Int32 × Int32 × Int32) :=
  (MX7_refused (1 : Int32)).bind fun r1 =>
  some (r1.1, (0 : Int32), r1.2.1, r1.2.2)
def MX1_plotN  : Option (Int32 × Int32 × Int32) :=
  (MX1_anew).bind fun r1 =>
  (MX1_areTwoN).bind fun r3 =>
  (MX1_no (1 : Int32)).bind fun r6 =>
  some (r6.1, r6.2, r1.2)
def MX7_plotN  : Option (Int32 × Int32 × Int32 × Int32) :=
  (MX7_areTwoN).bind fun r1 =>
  (MX7_refused (1 : Int32)).bind fun r4 =>
  some (r4.1, (0 : Int32), r4.2.1, r4.2.2)
def MX1_meanN  : Option (Int64 × Int32 × Int32) :=
  (MX1_anew).bind fun r1 =>
  (MX1_isPersonN).bind fun r3 =>
  (MX1_no (1 : Int32)).bind fun r6 =>
  some ((Int32.toInt64 r6.1), r6.2, r1.2)
def MX7_meanN  : Option (Int64 × Int32 × Int32 × Int32) :=
  (MX7_isPersonN).bind fun r1 =>
  (MX7_refused (1 : Int32)).bind fun r4 =>
  some ((Int32.toInt64 r4.1), (0 : Int32), r4.2.1, r4.2.2)
def MX1_oddsN (p1 : Int32) : Option (Int64 × Int32 × Int32) :=
  (MX1_anew).bind fun r1 =>
  (MX1_isPersonN).bind fun r3 =>
  (MX1_in p1 (0 : Int32) (594 : Int32)).bind fun r5 =>
  (MX1_numberWhy false r5).bind fun r7 =>
  (MX1_no (1 : Int32)).bind fun r10 =>
  some ((Int32.toInt64 r10.1), r10.2, r1.2)
def MX7_oddsN  : Option (Int64 × Int32 × Int32 × Int32) :=
  (MX7_isPersonN).bind fun r1 =>
  (MX7_refused (1 : Int32)).bind fun r4 =>
  some ((Int32.toInt64 r4.1), (0 : Int32), r4.2.1, r4.2.2)
def MX1_passesN  : Option (Int64 × Int32 × Int32) :=
  (MX1_anew).bind fun r1 =>
  (MX1_areTwoN).bind fun r3 =>
  (MX1_no (1 : Int32)).bind fun r6 =>
  some ((Int32.toInt64 r6.1), r6.2, r1.2)
def MX7_passesN  : Option (Int64 × Int32 × Int32 × Int32) :=
  (MX7_areTwoN).bind fun r1 =>
  (MX7_refused (1 : Int32)).bind fun r4 =>
  some ((Int32.toInt64 r4.1), (0 : Int32), r4.2.1, r4.2.2)
def MX1_catMeanN  : Option (Int64 × Int32 × Int32) :=
  (MX1_anew).bind fun r1 =>
  (MX1_no (1 : Int32)).bind fun r3 =>
  some ((Int32.toInt64 r3.1), r3.2, r1.2)
def MX7_catMeanN  : Option (Int64 × Int32 × Int32 × Int32) :=
  (MX7_refused (1 : Int32)).bind fun r1 =>
  some ((Int32.toInt64 r1.1), (0 : Int32), r1.2.1, r1.2.2)
def MX1_planWhyN  : Option Int32 :=
  (MX1_isPersonN).bind fun r1 =>
  some (1 : Int32)
def MX1_bestN (p1 : Int32) : Option (Int32 × Int32 × Int32) :=
  (MX1_anew).bind fun r1 =>
  (MX1_in p1 (1 : Int32) (3 : Int32)).bind fun r3 =>
  (MX1_planWhyN).bind fun r5 =>
  (MX1_no (1 : Int32)).bind fun r8 =>
  some (r8.1, r8.2, r1.2)
def MX7_refusesNumberN  : Option Int32 :=
  (MX7_isPersonN).bind fun r1 =>
  some (1 : Int32)
def MX7_bestN  : Option (Int32 × Int32 × Int32 × Int32) :=
  (MX7_refusesNumberN).bind fun r1 =>
  (MX7_refused (1 : Int32)).bind fun r4 =>
  some (r4.1, (0 : Int32), r4.2.1, r4.2.2)
def MX1_bestMeanN (p1 : Int32) : Option (Int64 × Int32 × Int32) :=
  (MX1_anew).bind fun r1 =>
  (MX1_in p1 (1 : Int32) (3 : Int32)).bind fun r3 =>
  (MX1_planWhyN).bind fun r5 =>
  (MX1_no (1 : Int32)).bind fun r8 =>
  some ((Int32.toInt64 r8.1), r8.2, r1.2)
def MX7_bestMeanN  : Option (Int64 × Int32 × Int32 × Int32) :=
  (MX7_refusesNumberN).bind fun r1 =>
  (MX7_refused (1 : Int32)).bind fun r4 =>
  some ((Int32.toInt64 r4.1), (0 : Int32), r4.2.1, r4.2.2)
def MX1_tourN (p1 : Int32) : Option (Int32 × Int32 × Int32) :=
  (MX1_anew).bind fun r1 =>
  (MX1_in p1 (0 : Int32) (12 : Int32)).bind fun r3 =>
  (MX1_planWhyN).bind fun r5 =>
  (MX1_no (1 : Int32)).bind fun r8 =>
  some (r8.1, r8.2, r1.2)
def MX7_tourN  : Option (Int32 × Int32 × Int32 × Int32) :=
  (MX7_refusesNumberN).bind fun r1 =>
  (MX7_refused (1 : Int32)).bind fun r4 =>
  some (r4.1, (0 : Int32), r4.2.1, r4.2.2)
def MX1_tourHoursN (p1 : Int32) : Option (Int32 × Int32 × Int32) :=
  (MX1_anew).bind fun r1 =>
  (MX1_in p1 (0 : Int32) (12 : Int32)).bind fun r3 =>
  (MX1_planWhyN).bind fun r5 =>
  (MX1_no (1 : Int32)).bind fun r8 =>
  some (r8.1, r8.2, r1.2)
def MX7_tourHoursN  : Option (Int32 × Int32 × Int32 × Int32) :=
  (MX7_refusesNumberN).bind fun r1 =>
  (MX7_refused (1 : Int32)).bind fun r4 =>
  some (r4.1, (0 : Int32), r4.2.1, r4.2.2)
def MX1_apartN  : Option (Int32 × Int32 × Int32) :=
  (MX1_anew).bind fun r1 =>
  (MX1_isPersonN).bind fun r3 =>
  (MX1_no (1 : Int32)).bind fun r6 =>
  some (r6.1, r6.2, r1.2)
def MX7_apartN  : Option (Int32 × Int32 × Int32 × Int32) :=
  (MX7_isPersonN).bind fun r1 =>
  (MX7_refused (1 : Int32)).bind fun r4 =>
  some (r4.1, (0 : Int32), r4.2.1, r4.2.2)
def MX1_toAskN  : Option (Int32 × Int32 × Int32) :=
  (MX1_anew).bind fun r1 =>
  (MX1_isPersonN).bind fun r3 =>
  (MX1_no (1 : Int32)).bind fun r6 =>
  some (r6.1, r6.2, r1.2)
def MX7_toAskN  : Option (Int32 × Int32 × Int32 × Int32) :=
  (MX7_isPersonN).bind fun r1 =>
  (MX7_refused (1 : Int32)).bind fun r4 =>
  some (r4.1, (0 : Int32), r4.2.1, r4.2.2)
def MX1_rivalsN  : Option (Int32 × Int32 × Int32) :=
  (MX1_anew).bind fun r1 =>
  (MX1_areTwoN).bind fun r3 =>
  (MX1_no (1 : Int32)).bind fun r6 =>
  some (r6.1, r6.2, r1.2)
def MX7_rivalsN  : Option (Int32 × Int32 × Int32 × Int32) :=
  (MX7_areTwoN).bind fun r1 =>
  (MX7_refused (1 : Int32)).bind fun r4 =>
  some (r4.1, (0 : Int32), r4.2.1, r4.2.2)
def MX1_fitsN  : Option (Int32 × Int32 × Int32) :=
  (MX1_anew).bind fun r1 =>
  (MX1_no (1 : Int32)).bind fun r3 =>
  some (r3.1, r3.2, r1.2)
def MX7_fitsN  : Option (Int32 × Int32 × Int32 × Int32) :=
  (MX7_refused (1 : Int32)).bind fun r1 =>
  some (r1.1, (0 : Int32), r1.2.1, r1.2.2)
def MX1_fitAtN  : Option (Int32 × Int32 × Int32) :=
  (MX1_anew).bind fun r1 =>
  (MX1_no (1 : Int32)).bind fun r3 =>
  some (r3.1, r3.2, r1.2)
def MX7_fitAtN  : Option (Int32 × Int32 × Int32 × Int32) :=
  (MX7_refused (1 : Int32)).bind fun r1 =>
  some (r1.1, (0 : Int32), r1.2.1, r1.2.2)
def MX1_heirByN  : Option (Int32 × Int32 × Int32) :=
  (MX1_anew).bind fun r1 =>
  (MX1_areTwoN).bind fun r3 =>
  (MX1_no (1 : Int32)).bind fun r6 =>
  some (r6.1, r6.2, r1.2)
def MX7_heirByN  : Option (Int32 × Int32 × Int32 × Int32) :=
  (MX7_areTwoN).bind fun r1 =>
  (MX7_refused (1 : Int32)).bind fun r4 =>
  some (r4.1, (0 : Int32), r4.2.1, r4.2.2)
def MX1_lookN  : Option (Int32 × Int32 × Int32) :=
  (MX1_anew).bind fun r1 =>
  (MX1_no (1 : Int32)).bind fun r3 =>
  some (r3.1, r3.2, r1.2)
def MX7_lookN  : Option (Int32 × Int32 × Int32 × Int32) :=
  (MX7_refused (1 : Int32)).bind fun r1 =>
  some (r1.1, (0 : Int32), r1.2.1, r1.2.2)
def MX1_lookLeavesN  : Option (Int32 × Int32 × Int32) :=
  (MX1_anew).bind fun r1 =>
  (MX1_no (1 : Int32)).bind fun r3 =>
  some (r3.1, r3.2, r1.2)
def MX7_lookLeavesN  : Option (Int32 × Int32 × Int32 × Int32) :=
  (MX7_refused (1 : Int32)).bind fun r1 =>
  some (r1.1, (0 : Int32), r1.2.1, r1.2.2)
def MX1_judgeN  : Option (Int32 × Int32 × Int32) :=
  (MX1_anew).bind fun r1 =>
  (MX1_no (1 : Int32)).bind fun r3 =>
  some (r3.1, r3.2, r1.2)
def MX7_judgeN  : Option (Int32 × Int32 × Int32 × Int32) :=
  (MX7_refused (1 : Int32)).bind fun r1 =>
  some (r1.1, (0 : Int32), r1.2.1, r1.2.2)
def MX1_begsN (p0 : Int32) : Option (Int32 × Int32 × Int32) :=
  (MX1_anew).bind fun r1 =>
  (MX1_in p0 (0 : Int32) (9 : Int32)).bind fun r3 =>
  (MX1_numberWhy false r3).bind fun r5 =>
  some ((-100 : Int32), (1 : Int32), r1.2)
def MX7_refusesShameN  : Option Int32 :=
  some (1 : Int32)
def MX7_begsN  : Option (Int32 × Int32 × Int32 × Int32) :=
  (MX7_refusesShameN).bind fun r1 =>
  (MX7_lost (1 : Int32)).bind fun r4 =>
  some (r4.1, (0 : Int32), r4.2.1, r4.2.2)
def MX1_restsN (p0 : Int32) : Option (Int32 × Int32 × Int32) :=
  (MX1_anew).bind fun r1 =>
  (MX1_in p0 (0 : Int32) (9 : Int32)).bind fun r3 =>
  (MX1_numberWhy false r3).bind fun r5 =>
  (MX1_no (1 : Int32)).bind fun r8 =>
  some (r8.1, r8.2, r1.2)
def MX7_restsN  : Option (Int32 × Int32 × Int32 × Int32) :=
  (MX7_refusesShameN).bind fun r1 =>
  (MX7_refused (1 : Int32)).bind fun r4 =>
  some (r4.1, (0 : Int32), r4.2.1, r4.2.2)
def MX1_restN (p0 : Int32) : Option (Int32 × Int32 × Int32) :=
  (MX1_anew).bind fun r1 =>
  (MX1_in p0 (0 : Int32) (9 : Int32)).bind fun r3 =>
  (MX1_numberWhy false r3).bind fun r5 =>
  (MX1_no (1 : Int32)).bind fun r8 =>
  some (r8.1, r8.2, r1.2)
def MX7_restN  : Option (Int32 × Int32 × Int32 × Int32) :=
  (MX7_refusesShameN).bind fun r1 =>
  (MX7_refused (1 : Int32)).bind fun r4 =>
  some (r4.1, (0 : Int32), r4.2.1, r4.2.2)
def MX1_nightsWhyF (p1 : Int32) (p2 : Int32) : Option Int32 :=
  (MX1_in p1 (0 : Int32) (65536 : Int32)).bind fun r1 =>
  if (b2i r1) = 0 then
    (MX1_numberWhy false false).bind fun r4 =>
    some (1 : Int32)
  else
    (MX1_in p2 (0 : Int32) (60 : Int32)).bind fun r7 =>
    if (b2i r7) = 0 then
      (MX1_numberWhy false false).bind fun r10 =>
      some (1 : Int32)
    else
      (MX1_numberWhy false true).bind fun r13 =>
      some (1 : Int32)
def MX1_nightsN (p1 : Int32) (p2 : Int32) : Option (Int32 × Int32 × Int32) :=
  (MX1_anew).bind fun r1 =>
  (MX1_isPersonN).bind fun r3 =>
  (MX1_nightsWhyF p1 p2).bind fun r5 =>
  (MX1_no (1 : Int32)).bind fun r8 =>
  some (r8.1, r8.2, r1.2)
def MX7_refusesSeedF  : Option Int32 :=
  some (1 : Int32)
def MX7_nightsN  : Option (Int32 × Int32 × Int32 × Int32) :=
  (MX7_isPersonN).bind fun r1 =>
  (MX7_refusesSeedF).bind fun r3 =>
  (MX7_refused (1 : Int32)).bind fun r6 =>
  some (r6.1, (0 : Int32), r6.2.1, r6.2.2)
def MX1_livesN (p0 : Int32) (p1 : Int32) : Option (Int32 × Int32 × Int32) :=
  (MX1_anew).bind fun r1 =>
  (MX1_nightsWhyF p0 p1).bind fun r3 =>
  (MX1_no (1 : Int32)).bind fun r6 =>
  some (r6.1, r6.2, r1.2)
def MX7_livesN  : Option (Int32 × Int32 × Int32 × Int32) :=
  (MX7_refusesSeedF).bind fun r1 =>
  (MX7_refused (1 : Int32)).bind fun r4 =>
  some (r4.1, (0 : Int32), r4.2.1, r4.2.2)
def MX1_firstCatN (p0 : Int32) (p1 : Int32) : Option (Int32 × Int32 × Int32) :=
  (MX1_anew).bind fun r1 =>
  (MX1_nightsWhyF p0 p1).bind fun r3 =>
  (MX1_no (1 : Int32)).bind fun r6 =>
  some (r6.1, r6.2, r1.2)
def MX7_firstCatN  : Option (Int32 × Int32 × Int32 × Int32) :=
  (MX7_refusesSeedF).bind fun r1 =>
  (MX7_refused (1 : Int32)).bind fun r4 =>
  some (r4.1, (0 : Int32), r4.2.1, r4.2.2)
def MX1_askN  : Option (Int32 × Int32 × Int32) :=
  (MX1_anew).bind fun r1 =>
  (MX1_areTwoN).bind fun r3 =>
  (MX1_no (1 : Int32)).bind fun r6 =>
  some (r6.1, r6.2, r1.2)
def MX7_askN  : Option (Int32 × Int32 × Int32 × Int32) :=
  (MX7_areTwoN).bind fun r1 =>
  (MX7_refused (1 : Int32)).bind fun r4 =>
  some (r4.1, (0 : Int32), r4.2.1, r4.2.2)
def MX1_dieN  : Option (Int32 × Int32 × Int32) :=
  (MX1_anew).bind fun r1 =>
  (MX1_livesWhyN).bind fun r3 =>
  (MX1_no (1 : Int32)).bind fun r6 =>
  some (r6.1, r6.2, r1.2)
def MX7_dieN  : Option (Int32 × Int32 × Int32 × Int32) :=
  (MX7_refusesLivingN).bind fun r1 =>
  (MX7_refused (1 : Int32)).bind fun r4 =>
  some (r4.1, (0 : Int32), r4.2.1, r4.2.2)
def MX1_nightN  : Option (Int32 × Int32 × Int32) :=
  (MX1_anew).bind fun r1 =>
  (MX1_no (1 : Int32)).bind fun r3 =>
  some (r3.1, r3.2, r1.2)
def MX7_nightN  : Option (Int32 × Int32 × Int32 × Int32) :=
  (MX7_refused (1 : Int32)).bind fun r1 =>
  some (r1.1, (0 : Int32), r1.2.1, r1.2.2)
def MX1_seedN (p0 : Int32) : Option (Bool × Int32 × Int32) :=
  (MX1_in p0 (0 : Int32) (65536 : Int32)).bind fun r1 =>
  (MX1_numberWhy false r1).bind fun r3 =>
  (MX1_yes (1 : Int32)).bind fun r5 =>
  some (false, r5.2.1, r5.2.2)
def MX7_seedN  : Option (Bool × Int32 × Int32 × Int32) :=
  (MX7_denied (1 : Int32)).bind fun r1 =>
  some (r1.1, (0 : Int32), r1.2.1, r1.2.2)
def MX1_undoN (o_undoMany : Int32) : Option (Bool × Int32 × Int32) :=
  if o_undoMany = 0 then
    (MX1_yes (6 : Int32)).bind fun r5 =>
    some (false, r5.2.1, r5.2.2)
  else
    (MX1_yes (0 : Int32)).bind fun r2 =>
    none
def MX7_undoN  : Option (Bool × Int32 × Int32 × Int32) :=
  (MX7_denied (6 : Int32)).bind fun r1 =>
  some (r1.1, (0 : Int32), r1.2.1, r1.2.2)
def MX1_imageN  : Option (Int32 × Int32 × Int32) :=
  (MX1_anew).bind fun r1 =>
  (MX1_no (1 : Int32)).bind fun r3 =>
  some (r3.1, r3.2, r1.2)
def MX7_imageN  : Option (Int32 × Int32 × Int32 × Int32) :=
  (MX7_refused (1 : Int32)).bind fun r1 =>
  some (r1.1, (0 : Int32), r1.2.1, r1.2.2)
def MX1_backN (p0 : Int32) (o_imageMany : Int32) : Option (Bool × Int32 × Int32) :=
  (MX1_in p0 (0 : Int32) (o_imageMany - (1 : Int32))).bind fun r1 =>
  if (b2i r1) = 0 then
    (MX1_yes (1 : Int32)).bind fun r4 =>
    some (false, r4.2.1, r4.2.2)
  else
    (MX1_yes (0 : Int32)).bind fun r7 =>
    none
def MX7_backN  : Option (Bool × Int32 × Int32 × Int32) :=
  (MX7_denied (1 : Int32)).bind fun r1 =>
  some (r1.1, (0 : Int32), r1.2.1, r1.2.2)
def BX7_ledN_20  : Option (Unit ⊕ Unit) :=
  some (.inr ())
def MX7_ledN  : Option (Int32 × Int32) :=
  (loopN FU (fun s_ => BX7_ledN_20 ) ()).bind fun r1 =>
  some ((0 : Int32), (1 : Int32))
def MX1_sizeN (p0 : Int32) (o_taped : Int32) : Option Int32 :=
  if p0 = (12 : Int32) then
    some o_taped
  else
    (MX1_in p0 (0 : Int32) (11 : Int32)).bind fun r2 =>
    if (b2i r2) = 0 then
      some (-1 : Int32)
    else
      some (0 : Int32)
def MX7_sizeN (p0 : Int32) (m_taped : Int32) : Option (Int32 × Int32) :=
  if p0 = (12 : Int32) then
    some (m_taped, (0 : Int32))
  else
    (MX7_in p0 (0 : Int32) (11 : Int32)).bind fun r2 =>
    if (b2i r2) = 0 then
      some ((-1 : Int32), (0 : Int32))
    else
      some ((0 : Int32), (0 : Int32))