set_option maxRecDepth 100000
def MX4_init  : Option Unit :=
  some ()
def MX5_init  : Option Unit :=
  (MX4_init).bind fun r2 =>
  some ()
def MX6_init  : Option Unit :=
  (MX4_init).bind fun r5 =>
  (MX4_init).bind fun r11 =>
  (MX4_init).bind fun r17 =>
  (MX4_init).bind fun r23 =>
  some ()
def MX7_init  : Option Int32 :=
  some (-1 : Int32)
def BX1_bytes_3 (p0 : Int32) (x2_3 : Int32) (o_taped_3 : Int32) (o_tape_3 : AI) : Option ((Int32 × Int32 × AI) ⊕ (AI × Int32)) :=
  if x2_3 < 0 then
    some (.inr (o_tape_3, o_taped_3))
  else
    gi o_taped_3 900 <|
    some (.inl ((x2_3 + (-8 : Int32)), (o_taped_3 + (1 : Int32)), (upd o_tape_3 (Int32.toNatClampNeg o_taped_3) (vp_nar .byte (Int8.toInt32 (Int32.toInt8 (p0 >>> (x2_3 &&& 31))))))))
def MX1_bytes (p0 : Int32) (o_taped : Int32) (o_tape_ : AI) : Option (Int32 × AI) :=
  (loopN FU (fun s_ => BX1_bytes_3 p0 s_.1 s_.2.1 s_.2.2) ((24 : Int32), o_taped, o_tape_)).bind fun r3 =>
  some (r3.2, r3.1)
def MX1_feed (p0 : Int32) (p1 : Int32) (p2 : Int32) (p3 : Int32) (p4 : Int32) (o_taped : Int32) (o_tape_ : AI) : Option (Int32 × Int32 × AI) :=
  if (o_taped + (20 : Int32)) ≤ (900 : Int32) then
    (MX1_bytes p0 o_taped o_tape_).bind fun r2 =>
    (MX1_bytes p1 r2.1 r2.2).bind fun r4 =>
    (MX1_bytes p2 r4.1 r4.2).bind fun r6 =>
    (MX1_bytes p3 r6.1 r6.2).bind fun r8 =>
    (MX1_bytes p4 r8.1 r8.2).bind fun r10 =>
    some (r10.1, r10.1, r10.2)
  else
    some ((-1 : Int32), o_taped, o_tape_)
def BX7_feed_23 (p0 : Int32) (p1 : Int32) (p2 : Int32) (p3 : Int32) (p4 : Int32) (x6_23 : Int32) (m_taped_23 : Int32) (m_tape_23 : AI) : Option ((Int32 × Int32 × AI) ⊕ (AI × Int32)) :=
  if (20 : Int32) ≤ x6_23 then
    some (.inr (m_tape_23, m_taped_23))
  else
    if (4 : Int32) ≤ x6_23 then
      if (8 : Int32) ≤ x6_23 then
        if (12 : Int32) ≤ x6_23 then
          if (16 : Int32) ≤ x6_23 then
            gi m_taped_23 900 <|
            lt_ (Int8.toInt32 (Int32.toInt8 (p4 >>> (((24 : Int32) - ((8 : Int32) * (x6_23 - x6_23 / (4 : Int32) * (4 : Int32)))) &&& 31)))) fun y8 =>
            some (.inl ((x6_23 + (1 : Int32)), (m_taped_23 + (1 : Int32)), (upd m_tape_23 (Int32.toNatClampNeg m_taped_23) (vp_nar .byte y8))))
          else
            gi m_taped_23 900 <|
            lt_ (Int8.toInt32 (Int32.toInt8 (p3 >>> (((24 : Int32) - ((8 : Int32) * (x6_23 - x6_23 / (4 : Int32) * (4 : Int32)))) &&& 31)))) fun y10 =>
            some (.inl ((x6_23 + (1 : Int32)), (m_taped_23 + (1 : Int32)), (upd m_tape_23 (Int32.toNatClampNeg m_taped_23) (vp_nar .byte y10))))
        else
          gi m_taped_23 900 <|
          lt_ (Int8.toInt32 (Int32.toInt8 (p2 >>> (((24 : Int32) - ((8 : Int32) * (x6_23 - x6_23 / (4 : Int32) * (4 : Int32)))) &&& 31)))) fun y12 =>
          some (.inl ((x6_23 + (1 : Int32)), (m_taped_23 + (1 : Int32)), (upd m_tape_23 (Int32.toNatClampNeg m_taped_23) (vp_nar .byte y12))))
      else
        gi m_taped_23 900 <|
        lt_ (Int8.toInt32 (Int32.toInt8 (p1 >>> (((24 : Int32) - ((8 : Int32) * (x6_23 - x6_23 / (4 : Int32) * (4 : Int32)))) &&& 31)))) fun y14 =>
        some (.inl ((x6_23 + (1 : Int32)), (m_taped_23 + (1 : Int32)), (upd m_tape_23 (Int32.toNatClampNeg m_taped_23) (vp_nar .byte y14))))
    else
      gi m_taped_23 900 <|
      lt_ (Int8.toInt32 (Int32.toInt8 (p0 >>> (((24 : Int32) - ((8 : Int32) * (x6_23 - x6_23 / (4 : Int32) * (4 : Int32)))) &&& 31)))) fun y16 =>
      some (.inl ((x6_23 + (1 : Int32)), (m_taped_23 + (1 : Int32)), (upd m_tape_23 (Int32.toNatClampNeg m_taped_23) (vp_nar .byte y16))))
def MX7_feed (p0 : Int32) (p1 : Int32) (p2 : Int32) (p3 : Int32) (p4 : Int32) (m_taped : Int32) (m_tape_ : AI) : Option (Int32 × Int32 × Int32 × AI) :=
  if (m_taped + (20 : Int32)) ≤ (900 : Int32) then
    (loopN FU (fun s_ => BX7_feed_23 p0 p1 p2 p3 p4 s_.1 s_.2.1 s_.2.2) ((0 : Int32), m_taped, m_tape_)).bind fun r17 =>
    some (r17.2, (0 : Int32), r17.2, r17.1)
  else
    some ((-1 : Int32), (0 : Int32), m_taped, m_tape_)
def MX1_anew  : Option (Int32 × Int32) :=
  some ((0 : Int32), (-1 : Int32))
def MX1_in (p0 : Int32) (p1 : Int32) (p2 : Int32) : Option Bool :=
  if p0 < p1 then
    some false
  else
    if p2 < p0 then
      some false
    else
      some true
def MX1_no (p0 : Int32) : Option (Int32 × Int32) :=
  some ((-1 : Int32), p0)
def MX8_init  : Option Int32 :=
  some (-1 : Int32)
def MX2_see (p0 : Int32) (z_size : Int32) (z_text_ : AI) : Option Int32 :=
  if z_size ≤ p0 then
    some (-1 : Int32)
  else
    gi p0 900 <|
    some ((z_text_ (Int32.toNatClampNeg p0)) &&& (255 : Int32))
def MX2_isSmall (p0 : Int32) : Option Bool :=
  (MX1_in p0 (97 : Int32) (122 : Int32)).bind fun r1 =>
  some r1
def MX2_isDigit (p0 : Int32) : Option Bool :=
  (MX1_in p0 (48 : Int32) (57 : Int32)).bind fun r1 =>
  some r1
def MX3_at (p0 : Int32) (p1 : Int32) : Option (Int32 × Int32) :=
  some (p0, p1)
def MX2_fail (p0 : Int32) (z_at : Int32) : Option (Int32 × Int32) :=
  (MX3_at p0 z_at).bind fun r1 =>
  some (r1.1, r1.2)
def MX1_has (p0 : Int32) (p1 : Int32) : Option Bool :=
  if ((p0 >>> (p1 &&& 31)) &&& (1 : Int32)) = (1 : Int32) then
    some true
  else
    some false
def MX9_mayAsk  : Option Bool :=
  some true
def MX9_mayBeAskedBy  : Option Bool :=
  some true
def MX8_all (c_peopleMany : Int32) : Option Int32 :=
  some (((1 : Int32) <<< (c_peopleMany &&& 31)) - (1 : Int32))
def BX4_begin_53 (c_peopleMany : Int32) (np : Nat) (pw : AI) (t_living_53 : Int32) (t_hours_53 : AI) (x2_53 : Int32) (t_has_53 : AI) : Option ((Int32 × AI) ⊕ AI) :=
  if c_peopleMany ≤ x2_53 then
    some (.inr t_has_53)
  else
    gi x2_53 6 <|
    gn (Int32.toNatClampNeg x2_53) np <|
    gi x2_53 6 <|
    some (.inl ((x2_53 + (1 : Int32)), (upd t_has_53 (Int32.toNatClampNeg x2_53) (pw (Int32.toNatClampNeg x2_53)))))
def MX4_begin (c_hour : Int32) (c_peopleMany : Int32) (t_hours_ : AI) (c_hours_ : AI) (t_has_ : AI) (np : Nat) (pw : AI) : Option (Int32 × Int32 × Int32 × Int32 × Int32 × AI × AI) :=
  (MX8_all c_peopleMany).bind fun r1 =>
  (loopN FU (fun s_ => BX4_begin_53 c_peopleMany np pw r1 (va_cpy c_hours_ t_hours_ 0 0 36) s_.1 s_.2) ((0 : Int32), t_has_)).bind fun r7 =>
  some (r1, c_hour, (0 : Int32), (0 : Int32), (0 : Int32), (va_cpy c_hours_ t_hours_ 0 0 36), r7)
def MX7_refused (p0 : Int32) : Option (Int32 × Int32 × Int32) :=
  some ((-1 : Int32), p0, (-1 : Int32))
def BX14_init_88 (q1_88 : AI) (q2_88 : AI) (q3_88 : AI) (q4_88 : AI) (q5_88 : AI) (q7_88 : AI) (q8_88 : AI) (q9_88 : AI) (q10_88 : AL) (x1_88 : Int32) (q6_88 : AI) : Option ((Int32 × AI) ⊕ AI) :=
  if (36 : Int32) ≤ x1_88 then
    some (.inr q6_88)
  else
    gi x1_88 36 <|
    some (.inl ((x1_88 + (1 : Int32)), (upd q6_88 (Int32.toNatClampNeg x1_88) (-1 : Int32))))
def BX14_init_109 (q1_109 : AI) (q2_109 : AI) (q3_109 : AI) (q4_109 : AI) (q6_109 : AI) (q7_109 : AI) (q8_109 : AI) (q9_109 : AI) (q10_109 : AL) (x1_109 : Int32) (q5_109 : AI) : Option ((Int32 × AI) ⊕ AI) :=
  if (6 : Int32) ≤ x1_109 then
    some (.inr q5_109)
  else
    gi x1_109 6 <|
    some (.inl ((x1_109 + (1 : Int32)), (upd q5_109 (Int32.toNatClampNeg x1_109) (-1 : Int32))))
def MX14_init  : Option (Int32 × AI × AI) :=
  (loopN FU (fun s_ => BX14_init_88 (fun _ => 0) (fun _ => 0) (fun _ => 0) (fun _ => 0) (fun _ => 0) (fun _ => 0) (fun _ => 0) (fun _ => 0) (fun _ => 0) s_.1 s_.2) ((0 : Int32), (fun _ => 0))).bind fun r13 =>
  (loopN FU (fun s_ => BX14_init_109 (fun _ => 0) (fun _ => 0) (fun _ => 0) (fun _ => 0) r13 (fun _ => 0) (fun _ => 0) (fun _ => 0) (fun _ => 0) s_.1 s_.2) ((0 : Int32), (fun _ => 0))).bind fun r16 =>
  some ((-1 : Int32), r16, r13)
def MX7_byteAt (p0 : Int32) (m_size : Int32) (m_tape_ : AI) : Option Int32 :=
  if m_size ≤ p0 then
    some (-1 : Int32)
  else
    gi p0 900 <|
    some ((m_tape_ (Int32.toNatClampNeg p0)) &&& (255 : Int32))
def MX7_isLetter (p0 : Int32) : Option Bool :=
  if p0 < (97 : Int32) then
    some false
  else
    if (122 : Int32) < p0 then
      some false
    else
      some true
def MX7_isDigit (p0 : Int32) : Option Bool :=
  if p0 < (48 : Int32) then
    some false
  else
    if (57 : Int32) < p0 then
      some false
    else
      some true
def BX7_goesOn_9 (m_size : Int32) (m_tape_ : AI) (m_spot_9 : Int32) : Option (Int32 ⊕ Int32) :=
  (MX7_byteAt m_spot_9 m_size m_tape_).bind fun r2 =>
  if r2 = (32 : Int32) then
    some (.inl (m_spot_9 + (1 : Int32)))
  else
    some (.inr m_spot_9)
def BX7_goesOn_173 (m_size : Int32) (m_tape_ : AI) (m_place_173 : Int32) (x2_173 : Int32) (m_spot_173 : Int32) (m_number_173 : Int32) : Option ((Int32 × Int32 × Int32) ⊕ (Int32 × Int32 × Int32)) :=
  (MX7_byteAt m_spot_173 m_size m_tape_).bind fun r16 =>
  (MX7_isDigit r16).bind fun r18 =>
  if (b2i r18) = 0 then
    some (.inr (x2_173, m_spot_173, m_number_173))
  else
    if (3 : Int32) ≤ x2_173 then
      some (.inl ((x2_173 + (1 : Int32)), (m_spot_173 + (1 : Int32)), m_number_173))
    else
      (MX7_byteAt m_spot_173 m_size m_tape_).bind fun r22 =>
      some (.inl ((x2_173 + (1 : Int32)), (m_spot_173 + (1 : Int32)), ((((10 : Int32) * m_number_173) + r22) - (48 : Int32))))
def BX7_goesOn_84 (m_size : Int32) (m_tape_ : AI) (m_place_84 : Int32) (x2_84 : Int32) (m_spot_84 : Int32) (m_word_84 : Int64) : Option ((Int32 × Int32 × Int64) ⊕ (Int32 × Int32 × Int64)) :=
  (MX7_byteAt m_spot_84 m_size m_tape_).bind fun r26 =>
  (MX7_isLetter r26).bind fun r28 =>
  if (b2i r28) = 0 then
    some (.inr (x2_84, m_spot_84, m_word_84))
  else
    if (8 : Int32) ≤ x2_84 then
      some (.inl ((x2_84 + (1 : Int32)), (m_spot_84 + (1 : Int32)), m_word_84))
    else
      (MX7_byteAt m_spot_84 m_size m_tape_).bind fun r32 =>
      lt_ (((32 : Int64) * m_word_84) + (Int32.toInt64 ((r32 - (97 : Int32)) + (1 : Int32)))) fun y34 =>
      some (.inl ((x2_84 + (1 : Int32)), (m_spot_84 + (1 : Int32)), y34))
def MX7_goesOn (m_size : Int32) (m_spot : Int32) (m_sort : Int32) (m_place : Int32) (m_number : Int32) (m_word : Int64) (m_tape_ : AI) : Option (Int32 × Int32 × Int32 × Int32 × Int64) :=
  if m_sort = (5 : Int32) then
    some (m_spot, m_sort, m_place, m_number, m_word)
  else
    (loopN FU (fun s_ => BX7_goesOn_9 m_size m_tape_ s_) m_spot).bind fun r5 =>
    (MX7_byteAt r5 m_size m_tape_).bind fun r6 =>
    if r6 = (-1 : Int32) then
      some (r5, (1 : Int32), r5, m_number, m_word)
    else
      (MX7_isLetter r6).bind fun r9 =>
      if (b2i r9) = 0 then
        (MX7_isDigit r6).bind fun r12 =>
        if (b2i r12) = 0 then
          if r6 = (59 : Int32) then
            some ((r5 + (1 : Int32)), (4 : Int32), r5, m_number, m_word)
          else
            some (r5, (0 : Int32), r5, m_number, m_word)
        else
          (loopN FU (fun s_ => BX7_goesOn_173 m_size m_tape_ r5 s_.1 s_.2.1 s_.2.2) ((0 : Int32), r5, (0 : Int32))).bind fun r24 =>
          if (3 : Int32) < r24.1 then
            some (r24.2.1, (0 : Int32), r5, r24.2.2, m_word)
          else
            some (r24.2.1, (3 : Int32), r5, r24.2.2, m_word)
      else
        (loopN FU (fun s_ => BX7_goesOn_84 m_size m_tape_ r5 s_.1 s_.2.1 s_.2.2) ((0 : Int32), r5, (0 : Int64))).bind fun r35 =>
        if (8 : Int32) < r35.1 then
          some (r35.2.1, (0 : Int32), r5, m_number, r35.2.2)
        else
          some (r35.2.1, (2 : Int32), r5, m_number, r35.2.2)
def MX7_flaw (p0 : Int32) (m_sort : Int32) (m_place : Int32) (m_fault : Int32) (m_wrongAt : Int32) : Option (Int32 × Int32 × Int32) :=
  if m_sort = (5 : Int32) then
    some (m_sort, m_fault, m_wrongAt)
  else
    some ((5 : Int32), p0, m_place)
def MX7_in (p0 : Int32) (p1 : Int32) (p2 : Int32) : Option Bool :=
  if p0 < p1 then
    some false
  else
    if p2 < p0 then
      some false
    else
      some true
def MX7_lineBegins (p0 : Int32) (p1 : Int32) (m_size : Int32) (m_spot : Int32) (m_sort : Int32) (m_place : Int32) (m_number : Int32) (m_fault : Int32) (m_wrongAt : Int32) (m_word : Int64) (c_hour : Int32) (m_tape_ : AI) : Option (Int32 × Int32 × Int32 × Int32 × Int32 × Int32 × Int64) :=
  if p0 = p1 then
    (MX7_flaw (5 : Int32) m_sort m_place m_fault m_wrongAt).bind fun r9 =>
    if c_hour = (-1 : Int32) then
      (MX7_flaw (6 : Int32) r9.1 m_place r9.2.1 r9.2.2).bind fun r14 =>
      (MX7_goesOn m_size m_spot r14.1 m_place m_number m_word m_tape_).bind fun r16 =>
      some (r16.1, r16.2.1, r16.2.2.1, r16.2.2.2.1, r14.2.1, r14.2.2, r16.2.2.2.2)
    else
      (MX7_goesOn m_size m_spot r9.1 m_place m_number m_word m_tape_).bind fun r12 =>
      some (r12.1, r12.2.1, r12.2.2.1, r12.2.2.2.1, r9.2.1, r9.2.2, r12.2.2.2.2)
  else
    if c_hour = (-1 : Int32) then
      (MX7_flaw (6 : Int32) m_sort m_place m_fault m_wrongAt).bind fun r5 =>
      (MX7_goesOn m_size m_spot r5.1 m_place m_number m_word m_tape_).bind fun r7 =>
      some (r7.1, r7.2.1, r7.2.2.1, r7.2.2.2.1, r5.2.1, r5.2.2, r7.2.2.2.2)
    else
      (MX7_goesOn m_size m_spot m_sort m_place m_number m_word m_tape_).bind fun r3 =>
      some (r3.1, r3.2.1, r3.2.2.1, r3.2.2.2.1, m_fault, m_wrongAt, r3.2.2.2.2)
def BX14_find_2 (p0 : Int64) (c_people : Int32) (c_name_ : AL) (x3_2 : Int32) : Option (Int32 ⊕ (Int32 ⊕ Unit)) :=
  if c_people ≤ x3_2 then
    some (.inr (.inr ()))
  else
    gi x3_2 6 <|
    if (lg_cmp (c_name_ (Int32.toNatClampNeg x3_2)) p0) = 0 then
      some (.inr (.inl x3_2))
    else
      some (.inl (x3_2 + (1 : Int32)))
def MX14_find (p0 : Int64) (c_people : Int32) (c_name_ : AL) : Option Int32 :=
  (loopN FU (fun s_ => BX14_find_2 p0 c_people c_name_ s_) (0 : Int32)).bind fun r4 => match r4 with
  | .inl z5 =>
    some z5
  | .inr z6 =>
    some (-1 : Int32)
def MX7_bit (p0 : Int32) (p1 : Int32) : Option Bool :=
  if ((p0 >>> (p1 &&& 31)) &&& (1 : Int32)) = (1 : Int32) then
    some true
  else
    some false
def MX14_mayAsk (p0 : Int32) (p1 : Int32) (c_kind_ : AI) (c_near_ : AI) : Option Bool :=
  gi p0 6 <|
  if (c_kind_ (Int32.toNatClampNeg p0)) = (3 : Int32) then
    some false
  else
    gi p1 6 <|
    if (c_kind_ (Int32.toNatClampNeg p1)) = (1 : Int32) then
      some false
    else
      gi p1 6 <|
      if (c_kind_ (Int32.toNatClampNeg p1)) = (2 : Int32) then
        gi p1 6 <|
        (MX7_bit (c_near_ (Int32.toNatClampNeg p1)) p0).bind fun r8 =>
        if (b2i r8) = 0 then
          some false
        else
          some true
      else
        some true
def MX7_eatsSemicolon (m_size : Int32) (m_spot : Int32) (m_sort : Int32) (m_place : Int32) (m_number : Int32) (m_word : Int64) (m_tape_ : AI) : Option (Bool × Int32 × Int32 × Int32 × Int32 × Int64) :=
  if m_sort = (4 : Int32) then
    (MX7_goesOn m_size m_spot m_sort m_place m_number m_word m_tape_).bind fun r4 =>
    some (true, r4.1, r4.2.1, r4.2.2.1, r4.2.2.2.1, r4.2.2.2.2)
  else
    some (false, m_spot, m_sort, m_place, m_number, m_word)
def BX7_asTold_2 (x1_2 : Int32) (m_x_2 : AI) : Option ((Int32 × AI) ⊕ AI) :=
  if (47 : Int32) ≤ x1_2 then
    some (.inr m_x_2)
  else
    gi x1_2 47 <|
    some (.inl ((x1_2 + (1 : Int32)), (upd m_x_2 (Int32.toNatClampNeg x1_2) (0 : Int32))))
def BX7_asTold_23 (c_has_ : AI) (x1_23 : Int32) (m_x_23 : AI) : Option ((Int32 × AI) ⊕ AI) :=
  if (6 : Int32) ≤ x1_23 then
    some (.inr m_x_23)
  else
    gi x1_23 6 <|
    gi x1_23 47 <|
    some (.inl ((x1_23 + (1 : Int32)), (upd m_x_23 (Int32.toNatClampNeg x1_23) (c_has_ (Int32.toNatClampNeg x1_23)))))
def BX7_asTold_52 (c_asked_ : AI) (x1_52 : Int32) (m_x_52 : AI) : Option ((Int32 × AI) ⊕ AI) :=
  if (36 : Int32) ≤ x1_52 then
    some (.inr m_x_52)
  else
    gi x1_52 36 <|
    gi ((6 : Int32) + x1_52) 47 <|
    some (.inl ((x1_52 + (1 : Int32)), (upd m_x_52 (Int32.toNatClampNeg ((6 : Int32) + x1_52)) (c_asked_ (Int32.toNatClampNeg x1_52)))))
def MX7_asTold (m_x_ : AI) (c_hour : Int32) (c_people : Int32) (c_has_ : AI) (c_asked_ : AI) : Option AI :=
  (loopN FU (fun s_ => BX7_asTold_2 s_.1 s_.2) ((0 : Int32), m_x_)).bind fun r3 =>
  (loopN FU (fun s_ => BX7_asTold_23 c_has_ s_.1 s_.2) ((0 : Int32), r3)).bind fun r7 =>
  (loopN FU (fun s_ => BX7_asTold_52 c_asked_ s_.1 s_.2) ((0 : Int32), r7)).bind fun r11 =>
  some (upd (upd r11 42 (((1 : Int32) <<< (c_people &&& 31)) - (1 : Int32))) 44 c_hour)
def MX7_good (p0 : Int32) : Option (Int32 × Int32 × Int32) :=
  some (p0, (0 : Int32), (-1 : Int32))
def MX1_fault (o_fault : Int32) : Option Int32 :=
  some o_fault
def MX7_fault (m_fault : Int32) : Option (Int32 × Int32) :=
  some (m_fault, (0 : Int32))
def MX1_where (o_trouble : Int32) (o_where : Int32) : Option Int32 :=
  if o_trouble = (4 : Int32) then
    some o_where
  else
    some (-1 : Int32)
def MX7_where (m_where : Int32) : Option (Int32 × Int32) :=
  some (m_where, (0 : Int32))
def MX1_isPerson (p0 : Int32) (c_peopleMany : Int32) : Option Bool :=
  (MX1_in p0 (0 : Int32) (c_peopleMany - (1 : Int32))).bind fun r1 =>
  if (b2i r1) = 0 then
    some false
  else
    some true
def MX4_isLiving (p0 : Int32) (t_living : Int32) : Option Bool :=
  (MX1_has t_living p0).bind fun r1 =>
  some r1
def MX4_canAsk (p0 : Int32) (p1 : Int32) (t_living : Int32) (np : Nat) (pk : Nat → Nat) (pr : AI) : Option Bool :=
  if p0 = p1 then
    some false
  else
    (MX4_isLiving p0 t_living).bind fun r2 =>
    if (b2i r2) = 0 then
      some false
    else
      (MX4_isLiving p1 t_living).bind fun r5 =>
      if (b2i r5) = 0 then
        some false
      else
        gi p0 6 <|
        gn (Int32.toNatClampNeg p0) np <|
        if (b2i (mayAskK (pk (Int32.toNatClampNeg p0)))) = 0 then
          some false
        else
          gi p1 6 <|
          gn (Int32.toNatClampNeg p1) np <|
          if (b2i (mayBeK (pk (Int32.toNatClampNeg p1)) (pr (Int32.toNatClampNeg p1)) p0)) = 0 then
            some false
          else
            some true
def BX1_askable_4 (p0 : Int32) (c_peopleMany : Int32) (o_town_living : Int32) (np : Nat) (pk : Nat → Nat) (pr : AI) (x2_4 : Int32) (x3_4 : Int32) : Option ((Int32 × Int32) ⊕ Int32) :=
  if c_peopleMany ≤ x3_4 then
    some (.inr x2_4)
  else
    (MX4_canAsk p0 x3_4 o_town_living np pk pr).bind fun r2 =>
    if (b2i r2) = 0 then
      some (.inl ((x2_4 ||| (0 : Int32)), (x3_4 + (1 : Int32))))
    else
      some (.inl ((x2_4 ||| ((1 : Int32) <<< (x3_4 &&& 31))), (x3_4 + (1 : Int32))))
def MX1_askable (p0 : Int32) (c_peopleMany : Int32) (o_town_living : Int32) (np : Nat) (pk : Nat → Nat) (pr : AI) : Option Int32 :=
  (loopN FU (fun s_ => BX1_askable_4 p0 c_peopleMany o_town_living np pk pr s_.1 s_.2) ((0 : Int32), (0 : Int32))).bind fun r5 =>
  some r5
def BX1_askers_4 (p0 : Int32) (c_peopleMany : Int32) (o_town_living : Int32) (np : Nat) (pk : Nat → Nat) (pr : AI) (x2_4 : Int32) (x3_4 : Int32) : Option ((Int32 × Int32) ⊕ Int32) :=
  if c_peopleMany ≤ x3_4 then
    some (.inr x2_4)
  else
    (MX4_canAsk x3_4 p0 o_town_living np pk pr).bind fun r2 =>
    if (b2i r2) = 0 then
      some (.inl ((x2_4 ||| (0 : Int32)), (x3_4 + (1 : Int32))))
    else
      some (.inl ((x2_4 ||| ((1 : Int32) <<< (x3_4 &&& 31))), (x3_4 + (1 : Int32))))
def MX1_askers (p0 : Int32) (c_peopleMany : Int32) (o_town_living : Int32) (np : Nat) (pk : Nat → Nat) (pr : AI) : Option Int32 :=
  (loopN FU (fun s_ => BX1_askers_4 p0 c_peopleMany o_town_living np pk pr s_.1 s_.2) ((0 : Int32), (0 : Int32))).bind fun r5 =>
  some r5
def MX1_person (p0 : Int32) (p1 : Int32) (c_peopleMany : Int32) (o_town_living : Int32) (o_town_has_ : AI) (np : Nat) (pk : Nat → Nat) (pd : AI) (pr : AI) : Option (Int32 × Int32 × Int32) :=
  (MX1_anew).bind fun r1 =>
  (MX1_isPerson p0 c_peopleMany).bind fun r3 =>
  if (b2i r3) = 0 then
    (MX1_no (1 : Int32)).bind fun r29 =>
    some (r29.1, r29.2, r1.2)
  else
    if p1 = (0 : Int32) then
      gi p0 6 <|
      gn (Int32.toNatClampNeg p0) np <|
      some ((kindK (pk (Int32.toNatClampNeg p0))), r1.1, r1.2)
    else
      if p1 = (1 : Int32) then
        gi p0 6 <|
        some ((o_town_has_ (Int32.toNatClampNeg p0)), r1.1, r1.2)
      else
        if p1 = (2 : Int32) then
          gi p0 6 <|
          gn (Int32.toNatClampNeg p0) np <|
          some ((pd (Int32.toNatClampNeg p0)), r1.1, r1.2)
        else
          if p1 = (3 : Int32) then
            (MX4_isLiving p0 o_town_living).bind fun r15 =>
            if (b2i r15) = 0 then
              some ((0 : Int32), r1.1, r1.2)
            else
              some ((1 : Int32), r1.1, r1.2)
          else
            if p1 = (4 : Int32) then
              gi p0 6 <|
              gn (Int32.toNatClampNeg p0) np <|
              some ((pr (Int32.toNatClampNeg p0)), r1.1, r1.2)
            else
              if p1 = (5 : Int32) then
                (MX1_askable p0 c_peopleMany o_town_living np pk pr).bind fun r22 =>
                some (r22, r1.1, r1.2)
              else
                if p1 = (6 : Int32) then
                  (MX1_askers p0 c_peopleMany o_town_living np pk pr).bind fun r25 =>
                  some (r25, r1.1, r1.2)
                else
                  (MX1_no (1 : Int32)).bind fun r27 =>
                  some (r27.1, r27.2, r1.2)
def MX7_isPerson (p0 : Int32) (c_people : Int32) : Option Bool :=
  if p0 < 0 then
    some false
  else
    if c_people ≤ p0 then
      some false
    else
      some true
def MX7_near (p0 : Int32) (c_near_ : AI) : Option Int32 :=
  gi p0 6 <|
  some (c_near_ (Int32.toNatClampNeg p0))
def BX7_canAsk_4 (p0 : Int32) (c_people : Int32) (m_v_ : AI) (c_kind_ : AI) (c_near_ : AI) (x2_4 : Int32) (x3_4 : Int32) : Option ((Int32 × Int32) ⊕ Int32) :=
  if c_people ≤ x3_4 then
    some (.inr x2_4)
  else
    if x3_4 = p0 then
      some (.inl ((x2_4 ||| (0 : Int32)), (x3_4 + (1 : Int32))))
    else
      (MX7_bit (m_v_ 42) p0).bind fun r3 =>
      if (b2i r3) = 0 then
        some (.inl ((x2_4 ||| (0 : Int32)), (x3_4 + (1 : Int32))))
      else
        (MX7_bit (m_v_ 42) x3_4).bind fun r6 =>
        if (b2i r6) = 0 then
          some (.inl ((x2_4 ||| (0 : Int32)), (x3_4 + (1 : Int32))))
        else
          (MX14_mayAsk p0 x3_4 c_kind_ c_near_).bind fun r9 =>
          if (b2i r9) = 0 then
            some (.inl ((x2_4 ||| (0 : Int32)), (x3_4 + (1 : Int32))))
          else
            some (.inl ((x2_4 ||| ((1 : Int32) <<< (x3_4 &&& 31))), (x3_4 + (1 : Int32))))
def MX7_canAsk (p0 : Int32) (c_people : Int32) (m_v_ : AI) (c_kind_ : AI) (c_near_ : AI) : Option Int32 :=
  (loopN FU (fun s_ => BX7_canAsk_4 p0 c_people m_v_ c_kind_ c_near_ s_.1 s_.2) ((0 : Int32), (0 : Int32))).bind fun r12 =>
  some r12
def BX7_canBeAsked_4 (p0 : Int32) (c_people : Int32) (m_v_ : AI) (c_kind_ : AI) (c_near_ : AI) (x2_4 : Int32) (x3_4 : Int32) : Option ((Int32 × Int32) ⊕ Int32) :=
  if c_people ≤ x3_4 then
    some (.inr x2_4)
  else
    if x3_4 = p0 then
      some (.inl ((x2_4 ||| (0 : Int32)), (x3_4 + (1 : Int32))))
    else
      (MX7_canAsk x3_4 c_people m_v_ c_kind_ c_near_).bind fun r3 =>
      (MX7_bit r3 p0).bind fun r5 =>
      if (b2i r5) = 0 then
        some (.inl ((x2_4 ||| (0 : Int32)), (x3_4 + (1 : Int32))))
      else
        some (.inl ((x2_4 ||| ((1 : Int32) <<< (x3_4 &&& 31))), (x3_4 + (1 : Int32))))
def MX7_canBeAsked (p0 : Int32) (c_people : Int32) (m_v_ : AI) (c_kind_ : AI) (c_near_ : AI) : Option Int32 :=
  (loopN FU (fun s_ => BX7_canBeAsked_4 p0 c_people m_v_ c_kind_ c_near_ s_.1 s_.2) ((0 : Int32), (0 : Int32))).bind fun r8 =>
  some r8
def MX7_person (p0 : Int32) (p1 : Int32) (c_people : Int32) (c_kind_ : AI) (m_v_ : AI) (c_dies_ : AI) (c_near_ : AI) : Option (Int32 × Int32 × Int32 × Int32) :=
  (MX7_isPerson p0 c_people).bind fun r1 =>
  if (b2i r1) = 0 then
    (MX7_refused (1 : Int32)).bind fun r4 =>
    some (r4.1, (0 : Int32), r4.2.1, r4.2.2)
  else
    (MX7_in p1 (0 : Int32) (6 : Int32)).bind fun r6 =>
    if (b2i r6) = 0 then
      (MX7_refused (1 : Int32)).bind fun r38 =>
      some (r38.1, (0 : Int32), r38.2.1, r38.2.2)
    else
      if p1 = (0 : Int32) then
        gi p0 6 <|
        (MX7_good (c_kind_ (Int32.toNatClampNeg p0))).bind fun r11 =>
        some (r11.1, (0 : Int32), r11.2.1, r11.2.2)
      else
        if p1 = (1 : Int32) then
          gi p0 47 <|
          (MX7_good (m_v_ (Int32.toNatClampNeg p0))).bind fun r15 =>
          some (r15.1, (0 : Int32), r15.2.1, r15.2.2)
        else
          if p1 = (2 : Int32) then
            gi p0 6 <|
            (MX7_good (c_dies_ (Int32.toNatClampNeg p0))).bind fun r19 =>
            some (r19.1, (0 : Int32), r19.2.1, r19.2.2)
          else
            if p1 = (3 : Int32) then
              (MX7_good (((m_v_ 42) >>> (p0 &&& 31)) &&& (1 : Int32))).bind fun r22 =>
              some (r22.1, (0 : Int32), r22.2.1, r22.2.2)
            else
              if p1 = (4 : Int32) then
                (MX7_near p0 c_near_).bind fun r25 =>
                (MX7_good r25).bind fun r27 =>
                some (r27.1, (0 : Int32), r27.2.1, r27.2.2)
              else
                if p1 = (5 : Int32) then
                  (MX7_canAsk p0 c_people m_v_ c_kind_ c_near_).bind fun r30 =>
                  (MX7_good r30).bind fun r32 =>
                  some (r32.1, (0 : Int32), r32.2.1, r32.2.2)
                else
                  (MX7_canBeAsked p0 c_people m_v_ c_kind_ c_near_).bind fun r34 =>
                  (MX7_good r34).bind fun r36 =>
                  some (r36.1, (0 : Int32), r36.2.1, r36.2.2)
def MX1_areTwo (p0 : Int32) (p1 : Int32) (c_peopleMany : Int32) : Option Bool :=
  (MX1_isPerson p0 c_peopleMany).bind fun r1 =>
  if (b2i r1) = 0 then
    some false
  else
    (MX1_isPerson p1 c_peopleMany).bind fun r4 =>
    if (b2i r4) = 0 then
      some false
    else
      if p0 = p1 then
        some false
      else
        some true
def MX4_hourOf (p0 : Int32) (p1 : Int32) (t_hours_ : AI) : Option Int32 :=
  gi (((6 : Int32) * p0) + p1) 36 <|
  some (t_hours_ (Int32.toNatClampNeg (((6 : Int32) * p0) + p1)))
def MX1_register (p0 : Int32) (p1 : Int32) (c_peopleMany : Int32) (o_town_hours_ : AI) : Option (Int32 × Int32 × Int32) :=
  (MX1_anew).bind fun r1 =>
  (MX1_areTwo p0 p1 c_peopleMany).bind fun r3 =>
  if (b2i r3) = 0 then
    (MX1_no (1 : Int32)).bind fun r6 =>
    some (r6.1, r6.2, r1.2)
  else
    (MX4_hourOf p0 p1 o_town_hours_).bind fun r8 =>
    some (r8, r1.1, r1.2)
def MX7_areTwo (p0 : Int32) (p1 : Int32) (c_people : Int32) : Option Bool :=
  (MX7_isPerson p0 c_people).bind fun r1 =>
  if (b2i r1) = 0 then
    some false
  else
    (MX7_isPerson p1 c_people).bind fun r4 =>
    if (b2i r4) = 0 then
      some false
    else
      if p0 = p1 then
        some false
      else
        some true
def MX7_register (p0 : Int32) (p1 : Int32) (c_people : Int32) (m_v_ : AI) : Option (Int32 × Int32 × Int32 × Int32) :=
  (MX7_areTwo p0 p1 c_people).bind fun r1 =>
  if (b2i r1) = 0 then
    (MX7_refused (1 : Int32)).bind fun r11 =>
    some (r11.1, (0 : Int32), r11.2.1, r11.2.2)
  else
    gi (((6 : Int32) + ((6 : Int32) * p0)) + p1) 47 <|
    lt_ (m_v_ (Int32.toNatClampNeg (((6 : Int32) + ((6 : Int32) * p0)) + p1))) fun y5 =>
    if y5 = (-1 : Int32) then
      (MX7_good (-2 : Int32)).bind fun r9 =>
      some (r9.1, (0 : Int32), r9.2.1, r9.2.2)
    else
      (MX7_good y5).bind fun r7 =>
      some (r7.1, (0 : Int32), r7.2.1, r7.2.2)
def MX1_livesWhy (p0 : Int32) (c_peopleMany : Int32) (o_town_living : Int32) : Option Int32 :=
  (MX1_isPerson p0 c_peopleMany).bind fun r1 =>
  if (b2i r1) = 0 then
    some (1 : Int32)
  else
    (MX4_isLiving p0 o_town_living).bind fun r4 =>
    if (b2i r4) = 0 then
      some (5 : Int32)
    else
      some (0 : Int32)
def BX4_heir_5 (p0 : Int32) (t_living : Int32) (c_peopleMany : Int32) (t_hours_ : AI) (x2_5 : Int32) (x3_5 : Int32) : Option ((Int32 × Int32) ⊕ Int32) :=
  if c_peopleMany ≤ x3_5 then
    some (.inr x2_5)
  else
    if x3_5 = p0 then
      some (.inl (x2_5, (x3_5 + (1 : Int32))))
    else
      (MX4_isLiving x3_5 t_living).bind fun r3 =>
      if (b2i r3) = 0 then
        some (.inl (x2_5, (x3_5 + (1 : Int32))))
      else
        (MX4_hourOf x3_5 p0 t_hours_).bind fun r6 =>
        if r6 < 0 then
          some (.inl (x2_5, (x3_5 + (1 : Int32))))
        else
          if x2_5 = (-2 : Int32) then
            some (.inl (x3_5, (x3_5 + (1 : Int32))))
          else
            (MX4_hourOf x3_5 p0 t_hours_).bind fun r10 =>
            (MX4_hourOf x2_5 p0 t_hours_).bind fun r12 =>
            if r10 ≤ r12 then
              some (.inl (x2_5, (x3_5 + (1 : Int32))))
            else
              some (.inl (x3_5, (x3_5 + (1 : Int32))))
def MX4_heir (p0 : Int32) (t_living : Int32) (c_peopleMany : Int32) (t_hours_ : AI) : Option Int32 :=
  (loopN FU (fun s_ => BX4_heir_5 p0 t_living c_peopleMany t_hours_ s_.1 s_.2) ((-2 : Int32), (0 : Int32))).bind fun r15 =>
  some r15
def MX1_heir (p0 : Int32) (c_peopleMany : Int32) (o_town_living : Int32) (o_town_hours_ : AI) : Option (Int32 × Int32 × Int32) :=
  (MX1_anew).bind fun r1 =>
  (MX1_livesWhy p0 c_peopleMany o_town_living).bind fun r3 =>
  if r3 = 0 then
    (MX4_heir p0 o_town_living c_peopleMany o_town_hours_).bind fun r6 =>
    some (r6, r1.1, r1.2)
  else
    (MX1_no r3).bind fun r8 =>
    some (r8.1, r8.2, r1.2)
def MX7_refusesLiving (p0 : Int32) (c_people : Int32) (m_v_ : AI) : Option Int32 :=
  (MX7_isPerson p0 c_people).bind fun r1 =>
  if (b2i r1) = 0 then
    some (1 : Int32)
  else
    (MX7_bit (m_v_ 42) p0).bind fun r4 =>
    if (b2i r4) = 0 then
      some (5 : Int32)
    else
      some (0 : Int32)
def BX7_works_2 (m_v_ : AI) (x1_2 : Int32) (m_x_2 : AI) : Option ((Int32 × AI) ⊕ AI) :=
  if (47 : Int32) ≤ x1_2 then
    some (.inr m_x_2)
  else
    gi x1_2 47 <|
    gi x1_2 47 <|
    some (.inl ((x1_2 + (1 : Int32)), (upd m_x_2 (Int32.toNatClampNeg x1_2) (m_v_ (Int32.toNatClampNeg x1_2)))))
def MX7_works (m_v_ : AI) (m_x_ : AI) : Option AI :=
  (loopN FU (fun s_ => BX7_works_2 m_v_ s_.1 s_.2) ((0 : Int32), m_x_)).bind fun r4 =>
  some r4
def MX7_isLiving (p0 : Int32) (m_x_ : AI) : Option Bool :=
  (MX7_bit (m_x_ 42) p0).bind fun r1 =>
  some r1
def MX7_asked (p0 : Int32) (p1 : Int32) (m_x_ : AI) : Option Int32 :=
  gi (((6 : Int32) + ((6 : Int32) * p0)) + p1) 47 <|
  some (m_x_ (Int32.toNatClampNeg (((6 : Int32) + ((6 : Int32) * p0)) + p1)))
def BX7_heirOf_5 (p0 : Int32) (c_people : Int32) (m_x_ : AI) (x2_5 : Int32) (x3_5 : Int32) : Option ((Int32 × Int32) ⊕ Int32) :=
  if c_people ≤ x3_5 then
    some (.inr x2_5)
  else
    if x3_5 = p0 then
      some (.inl (x2_5, (x3_5 + (1 : Int32))))
    else
      (MX7_isLiving x3_5 m_x_).bind fun r3 =>
      if (b2i r3) = 0 then
        some (.inl (x2_5, (x3_5 + (1 : Int32))))
      else
        (MX7_asked x3_5 p0 m_x_).bind fun r6 =>
        if r6 = (-1 : Int32) then
          some (.inl (x2_5, (x3_5 + (1 : Int32))))
        else
          if x2_5 = (-2 : Int32) then
            some (.inl (x3_5, (x3_5 + (1 : Int32))))
          else
            (MX7_asked x3_5 p0 m_x_).bind fun r10 =>
            (MX7_asked x2_5 p0 m_x_).bind fun r12 =>
            if r10 ≤ r12 then
              some (.inl (x2_5, (x3_5 + (1 : Int32))))
            else
              some (.inl (x3_5, (x3_5 + (1 : Int32))))
def MX7_heirOf (p0 : Int32) (c_people : Int32) (m_x_ : AI) : Option Int32 :=
  (loopN FU (fun s_ => BX7_heirOf_5 p0 c_people m_x_ s_.1 s_.2) ((-2 : Int32), (0 : Int32))).bind fun r15 =>
  some r15
def MX7_heir (p0 : Int32) (c_people : Int32) (m_v_ : AI) (m_x_ : AI) : Option (Int32 × Int32 × Int32 × Int32 × AI) :=
  (MX7_refusesLiving p0 c_people m_v_).bind fun r1 =>
  if r1 ≤ 0 then
    (MX7_works m_v_ m_x_).bind fun r4 =>
    (MX7_heirOf p0 c_people r4).bind fun r6 =>
    (MX7_good r6).bind fun r8 =>
    some (r8.1, (0 : Int32), r8.2.1, r8.2.2, r4)
  else
    (MX7_refused r1).bind fun r10 =>
    some (r10.1, (0 : Int32), r10.2.1, r10.2.2, m_x_)
def BX1_heirTos_4 (p0 : Int32) (c_peopleMany : Int32) (o_town_living : Int32) (o_town_hours_ : AI) (x2_4 : Int32) (x3_4 : Int32) : Option ((Int32 × Int32) ⊕ Int32) :=
  if c_peopleMany ≤ x3_4 then
    some (.inr x2_4)
  else
    (MX4_isLiving x3_4 o_town_living).bind fun r2 =>
    if (b2i r2) = 0 then
      some (.inl ((x2_4 ||| (0 : Int32)), (x3_4 + (1 : Int32))))
    else
      (MX4_heir x3_4 o_town_living c_peopleMany o_town_hours_).bind fun r5 =>
      if r5 = p0 then
        some (.inl ((x2_4 ||| ((1 : Int32) <<< (x3_4 &&& 31))), (x3_4 + (1 : Int32))))
      else
        some (.inl ((x2_4 ||| (0 : Int32)), (x3_4 + (1 : Int32))))
def MX1_heirTos (p0 : Int32) (c_peopleMany : Int32) (o_town_living : Int32) (o_town_hours_ : AI) : Option Int32 :=
  (loopN FU (fun s_ => BX1_heirTos_4 p0 c_peopleMany o_town_living o_town_hours_ s_.1 s_.2) ((0 : Int32), (0 : Int32))).bind fun r8 =>
  some r8
def MX1_heirTo (p0 : Int32) (c_peopleMany : Int32) (o_town_living : Int32) (o_town_hours_ : AI) : Option (Int32 × Int32 × Int32) :=
  (MX1_anew).bind fun r1 =>
  (MX1_isPerson p0 c_peopleMany).bind fun r3 =>
  if (b2i r3) = 0 then
    (MX1_no (1 : Int32)).bind fun r6 =>
    some (r6.1, r6.2, r1.2)
  else
    (MX1_heirTos p0 c_peopleMany o_town_living o_town_hours_).bind fun r8 =>
    some (r8, r1.1, r1.2)
def BX7_heirs_2 (c_people : Int32) (m_x_ : AI) (x1_2 : Int32) (m_heir_2 : AI) : Option ((Int32 × AI) ⊕ AI) :=
  if c_people ≤ x1_2 then
    some (.inr m_heir_2)
  else
    (MX7_heirOf x1_2 c_people m_x_).bind fun r2 =>
    gi x1_2 6 <|
    some (.inl ((x1_2 + (1 : Int32)), (upd m_heir_2 (Int32.toNatClampNeg x1_2) r2)))
def MX7_heirs (c_people : Int32) (m_x_ : AI) (m_heir_ : AI) : Option AI :=
  (loopN FU (fun s_ => BX7_heirs_2 c_people m_x_ s_.1 s_.2) ((0 : Int32), m_heir_)).bind fun r5 =>
  some r5
def MX7_worksWithHeirs (m_v_ : AI) (m_x_ : AI) (c_people : Int32) (m_heir_ : AI) : Option (AI × AI) :=
  (MX7_works m_v_ m_x_).bind fun r1 =>
  (MX7_heirs c_people r1 m_heir_).bind fun r3 =>
  some (r1, r3)
def BX7_inheritsOf_4 (p0 : Int32) (c_people : Int32) (m_x_ : AI) (m_heir_ : AI) (x2_4 : Int32) (x3_4 : Int32) : Option ((Int32 × Int32) ⊕ Int32) :=
  if c_people ≤ x3_4 then
    some (.inr x2_4)
  else
    (MX7_isLiving x3_4 m_x_).bind fun r2 =>
    if (b2i r2) = 0 then
      some (.inl ((x2_4 ||| (0 : Int32)), (x3_4 + (1 : Int32))))
    else
      gi x3_4 6 <|
      if (m_heir_ (Int32.toNatClampNeg x3_4)) = p0 then
        some (.inl ((x2_4 ||| ((1 : Int32) <<< (x3_4 &&& 31))), (x3_4 + (1 : Int32))))
      else
        some (.inl ((x2_4 ||| (0 : Int32)), (x3_4 + (1 : Int32))))
def MX7_inheritsOf (p0 : Int32) (c_people : Int32) (m_x_ : AI) (m_heir_ : AI) : Option Int32 :=
  (loopN FU (fun s_ => BX7_inheritsOf_4 p0 c_people m_x_ m_heir_ s_.1 s_.2) ((0 : Int32), (0 : Int32))).bind fun r7 =>
  some r7
def MX7_heirTo (p0 : Int32) (c_people : Int32) (m_v_ : AI) (m_x_ : AI) (m_heir_ : AI) : Option (Int32 × Int32 × Int32 × Int32 × AI × AI) :=
  (MX7_isPerson p0 c_people).bind fun r1 =>
  if (b2i r1) = 0 then
    (MX7_refused (1 : Int32)).bind fun r10 =>
    some (r10.1, (0 : Int32), r10.2.1, r10.2.2, m_x_, m_heir_)
  else
    (MX7_worksWithHeirs m_v_ m_x_ c_people m_heir_).bind fun r4 =>
    (MX7_inheritsOf p0 c_people r4.1 r4.2).bind fun r6 =>
    (MX7_good r6).bind fun r8 =>
    some (r8.1, (0 : Int32), r8.2.1, r8.2.2, r4.1, r4.2)
def MX4_become (p1_living : Int32) (p1_hour : Int32) (p1_cat : Int32) (p1_nights : Int32) (p1_seed : Int32) (t_has_ : AI) (p1_has_ : AI) (t_hours_ : AI) (p1_hours_ : AI) : Option (Int32 × Int32 × Int32 × Int32 × Int32 × AI × AI) :=
  some (p1_living, p1_hour, p1_cat, p1_nights, p1_seed, (va_cpy p1_has_ t_has_ 0 0 6), (va_cpy p1_hours_ t_hours_ 0 0 36))
def BX4_goesTo_11 (p1 : Int32) (t_living : Int32) (t_hours_ : AI) (c_peopleMany : Int32) (x3_11 : Int32) (x4_11 : Int32) : Option ((Int32 × Int32) ⊕ (Unit ⊕ Int32)) :=
  if x4_11 = (-2 : Int32) then
    some (.inr (.inr x4_11))
  else
    (MX1_has p1 x4_11).bind fun r4 =>
    if (b2i r4) = 0 then
      some (.inr (.inr x4_11))
    else
      (MX1_has x3_11 x4_11).bind fun r7 =>
      if (b2i r7) = 0 then
        (MX4_heir x4_11 t_living c_peopleMany t_hours_).bind fun r10 =>
        some (.inl ((x3_11 ||| ((1 : Int32) <<< (x4_11 &&& 31))), r10))
      else
        some (.inr (.inl ()))
def MX4_goesTo (p0 : Int32) (p1 : Int32) (t_living : Int32) (t_hours_ : AI) (c_peopleMany : Int32) : Option Int32 :=
  (MX4_heir p0 t_living c_peopleMany t_hours_).bind fun r1 =>
  (loopN FU (fun s_ => BX4_goesTo_11 p1 t_living t_hours_ c_peopleMany s_.1 s_.2) (((1 : Int32) <<< (p0 &&& 31)), r1)).bind fun r12 => match r12 with
  | .inl z13 =>
    some (-2 : Int32)
  | .inr z14 =>
    some z14
def BX4_dies_8 (p1 : Int32) (p1_living : Int32) (p1_has_ : AI) (p1_hours_ : AI) (c_peopleMany : Int32) (t_living_8 : Int32) (t_hour_8 : Int32) (t_nights_8 : Int32) (t_seed_8 : Int32) (t_hours_8 : AI) (x3_8 : Int32) (t_cat_8 : Int32) (t_has_8 : AI) : Option ((Int32 × Int32 × AI) ⊕ (AI × Int32)) :=
  if c_peopleMany ≤ x3_8 then
    some (.inr (t_has_8, t_cat_8))
  else
    (MX1_has p1 x3_8).bind fun r4 =>
    if (b2i r4) = 0 then
      some (.inl ((x3_8 + (1 : Int32)), t_cat_8, t_has_8))
    else
      (MX4_goesTo x3_8 p1 p1_living p1_hours_ c_peopleMany).bind fun r7 =>
      gi x3_8 6 <|
      if r7 = (-2 : Int32) then
        gi x3_8 6 <|
        some (.inl ((x3_8 + (1 : Int32)), (t_cat_8 + (p1_has_ (Int32.toNatClampNeg x3_8))), (upd t_has_8 (Int32.toNatClampNeg x3_8) (0 : Int32))))
      else
        gi r7 6 <|
        gi x3_8 6 <|
        gi r7 6 <|
        lt_ (((upd t_has_8 (Int32.toNatClampNeg x3_8) (0 : Int32)) (Int32.toNatClampNeg r7)) + (p1_has_ (Int32.toNatClampNeg x3_8))) fun y14 =>
        some (.inl ((x3_8 + (1 : Int32)), t_cat_8, (upd (upd t_has_8 (Int32.toNatClampNeg x3_8) (0 : Int32)) (Int32.toNatClampNeg r7) y14)))
def MX4_dies (p1 : Int32) (p1_living : Int32) (p1_hour : Int32) (p1_cat : Int32) (p1_nights : Int32) (p1_seed : Int32) (t_has_ : AI) (t_hours_ : AI) (p1_has_ : AI) (p1_hours_ : AI) (c_peopleMany : Int32) : Option (Int32 × Int32 × Int32 × Int32 × Int32 × AI × AI) :=
  (MX4_become p1_living p1_hour p1_cat p1_nights p1_seed t_has_ p1_has_ t_hours_ p1_hours_).bind fun r1 =>
  (loopN FU (fun s_ => BX4_dies_8 p1 p1_living p1_has_ p1_hours_ c_peopleMany r1.1 r1.2.1 r1.2.2.2.1 r1.2.2.2.2.1 r1.2.2.2.2.2.2 s_.1 s_.2.1 s_.2.2) ((0 : Int32), r1.2.2.1, r1.2.2.2.2.2.1)).bind fun r16 =>
  some ((r1.1 &&& (p1 ^^^ (-1 : Int32))), r1.2.1, r16.2, r1.2.2.2.1, r1.2.2.2.2.1, r16.1, r1.2.2.2.2.2.2)
def MX1_hopes (p0 : Int32) (c_peopleMany : Int32) (o_town_living : Int32) (o_town_hour : Int32) (o_town_cat : Int32) (o_town_nights : Int32) (o_town_seed : Int32) (o_town_hours_ : AI) (o_trial_living : Int32) (o_trial_hour : Int32) (o_trial_cat : Int32) (o_trial_nights : Int32) (o_trial_seed : Int32) (o_trial_has_ : AI) (o_trial_hours_ : AI) (o_town_has_ : AI) : Option (Int32 × Int32 × Int32 × Int32 × Int32 × Int32 × Int32 × Int32 × AI × AI) :=
  (MX1_anew).bind fun r1 =>
  (MX1_livesWhy p0 c_peopleMany o_town_living).bind fun r3 =>
  if r3 = 0 then
    (MX1_heirTos p0 c_peopleMany o_town_living o_town_hours_).bind fun r6 =>
    (MX4_dies r6 o_town_living o_town_hour o_town_cat o_town_nights o_town_seed o_trial_has_ o_trial_hours_ o_town_has_ o_town_hours_ c_peopleMany).bind fun r8 =>
    gi p0 6 <|
    some ((r8.2.2.2.2.2.1 (Int32.toNatClampNeg p0)), r1.1, r1.2, r8.1, r8.2.1, r8.2.2.1, r8.2.2.2.1, r8.2.2.2.2.1, r8.2.2.2.2.2.1, r8.2.2.2.2.2.2)
  else
    (MX1_no r3).bind fun r11 =>
    some (r11.1, r11.2, r1.2, o_trial_living, o_trial_hour, o_trial_cat, o_trial_nights, o_trial_seed, o_trial_has_, o_trial_hours_)
def BX7_goes_5 (p1 : Int32) (m_heir_ : AI) (x3_5 : Int32) (x4_5 : Int32) : Option ((Int32 × Int32) ⊕ (Unit ⊕ Int32)) :=
  if x4_5 = (-2 : Int32) then
    some (.inr (.inr x4_5))
  else
    (MX7_bit p1 x4_5).bind fun r2 =>
    if (b2i r2) = 0 then
      some (.inr (.inr x4_5))
    else
      (MX7_bit x3_5 x4_5).bind fun r5 =>
      if (b2i r5) = 0 then
        gi x4_5 6 <|
        some (.inl ((x3_5 ||| ((1 : Int32) <<< (x4_5 &&& 31))), (m_heir_ (Int32.toNatClampNeg x4_5))))
      else
        some (.inr (.inl ()))
def MX7_goes (p0 : Int32) (p1 : Int32) (m_heir_ : AI) : Option Int32 :=
  (loopN FU (fun s_ => BX7_goes_5 p1 m_heir_ s_.1 s_.2) ((0 : Int32), p0)).bind fun r9 => match r9 with
  | .inl z10 =>
    some (-2 : Int32)
  | .inr z11 =>
    some z11
def BX7_dying_7 (p0 : Int32) (c_people : Int32) (m_x_ : AI) (x2_7 : Int32) (m_then_7 : AI) : Option ((Int32 × AI) ⊕ AI) :=
  if c_people ≤ x2_7 then
    some (.inr m_then_7)
  else
    (MX7_bit p0 x2_7).bind fun r2 =>
    if (b2i r2) = 0 then
      (MX7_isLiving x2_7 m_x_).bind fun r6 =>
      if (b2i r6) = 0 then
        gi x2_7 6 <|
        some (.inl ((x2_7 + (1 : Int32)), (upd m_then_7 (Int32.toNatClampNeg x2_7) (0 : Int32))))
      else
        gi x2_7 47 <|
        gi x2_7 6 <|
        some (.inl ((x2_7 + (1 : Int32)), (upd m_then_7 (Int32.toNatClampNeg x2_7) (m_x_ (Int32.toNatClampNeg x2_7)))))
    else
      gi x2_7 6 <|
      some (.inl ((x2_7 + (1 : Int32)), (upd m_then_7 (Int32.toNatClampNeg x2_7) (0 : Int32))))
def BX7_dying_58 (p0 : Int32) (c_people : Int32) (m_x_ : AI) (m_heir_ : AI) (x2_58 : Int32) (m_catGets_58 : Int32) (m_then_58 : AI) : Option ((Int32 × Int32 × AI) ⊕ (AI × Int32)) :=
  if c_people ≤ x2_58 then
    some (.inr (m_then_58, m_catGets_58))
  else
    (MX7_bit p0 x2_58).bind fun r14 =>
    if (b2i r14) = 0 then
      some (.inl ((x2_58 + (1 : Int32)), m_catGets_58, m_then_58))
    else
      (MX7_goes x2_58 p0 m_heir_).bind fun r17 =>
      if r17 = (-2 : Int32) then
        gi x2_58 47 <|
        some (.inl ((x2_58 + (1 : Int32)), (m_catGets_58 + (m_x_ (Int32.toNatClampNeg x2_58))), m_then_58))
      else
        gi r17 6 <|
        gi x2_58 47 <|
        gi r17 6 <|
        lt_ ((m_then_58 (Int32.toNatClampNeg r17)) + (m_x_ (Int32.toNatClampNeg x2_58))) fun y23 =>
        some (.inl ((x2_58 + (1 : Int32)), m_catGets_58, (upd m_then_58 (Int32.toNatClampNeg r17) y23)))
def MX7_dying (p0 : Int32) (c_people : Int32) (m_then_ : AI) (m_x_ : AI) (m_heir_ : AI) : Option (Int32 × AI) :=
  (loopN FU (fun s_ => BX7_dying_7 p0 c_people m_x_ s_.1 s_.2) ((0 : Int32), m_then_)).bind fun r12 =>
  (loopN FU (fun s_ => BX7_dying_58 p0 c_people m_x_ m_heir_ s_.1 s_.2.1 s_.2.2) ((0 : Int32), (0 : Int32), r12)).bind fun r25 =>
  some (r25.2, r25.1)
def MX7_hopes (p0 : Int32) (m_catGets : Int32) (c_people : Int32) (m_v_ : AI) (m_x_ : AI) (m_heir_ : AI) (m_then_ : AI) : Option (Int32 × Int32 × Int32 × Int32 × Int32 × AI × AI × AI) :=
  (MX7_refusesLiving p0 c_people m_v_).bind fun r1 =>
  if r1 ≤ 0 then
    (MX7_worksWithHeirs m_v_ m_x_ c_people m_heir_).bind fun r4 =>
    (MX7_inheritsOf p0 c_people r4.1 r4.2).bind fun r6 =>
    (MX7_dying r6 c_people m_then_ r4.1 r4.2).bind fun r8 =>
    gi p0 6 <|
    (MX7_good (r8.2 (Int32.toNatClampNeg p0))).bind fun r11 =>
    some (r11.1, (0 : Int32), r11.2.1, r11.2.2, r8.1, r4.1, r4.2, r8.2)
  else
    (MX7_refused r1).bind fun r13 =>
    some (r13.1, (0 : Int32), r13.2.1, r13.2.2, m_catGets, m_x_, m_heir_, m_then_)
def MX1_cat (o_town_cat : Int32) : Option (Int32 × Int32 × Int32) :=
  (MX1_anew).bind fun r1 =>
  some (o_town_cat, r1.1, r1.2)
def MX7_cat (m_v_ : AI) : Option (Int32 × Int32 × Int32 × Int32) :=
  (MX7_good (m_v_ 43)).bind fun r1 =>
  some (r1.1, (0 : Int32), r1.2.1, r1.2.2)
def BX1_richest_22 (c_peopleMany : Int32) (o_town_living : Int32) (o_town_has_ : AI) (o_trouble_22 : Int32) (o_where_22 : Int32) (x1_22 : Int32) (x2_22 : Int32) : Option ((Int32 × Int32) ⊕ Int32) :=
  if c_peopleMany ≤ x2_22 then
    some (.inr x1_22)
  else
    (MX4_isLiving x2_22 o_town_living).bind fun r4 =>
    if (b2i r4) = 0 then
      some (.inl (x1_22, (x2_22 + (1 : Int32))))
    else
      if x1_22 = (-2 : Int32) then
        some (.inl (x2_22, (x2_22 + (1 : Int32))))
      else
        gi x2_22 6 <|
        gi x1_22 6 <|
        if (o_town_has_ (Int32.toNatClampNeg x2_22)) ≤ (o_town_has_ (Int32.toNatClampNeg x1_22)) then
          some (.inl (x1_22, (x2_22 + (1 : Int32))))
        else
          some (.inl (x2_22, (x2_22 + (1 : Int32))))
def MX1_richest (c_peopleMany : Int32) (o_town_living : Int32) (o_town_has_ : AI) : Option (Int32 × Int32 × Int32) :=
  (MX1_anew).bind fun r1 =>
  (loopN FU (fun s_ => BX1_richest_22 c_peopleMany o_town_living o_town_has_ r1.1 r1.2 s_.1 s_.2) ((-2 : Int32), (0 : Int32))).bind fun r11 =>
  some (r11, r1.1, r1.2)
def BX7_richest_23 (c_people : Int32) (m_v_ : AI) (x1_23 : Int32) (x2_23 : Int32) : Option ((Int32 × Int32) ⊕ Int32) :=
  if c_people ≤ x2_23 then
    some (.inr x1_23)
  else
    (MX7_bit (m_v_ 42) x2_23).bind fun r2 =>
    if (b2i r2) = 0 then
      some (.inl (x1_23, (x2_23 + (1 : Int32))))
    else
      if x1_23 = (-2 : Int32) then
        some (.inl (x2_23, (x2_23 + (1 : Int32))))
      else
        gi x2_23 47 <|
        gi x1_23 47 <|
        if (m_v_ (Int32.toNatClampNeg x2_23)) ≤ (m_v_ (Int32.toNatClampNeg x1_23)) then
          some (.inl (x1_23, (x2_23 + (1 : Int32))))
        else
          some (.inl (x2_23, (x2_23 + (1 : Int32))))
def MX7_richest (c_people : Int32) (m_v_ : AI) : Option (Int32 × Int32 × Int32 × Int32) :=
  (loopN FU (fun s_ => BX7_richest_23 c_people m_v_ s_.1 s_.2) ((-2 : Int32), (0 : Int32))).bind fun r9 =>
  (MX7_good r9).bind fun r10 =>
  some (r10.1, (0 : Int32), r10.2.1, r10.2.2)
def MX1_isSet (p0 : Int32) (c_peopleMany : Int32) (o_town_living : Int32) : Option Bool :=
  (MX8_all c_peopleMany).bind fun r1 =>
  (MX1_in p0 (0 : Int32) r1).bind fun r3 =>
  if (b2i r3) = 0 then
    some false
  else
    if (p0 &&& (o_town_living ^^^ (-1 : Int32))) = 0 then
      some true
    else
      some false
def MX1_numberWhy (p0 : Bool) (p1 : Bool) : Option Int32 :=
  if (b2i p0) = 0 then
    some (1 : Int32)
  else
    if (b2i p1) = 0 then
      some (2 : Int32)
    else
      some (0 : Int32)
def MX1_goesTo (p0 : Int32) (p1 : Int32) (c_peopleMany : Int32) (o_town_living : Int32) (o_town_hours_ : AI) : Option (Int32 × Int32 × Int32) :=
  (MX1_anew).bind fun r1 =>
  (MX1_isPerson p0 c_peopleMany).bind fun r3 =>
  (MX1_isPerson p0 c_peopleMany).bind fun r5 =>
  if (b2i r5) = 0 then
    (MX1_numberWhy r3 false).bind fun r8 =>
    if r8 = 0 then
      (MX4_goesTo p0 p1 o_town_living o_town_hours_ c_peopleMany).bind fun r11 =>
      some (r11, r1.1, r1.2)
    else
      (MX1_no r8).bind fun r13 =>
      some (r13.1, r13.2, r1.2)
  else
    (MX1_isSet p1 c_peopleMany o_town_living).bind fun r15 =>
    if (b2i r15) = 0 then
      (MX1_numberWhy r3 false).bind fun r18 =>
      if r18 = 0 then
        (MX4_goesTo p0 p1 o_town_living o_town_hours_ c_peopleMany).bind fun r21 =>
        some (r21, r1.1, r1.2)
      else
        (MX1_no r18).bind fun r23 =>
        some (r23.1, r23.2, r1.2)
    else
      (MX1_has p1 p0).bind fun r25 =>
      if (b2i r25) = 0 then
        (MX1_numberWhy r3 false).bind fun r28 =>
        if r28 = 0 then
          (MX4_goesTo p0 p1 o_town_living o_town_hours_ c_peopleMany).bind fun r31 =>
          some (r31, r1.1, r1.2)
        else
          (MX1_no r28).bind fun r33 =>
          some (r33.1, r33.2, r1.2)
      else
        (MX1_numberWhy r3 true).bind fun r35 =>
        if r35 = 0 then
          (MX4_goesTo p0 p1 o_town_living o_town_hours_ c_peopleMany).bind fun r38 =>
          some (r38, r1.1, r1.2)
        else
          (MX1_no r35).bind fun r40 =>
          some (r40.1, r40.2, r1.2)
def MX7_canDie (p0 : Int32) (c_people : Int32) (m_v_ : AI) : Option Bool :=
  if p0 < 0 then
    some false
  else
    if ((1 : Int32) <<< (c_people &&& 31)) ≤ p0 then
      some false
    else
      if (p0 &&& ((m_v_ 42) ^^^ (-1 : Int32))) = 0 then
        some true
      else
        some false
def MX7_goesTo (p0 : Int32) (p1 : Int32) (c_people : Int32) (m_v_ : AI) (m_x_ : AI) (m_heir_ : AI) : Option (Int32 × Int32 × Int32 × Int32 × AI × AI) :=
  (MX7_isPerson p0 c_people).bind fun r1 =>
  if (b2i r1) = 0 then
    (MX7_refused (1 : Int32)).bind fun r20 =>
    some (r20.1, (0 : Int32), r20.2.1, r20.2.2, m_x_, m_heir_)
  else
    (MX7_canDie p1 c_people m_v_).bind fun r4 =>
    if (b2i r4) = 0 then
      (MX7_refused (2 : Int32)).bind fun r7 =>
      some (r7.1, (0 : Int32), r7.2.1, r7.2.2, m_x_, m_heir_)
    else
      (MX7_bit p1 p0).bind fun r9 =>
      if (b2i r9) = 0 then
        (MX7_refused (2 : Int32)).bind fun r18 =>
        some (r18.1, (0 : Int32), r18.2.1, r18.2.2, m_x_, m_heir_)
      else
        (MX7_worksWithHeirs m_v_ m_x_ c_people m_heir_).bind fun r12 =>
        (MX7_goes p0 p1 r12.2).bind fun r14 =>
        (MX7_good r14).bind fun r16 =>
        some (r16.1, (0 : Int32), r16.2.1, r16.2.2, r12.1, r12.2)
def MX1_hasThen (p0 : Int32) (p1 : Int32) (c_peopleMany : Int32) (o_town_living : Int32) (o_town_hour : Int32) (o_town_cat : Int32) (o_town_nights : Int32) (o_town_seed : Int32) (o_trial_living : Int32) (o_trial_hour : Int32) (o_trial_cat : Int32) (o_trial_nights : Int32) (o_trial_seed : Int32) (o_trial_has_ : AI) (o_trial_hours_ : AI) (o_town_has_ : AI) (o_town_hours_ : AI) : Option (Int32 × Int32 × Int32 × Int32 × Int32 × Int32 × Int32 × Int32 × AI × AI) :=
  (MX1_anew).bind fun r1 =>
  (MX1_livesWhy p0 c_peopleMany o_town_living).bind fun r3 =>
  if r3 = 0 then
    (MX1_isSet p1 c_peopleMany o_town_living).bind fun r12 =>
    if (b2i r12) = 0 then
      (MX1_no (2 : Int32)).bind fun r22 =>
      some (r22.1, r22.2, r1.2, o_trial_living, o_trial_hour, o_trial_cat, o_trial_nights, o_trial_seed, o_trial_has_, o_trial_hours_)
    else
      if r3 = 0 then
        (MX4_dies p1 o_town_living o_town_hour o_town_cat o_town_nights o_town_seed o_trial_has_ o_trial_hours_ o_town_has_ o_town_hours_ c_peopleMany).bind fun r16 =>
        gi p0 6 <|
        some ((r16.2.2.2.2.2.1 (Int32.toNatClampNeg p0)), r1.1, r1.2, r16.1, r16.2.1, r16.2.2.1, r16.2.2.2.1, r16.2.2.2.2.1, r16.2.2.2.2.2.1, r16.2.2.2.2.2.2)
      else
        (MX1_no r3).bind fun r19 =>
        some (r19.1, r19.2, r1.2, o_trial_living, o_trial_hour, o_trial_cat, o_trial_nights, o_trial_seed, o_trial_has_, o_trial_hours_)
  else
    if r3 = 0 then
      (MX4_dies p1 o_town_living o_town_hour o_town_cat o_town_nights o_town_seed o_trial_has_ o_trial_hours_ o_town_has_ o_town_hours_ c_peopleMany).bind fun r7 =>
      gi p0 6 <|
      some ((r7.2.2.2.2.2.1 (Int32.toNatClampNeg p0)), r1.1, r1.2, r7.1, r7.2.1, r7.2.2.1, r7.2.2.2.1, r7.2.2.2.2.1, r7.2.2.2.2.2.1, r7.2.2.2.2.2.2)
    else
      (MX1_no r3).bind fun r10 =>
      some (r10.1, r10.2, r1.2, o_trial_living, o_trial_hour, o_trial_cat, o_trial_nights, o_trial_seed, o_trial_has_, o_trial_hours_)
def MX7_hasThen (p0 : Int32) (p1 : Int32) (m_catGets : Int32) (c_people : Int32) (m_v_ : AI) (m_x_ : AI) (m_heir_ : AI) (m_then_ : AI) : Option (Int32 × Int32 × Int32 × Int32 × Int32 × AI × AI × AI) :=
  (MX7_refusesLiving p0 c_people m_v_).bind fun r1 =>
  if r1 ≤ 0 then
    (MX7_canDie p1 c_people m_v_).bind fun r4 =>
    if (b2i r4) = 0 then
      (MX7_refused (2 : Int32)).bind fun r14 =>
      some (r14.1, (0 : Int32), r14.2.1, r14.2.2, m_catGets, m_x_, m_heir_, m_then_)
    else
      (MX7_worksWithHeirs m_v_ m_x_ c_people m_heir_).bind fun r7 =>
      (MX7_dying p1 c_people m_then_ r7.1 r7.2).bind fun r9 =>
      gi p0 6 <|
      (MX7_good (r9.2 (Int32.toNatClampNeg p0))).bind fun r12 =>
      some (r12.1, (0 : Int32), r12.2.1, r12.2.2, r9.1, r7.1, r7.2, r9.2)
  else
    (MX7_refused r1).bind fun r16 =>
    some (r16.1, (0 : Int32), r16.2.1, r16.2.2, m_catGets, m_x_, m_heir_, m_then_)
def MX1_catThen (p0 : Int32) (c_peopleMany : Int32) (o_town_living : Int32) (o_town_hour : Int32) (o_town_cat : Int32) (o_town_nights : Int32) (o_town_seed : Int32) (o_trial_living : Int32) (o_trial_hour : Int32) (o_trial_cat : Int32) (o_trial_nights : Int32) (o_trial_seed : Int32) (o_trial_has_ : AI) (o_trial_hours_ : AI) (o_town_has_ : AI) (o_town_hours_ : AI) : Option (Int32 × Int32 × Int32 × Int32 × Int32 × Int32 × Int32 × Int32 × AI × AI) :=
  (MX1_anew).bind fun r1 =>
  (MX1_isSet p0 c_peopleMany o_town_living).bind fun r3 =>
  if (b2i r3) = 0 then
    (MX1_numberWhy true false).bind fun r6 =>
    if r6 = 0 then
      (MX4_dies p0 o_town_living o_town_hour o_town_cat o_town_nights o_town_seed o_trial_has_ o_trial_hours_ o_town_has_ o_town_hours_ c_peopleMany).bind fun r9 =>
      some ((r9.2.2.1 - o_town_cat), r1.1, r1.2, r9.1, r9.2.1, r9.2.2.1, r9.2.2.2.1, r9.2.2.2.2.1, r9.2.2.2.2.2.1, r9.2.2.2.2.2.2)
    else
      (MX1_no r6).bind fun r11 =>
      some (r11.1, r11.2, r1.2, o_trial_living, o_trial_hour, o_trial_cat, o_trial_nights, o_trial_seed, o_trial_has_, o_trial_hours_)
  else
    (MX1_numberWhy true true).bind fun r13 =>
    if r13 = 0 then
      (MX4_dies p0 o_town_living o_town_hour o_town_cat o_town_nights o_town_seed o_trial_has_ o_trial_hours_ o_town_has_ o_town_hours_ c_peopleMany).bind fun r16 =>
      some ((r16.2.2.1 - o_town_cat), r1.1, r1.2, r16.1, r16.2.1, r16.2.2.1, r16.2.2.2.1, r16.2.2.2.2.1, r16.2.2.2.2.2.1, r16.2.2.2.2.2.2)
    else
      (MX1_no r13).bind fun r18 =>
      some (r18.1, r18.2, r1.2, o_trial_living, o_trial_hour, o_trial_cat, o_trial_nights, o_trial_seed, o_trial_has_, o_trial_hours_)
def MX7_catThen (p0 : Int32) (m_catGets : Int32) (c_people : Int32) (m_v_ : AI) (m_x_ : AI) (m_heir_ : AI) (m_then_ : AI) : Option (Int32 × Int32 × Int32 × Int32 × Int32 × AI × AI × AI) :=
  (MX7_canDie p0 c_people m_v_).bind fun r1 =>
  if (b2i r1) = 0 then
    (MX7_refused (2 : Int32)).bind fun r10 =>
    some (r10.1, (0 : Int32), r10.2.1, r10.2.2, m_catGets, m_x_, m_heir_, m_then_)
  else
    (MX7_worksWithHeirs m_v_ m_x_ c_people m_heir_).bind fun r4 =>
    (MX7_dying p0 c_people m_then_ r4.1 r4.2).bind fun r6 =>
    (MX7_good r6.1).bind fun r8 =>
    some (r8.1, (0 : Int32), r8.2.1, r8.2.2, r6.1, r4.1, r4.2, r6.2)
def BX1_comesRound_11 (p0 : Int32) (o_town_living : Int32) (o_town_hours_ : AI) (c_peopleMany : Int32) (x2_11 : Int32) (x3_11 : Int32) : Option ((Int32 × Int32) ⊕ (Unit ⊕ Unit)) :=
  if (6 : Int32) ≤ x3_11 then
    some (.inr (.inr ()))
  else
    if x2_11 = (-2 : Int32) then
      some (.inr (.inr ()))
    else
      if x2_11 = p0 then
        some (.inr (.inl ()))
      else
        (MX4_heir x2_11 o_town_living c_peopleMany o_town_hours_).bind fun r6 =>
        some (.inl (r6, (x3_11 + (1 : Int32))))
def MX1_comesRound (p0 : Int32) (o_town_living : Int32) (o_town_hours_ : AI) (c_peopleMany : Int32) : Option Bool :=
  (MX4_heir p0 o_town_living c_peopleMany o_town_hours_).bind fun r1 =>
  (loopN FU (fun s_ => BX1_comesRound_11 p0 o_town_living o_town_hours_ c_peopleMany s_.1 s_.2) (r1, (0 : Int32))).bind fun r8 => match r8 with
  | .inl z9 =>
    some true
  | .inr z10 =>
    some false
def BX1_rounds_21 (c_peopleMany : Int32) (o_town_living : Int32) (o_town_hours_ : AI) (o_trouble_21 : Int32) (o_where_21 : Int32) (x1_21 : Int32) (x2_21 : Int32) : Option ((Int32 × Int32) ⊕ Int32) :=
  if c_peopleMany ≤ x2_21 then
    some (.inr x1_21)
  else
    (MX4_isLiving x2_21 o_town_living).bind fun r4 =>
    if (b2i r4) = 0 then
      some (.inl ((x1_21 ||| (0 : Int32)), (x2_21 + (1 : Int32))))
    else
      (MX1_comesRound x2_21 o_town_living o_town_hours_ c_peopleMany).bind fun r7 =>
      if (b2i r7) = 0 then
        some (.inl ((x1_21 ||| (0 : Int32)), (x2_21 + (1 : Int32))))
      else
        some (.inl ((x1_21 ||| ((1 : Int32) <<< (x2_21 &&& 31))), (x2_21 + (1 : Int32))))
def MX1_rounds (c_peopleMany : Int32) (o_town_living : Int32) (o_town_hours_ : AI) : Option (Int32 × Int32 × Int32) :=
  (MX1_anew).bind fun r1 =>
  (loopN FU (fun s_ => BX1_rounds_21 c_peopleMany o_town_living o_town_hours_ r1.1 r1.2 s_.1 s_.2) ((0 : Int32), (0 : Int32))).bind fun r10 =>
  some (r10, r1.1, r1.2)
def BX7_rounds_58 (x1_58 : Int32) (x2_58 : Int32) (m_x_58 : AI) (m_heir_58 : AI) (x3_58 : Int32) (x4_58 : Int32) : Option ((Int32 × Int32) ⊕ Int32) :=
  if (6 : Int32) ≤ x4_58 then
    some (.inr x3_58)
  else
    if x3_58 = (-2 : Int32) then
      some (.inr x3_58)
    else
      if x3_58 = x2_58 then
        some (.inr x3_58)
      else
        gi x3_58 6 <|
        some (.inl ((m_heir_58 (Int32.toNatClampNeg x3_58)), (x4_58 + (1 : Int32))))
def BX7_rounds_26 (c_people : Int32) (m_x_26 : AI) (m_heir_26 : AI) (x1_26 : Int32) (x2_26 : Int32) : Option ((Int32 × Int32) ⊕ Int32) :=
  if c_people ≤ x2_26 then
    some (.inr x1_26)
  else
    (MX7_isLiving x2_26 m_x_26).bind fun r4 =>
    if (b2i r4) = 0 then
      some (.inl (x1_26, (x2_26 + (1 : Int32))))
    else
      gi x2_26 6 <|
      (loopN FU (fun s_ => BX7_rounds_58 x1_26 x2_26 m_x_26 m_heir_26 s_.1 s_.2) ((m_heir_26 (Int32.toNatClampNeg x2_26)), (0 : Int32))).bind fun r12 =>
      if r12 = x2_26 then
        some (.inl ((x1_26 ||| ((1 : Int32) <<< (x2_26 &&& 31))), (x2_26 + (1 : Int32))))
      else
        some (.inl ((x1_26 ||| (0 : Int32)), (x2_26 + (1 : Int32))))
def MX7_rounds (c_people : Int32) (m_v_ : AI) (m_x_ : AI) (m_heir_ : AI) : Option (Int32 × Int32 × Int32 × Int32 × AI × AI) :=
  (MX7_worksWithHeirs m_v_ m_x_ c_people m_heir_).bind fun r1 =>
  (loopN FU (fun s_ => BX7_rounds_26 c_people r1.1 r1.2 s_.1 s_.2) ((0 : Int32), (0 : Int32))).bind fun r14 =>
  (MX7_good r14).bind fun r15 =>
  some (r15.1, (0 : Int32), r15.2.1, r15.2.2, r1.1, r1.2)
def BX1_worthiest_22 (c_peopleMany : Int32) (o_town_living : Int32) (o_town_hours_ : AI) (o_town_has_ : AI) (o_trouble_22 : Int32) (o_where_22 : Int32) (x1_22 : Int32) (x2_22 : Int32) : Option ((Int32 × Int32) ⊕ Int32) :=
  if c_peopleMany ≤ x2_22 then
    some (.inr x1_22)
  else
    (MX4_isLiving x2_22 o_town_living).bind fun r4 =>
    if (b2i r4) = 0 then
      some (.inl (x1_22, (x2_22 + (1 : Int32))))
    else
      (MX4_heir x2_22 o_town_living c_peopleMany o_town_hours_).bind fun r7 =>
      if r7 = (-2 : Int32) then
        some (.inl (x1_22, (x2_22 + (1 : Int32))))
      else
        gi x2_22 6 <|
        if x1_22 = (-2 : Int32) then
          if (o_town_has_ (Int32.toNatClampNeg x2_22)) ≤ (0 : Int32) then
            some (.inl (x1_22, (x2_22 + (1 : Int32))))
          else
            some (.inl (x2_22, (x2_22 + (1 : Int32))))
        else
          gi x1_22 6 <|
          if (o_town_has_ (Int32.toNatClampNeg x2_22)) ≤ (o_town_has_ (Int32.toNatClampNeg x1_22)) then
            some (.inl (x1_22, (x2_22 + (1 : Int32))))
          else
            some (.inl (x2_22, (x2_22 + (1 : Int32))))
def MX1_worthiest (c_peopleMany : Int32) (o_town_living : Int32) (o_town_hours_ : AI) (o_town_has_ : AI) : Option (Int32 × Int32 × Int32) :=
  (MX1_anew).bind fun r1 =>
  (loopN FU (fun s_ => BX1_worthiest_22 c_peopleMany o_town_living o_town_hours_ o_town_has_ r1.1 r1.2 s_.1 s_.2) ((-2 : Int32), (0 : Int32))).bind fun r15 =>
  some (r15, r1.1, r1.2)
def BX7_worthiest_29 (c_people : Int32) (m_x_29 : AI) (m_heir_29 : AI) (x1_29 : Int32) (x2_29 : Int32) (x3_29 : Int32) : Option ((Int32 × Int32 × Int32) ⊕ Int32) :=
  if c_people ≤ x3_29 then
    some (.inr x1_29)
  else
    (MX7_isLiving x3_29 m_x_29).bind fun r4 =>
    if (b2i r4) = 0 then
      some (.inl (x1_29, x2_29, (x3_29 + (1 : Int32))))
    else
      gi x3_29 6 <|
      if (m_heir_29 (Int32.toNatClampNeg x3_29)) = (-2 : Int32) then
        some (.inl (x1_29, x2_29, (x3_29 + (1 : Int32))))
      else
        gi x3_29 47 <|
        if x2_29 < (m_x_29 (Int32.toNatClampNeg x3_29)) then
          gi x3_29 47 <|
          some (.inl (x3_29, (m_x_29 (Int32.toNatClampNeg x3_29)), (x3_29 + (1 : Int32))))
        else
          some (.inl (x1_29, x2_29, (x3_29 + (1 : Int32))))
def MX7_worthiest (c_people : Int32) (m_v_ : AI) (m_x_ : AI) (m_heir_ : AI) : Option (Int32 × Int32 × Int32 × Int32 × AI × AI) :=
  (MX7_worksWithHeirs m_v_ m_x_ c_people m_heir_).bind fun r1 =>
  (loopN FU (fun s_ => BX7_worthiest_29 c_people r1.1 r1.2 s_.1 s_.2.1 s_.2.2) ((-2 : Int32), (0 : Int32), (0 : Int32))).bind fun r12 =>
  (MX7_good r12).bind fun r13 =>
  some (r13.1, (0 : Int32), r13.2.1, r13.2.2, r1.1, r1.2)
def BX1_ones_4 (x1_4 : Int32) (x2_4 : Int32) : Option ((Int32 × Int32) ⊕ Int32) :=
  if x2_4 = 0 then
    some (.inr x1_4)
  else
    some (.inl ((x1_4 + (1 : Int32)), (x2_4 &&& (x2_4 - (1 : Int32)))))
def MX1_ones (p0 : Int32) : Option Int32 :=
  (loopN FU (fun s_ => BX1_ones_4 s_.1 s_.2) ((0 : Int32), p0)).bind fun r2 =>
  some r2
def BX1_plot_47 (p0 : Int32) (p1 : Int32) (c_peopleMany : Int32) (o_town_living : Int32) (o_town_hours_ : AI) (o_trouble_47 : Int32) (o_where_47 : Int32) (x3_47 : Int32) (x4_47 : Int32) : Option ((Int32 × Int32) ⊕ Int32) :=
  (MX8_all c_peopleMany).bind fun r16 =>
  if r16 < x4_47 then
    some (.inr x3_47)
  else
    (MX1_isSet x4_47 c_peopleMany o_town_living).bind fun r19 =>
    if (b2i r19) = 0 then
      some (.inl (x3_47, (x4_47 + (1 : Int32))))
    else
      (MX1_has x4_47 p0).bind fun r22 =>
      if (b2i r22) = 0 then
        some (.inl (x3_47, (x4_47 + (1 : Int32))))
      else
        (MX1_has x4_47 p1).bind fun r25 =>
        if (b2i r25) = 0 then
          if x3_47 = (-2 : Int32) then
            (MX4_goesTo p0 x4_47 o_town_living o_town_hours_ c_peopleMany).bind fun r29 =>
            if r29 = p1 then
              some (.inl (x4_47, (x4_47 + (1 : Int32))))
            else
              some (.inl (x3_47, (x4_47 + (1 : Int32))))
          else
            (MX1_ones x4_47).bind fun r32 =>
            (MX1_ones x3_47).bind fun r34 =>
            if r34 ≤ r32 then
              some (.inl (x3_47, (x4_47 + (1 : Int32))))
            else
              (MX4_goesTo p0 x4_47 o_town_living o_town_hours_ c_peopleMany).bind fun r37 =>
              if r37 = p1 then
                some (.inl (x4_47, (x4_47 + (1 : Int32))))
              else
                some (.inl (x3_47, (x4_47 + (1 : Int32))))
        else
          some (.inl (x3_47, (x4_47 + (1 : Int32))))
def MX1_plot (p0 : Int32) (p1 : Int32) (c_peopleMany : Int32) (o_town_living : Int32) (o_town_hours_ : AI) : Option (Int32 × Int32 × Int32) :=
  (MX1_anew).bind fun r1 =>
  (MX1_areTwo p0 p1 c_peopleMany).bind fun r3 =>
  if (b2i r3) = 0 then
    (MX1_no (1 : Int32)).bind fun r6 =>
    some (r6.1, r6.2, r1.2)
  else
    (MX4_isLiving p0 o_town_living).bind fun r8 =>
    if (b2i r8) = 0 then
      (MX1_no (1 : Int32)).bind fun r11 =>
      some (r11.1, r11.2, r1.2)
    else
      (MX4_isLiving p1 o_town_living).bind fun r13 =>
      if (b2i r13) = 0 then
        (MX1_no (1 : Int32)).bind fun r41 =>
        some (r41.1, r41.2, r1.2)
      else
        (loopN FU (fun s_ => BX1_plot_47 p0 p1 c_peopleMany o_town_living o_town_hours_ r1.1 r1.2 s_.1 s_.2) ((-2 : Int32), (0 : Int32))).bind fun r40 =>
        some (r40, r1.1, r1.2)
def BX7_bits_4 (x1_4 : Int32) (x2_4 : Int32) : Option ((Int32 × Int32) ⊕ Int32) :=
  if x2_4 = 0 then
    some (.inr x1_4)
  else
    some (.inl ((x1_4 + (1 : Int32)), (x2_4 &&& (x2_4 - (1 : Int32)))))
def MX7_bits (p0 : Int32) : Option Int32 :=
  (loopN FU (fun s_ => BX7_bits_4 s_.1 s_.2) ((0 : Int32), p0)).bind fun r2 =>
  some r2
def BX7_plot_58 (p0 : Int32) (p1 : Int32) (m_v_ : AI) (m_x_58 : AI) (m_heir_58 : AI) (x3_58 : Int32) (x4_58 : Int32) : Option ((Int32 × Int32) ⊕ Int32) :=
  if (m_v_ 42) < x4_58 then
    some (.inr x3_58)
  else
    if (x4_58 &&& ((m_v_ 42) ^^^ (-1 : Int32))) = 0 then
      (MX7_bit x4_58 p0).bind fun r18 =>
      if (b2i r18) = 0 then
        some (.inl (x3_58, (x4_58 + (1 : Int32))))
      else
        (MX7_bit x4_58 p1).bind fun r21 =>
        if (b2i r21) = 0 then
          if x3_58 = (-2 : Int32) then
            (MX7_goes p0 x4_58 m_heir_58).bind fun r25 =>
            if r25 = p1 then
              some (.inl (x4_58, (x4_58 + (1 : Int32))))
            else
              some (.inl (x3_58, (x4_58 + (1 : Int32))))
          else
            (MX7_bits x4_58).bind fun r28 =>
            (MX7_bits x3_58).bind fun r30 =>
            if r28 < r30 then
              (MX7_goes p0 x4_58 m_heir_58).bind fun r33 =>
              if r33 = p1 then
                some (.inl (x4_58, (x4_58 + (1 : Int32))))
              else
                some (.inl (x3_58, (x4_58 + (1 : Int32))))
            else
              some (.inl (x3_58, (x4_58 + (1 : Int32))))
        else
          some (.inl (x3_58, (x4_58 + (1 : Int32))))
    else
      some (.inl (x3_58, (x4_58 + (1 : Int32))))
def MX7_plot (p0 : Int32) (p1 : Int32) (c_people : Int32) (m_v_ : AI) (m_x_ : AI) (m_heir_ : AI) : Option (Int32 × Int32 × Int32 × Int32 × AI × AI) :=
  (MX7_areTwo p0 p1 c_people).bind fun r1 =>
  if (b2i r1) = 0 then
    (MX7_refused (1 : Int32)).bind fun r4 =>
    some (r4.1, (0 : Int32), r4.2.1, r4.2.2, m_x_, m_heir_)
  else
    (MX7_bit (m_v_ 42) p0).bind fun r6 =>
    if (b2i r6) = 0 then
      (MX7_refused (1 : Int32)).bind fun r9 =>
      some (r9.1, (0 : Int32), r9.2.1, r9.2.2, m_x_, m_heir_)
    else
      (MX7_bit (m_v_ 42) p1).bind fun r11 =>
      if (b2i r11) = 0 then
        (MX7_refused (1 : Int32)).bind fun r39 =>
        some (r39.1, (0 : Int32), r39.2.1, r39.2.2, m_x_, m_heir_)
      else
        (MX7_worksWithHeirs m_v_ m_x_ c_people m_heir_).bind fun r14 =>
        (loopN FU (fun s_ => BX7_plot_58 p0 p1 m_v_ r14.1 r14.2 s_.1 s_.2) ((-2 : Int32), (0 : Int32))).bind fun r36 =>
        (MX7_good r36).bind fun r37 =>
        some (r37.1, (0 : Int32), r37.2.1, r37.2.2, r14.1, r14.2)
def BX5_lay_7 (p1_living : Int32) (c_peopleMany : Int32) (x2_7 : Int32) (g_all_7 : Int64) : Option ((Int32 × Int64) ⊕ Int64) :=
  if c_peopleMany ≤ x2_7 then
    some (.inr g_all_7)
  else
    (MX4_isLiving x2_7 p1_living).bind fun r2 =>
    if (b2i r2) = 0 then
      some (.inl ((x2_7 + (1 : Int32)), (g_all_7 * (1 : Int64))))
    else
      some (.inl ((x2_7 + (1 : Int32)), (g_all_7 * (100 : Int64))))
def MX5_lay (p1_living : Int32) (c_peopleMany : Int32) : Option Int64 :=
  (loopN FU (fun s_ => BX5_lay_7 p1_living c_peopleMany s_.1 s_.2) ((0 : Int32), (1 : Int64))).bind fun r5 =>
  some r5
def BX5_weight_5 (p1 : Int32) (p0_living : Int32) (c_peopleMany : Int32) (np : Nat) (pd : AI) (x2_5 : Int64) (x4_5 : Int32) : Option ((Int64 × Int32) ⊕ Int64) :=
  if c_peopleMany ≤ x4_5 then
    some (.inr x2_5)
  else
    (MX4_isLiving x4_5 p0_living).bind fun r2 =>
    if (b2i r2) = 0 then
      some (.inl (x2_5, (x4_5 + (1 : Int32))))
    else
      (MX1_has p1 x4_5).bind fun r5 =>
      if (b2i r5) = 0 then
        gi x4_5 6 <|
        gn (Int32.toNatClampNeg x4_5) np <|
        lt_ (x2_5 * (Int32.toInt64 ((100 : Int32) - (pd (Int32.toNatClampNeg x4_5))))) fun y10 =>
        some (.inl (y10, (x4_5 + (1 : Int32))))
      else
        gi x4_5 6 <|
        gn (Int32.toNatClampNeg x4_5) np <|
        some (.inl ((x2_5 * (Int32.toInt64 (pd (Int32.toNatClampNeg x4_5)))), (x4_5 + (1 : Int32))))
def MX5_weight (p1 : Int32) (p0_living : Int32) (c_peopleMany : Int32) (np : Nat) (pd : AI) : Option Int64 :=
  (loopN FU (fun s_ => BX5_weight_5 p1 p0_living c_peopleMany np pd s_.1 s_.2) ((1 : Int64), (0 : Int32))).bind fun r13 =>
  some r13
def BX5_sum_10 (p1 : Int32) (p1_living : Int32) (p1_hour : Int32) (p1_cat : Int32) (p1_nights : Int32) (p1_seed : Int32) (c_peopleMany : Int32) (p1_has_ : AI) (p1_hours_ : AI) (np : Nat) (pd : AI) (g_all_10 : Int64) (x3_10 : Int64) (x5_10 : Int32) (g_then_living_10 : Int32) (g_then_hour_10 : Int32) (g_then_cat_10 : Int32) (g_then_nights_10 : Int32) (g_then_seed_10 : Int32) (g_then_has_10 : AI) (g_then_hours_10 : AI) : Option ((Int64 × Int32 × Int32 × Int32 × Int32 × Int32 × Int32 × AI × AI) ⊕ (Int64 × AI × AI × Int32 × Int32 × Int32 × Int32 × Int32)) :=
  if p1_living < x5_10 then
    some (.inr (x3_10, g_then_has_10, g_then_hours_10, g_then_living_10, g_then_hour_10, g_then_cat_10, g_then_nights_10, g_then_seed_10))
  else
    if (x5_10 &&& (p1_living ^^^ (-1 : Int32))) = 0 then
      (MX5_weight x5_10 p1_living c_peopleMany np pd).bind fun r5 =>
      if (lg_cmp r5 (0 : Int64)) = 0 then
        some (.inl (x3_10, (x5_10 + (1 : Int32)), g_then_living_10, g_then_hour_10, g_then_cat_10, g_then_nights_10, g_then_seed_10, g_then_has_10, g_then_hours_10))
      else
        (MX4_dies x5_10 p1_living p1_hour p1_cat p1_nights p1_seed g_then_has_10 g_then_hours_10 p1_has_ p1_hours_ c_peopleMany).bind fun r8 =>
        (MX5_weight x5_10 p1_living c_peopleMany np pd).bind fun r10 =>
        if 0 ≤ p1 then
          gi p1 6 <|
          lt_ (x3_10 + (r10 * (Int32.toInt64 (r8.2.2.2.2.2.1 (Int32.toNatClampNeg p1))))) fun y14 =>
          some (.inl (y14, (x5_10 + (1 : Int32)), r8.1, r8.2.1, r8.2.2.1, r8.2.2.2.1, r8.2.2.2.2.1, r8.2.2.2.2.2.1, r8.2.2.2.2.2.2))
        else
          some (.inl ((x3_10 + (r10 * (Int32.toInt64 (r8.2.2.1 - p1_cat)))), (x5_10 + (1 : Int32)), r8.1, r8.2.1, r8.2.2.1, r8.2.2.2.1, r8.2.2.2.2.1, r8.2.2.2.2.2.1, r8.2.2.2.2.2.2))
    else
      some (.inl (x3_10, (x5_10 + (1 : Int32)), g_then_living_10, g_then_hour_10, g_then_cat_10, g_then_nights_10, g_then_seed_10, g_then_has_10, g_then_hours_10))
def MX5_sum (p1 : Int32) (p1_living : Int32) (p1_hour : Int32) (p1_cat : Int32) (p1_nights : Int32) (p1_seed : Int32) (c_peopleMany : Int32) (g_then_living : Int32) (g_then_hour : Int32) (g_then_cat : Int32) (g_then_nights : Int32) (g_then_seed : Int32) (g_then_has_ : AI) (g_then_hours_ : AI) (p1_has_ : AI) (p1_hours_ : AI) (np : Nat) (pd : AI) : Option (Int64 × Int64 × Int32 × Int32 × Int32 × Int32 × Int32 × AI × AI) :=
  (MX5_lay p1_living c_peopleMany).bind fun r1 =>
  (loopN FU (fun s_ => BX5_sum_10 p1 p1_living p1_hour p1_cat p1_nights p1_seed c_peopleMany p1_has_ p1_hours_ np pd r1 s_.1 s_.2.1 s_.2.2.1 s_.2.2.2.1 s_.2.2.2.2.1 s_.2.2.2.2.2.1 s_.2.2.2.2.2.2.1 s_.2.2.2.2.2.2.2.1 s_.2.2.2.2.2.2.2.2) ((0 : Int64), (0 : Int32), g_then_living, g_then_hour, g_then_cat, g_then_nights, g_then_seed, g_then_has_, g_then_hours_)).bind fun r15 =>
  some (r15.1, r1, r15.2.2.2.1, r15.2.2.2.2.1, r15.2.2.2.2.2.1, r15.2.2.2.2.2.2.1, r15.2.2.2.2.2.2.2, r15.2.1, r15.2.2.1)
def MX1_dividingF : Nat → Int64 → Int64 → Option Int64
  | 0, _, _ => none
  | k + 1, a, b => if (lg_cmp b (0 : Int64)) = 0 then some a else gzl b <| (MX1_dividingF k b (a - a / b * b)).bind fun r => some r
def MX1_dividing (p0 p1 : Int64) : Option Int64 := MX1_dividingF 200 p0 p1
def MX1_lowest (p0 : Int64) (p1 : Int64) (p2 : Bool) : Option Int64 :=
  if (b2i p2) = 0 then
    (MX1_dividing p1 p0).bind fun r2 =>
    gzl r2 <|
    some (p0 / r2)
  else
    (MX1_dividing p1 p0).bind fun r5 =>
    gzl r5 <|
    some (p1 / r5)
def MX1_mean (p0 : Int32) (p1 : Bool) (c_peopleMany : Int32) (o_night_all : Int64) (o_town_living : Int32) (o_town_hour : Int32) (o_town_cat : Int32) (o_town_nights : Int32) (o_town_seed : Int32) (o_night_then_living : Int32) (o_night_then_hour : Int32) (o_night_then_cat : Int32) (o_night_then_nights : Int32) (o_night_then_seed : Int32) (o_town_has_ : AI) (o_town_hours_ : AI) (o_night_then_has_ : AI) (o_night_then_hours_ : AI) (np : Nat) (pd : AI) : Option (Int64 × Int32 × Int32 × Int64 × Int32 × Int32 × Int32 × Int32 × Int32 × AI × AI) :=
  (MX1_anew).bind fun r1 =>
  (MX1_isPerson p0 c_peopleMany).bind fun r3 =>
  if (b2i r3) = 0 then
    (MX1_no (1 : Int32)).bind fun r10 =>
    some ((Int32.toInt64 r10.1), r10.2, r1.2, o_night_all, o_night_then_living, o_night_then_hour, o_night_then_cat, o_night_then_nights, o_night_then_seed, o_night_then_has_, o_night_then_hours_)
  else
    (MX5_sum p0 o_town_living o_town_hour o_town_cat o_town_nights o_town_seed c_peopleMany o_night_then_living o_night_then_hour o_night_then_cat o_night_then_nights o_night_then_seed o_night_then_has_ o_night_then_hours_ o_town_has_ o_town_hours_ np pd).bind fun r6 =>
    (MX1_lowest r6.1 r6.2.1 p1).bind fun r8 =>
    some (r8, r1.1, r1.2, r6.2.1, r6.2.2.1, r6.2.2.2.1, r6.2.2.2.2.1, r6.2.2.2.2.2.1, r6.2.2.2.2.2.2.1, r6.2.2.2.2.2.2.2.1, r6.2.2.2.2.2.2.2.2)
def BX7_wholeOf_7 (c_people : Int32) (m_x_ : AI) (x1_7 : Int32) (m_whole_7 : Int64) : Option ((Int32 × Int64) ⊕ Int64) :=
  if c_people ≤ x1_7 then
    some (.inr m_whole_7)
  else
    (MX7_isLiving x1_7 m_x_).bind fun r2 =>
    if (b2i r2) = 0 then
      some (.inl ((x1_7 + (1 : Int32)), (m_whole_7 * (1 : Int64))))
    else
      some (.inl ((x1_7 + (1 : Int32)), (m_whole_7 * (100 : Int64))))
def MX7_wholeOf (c_people : Int32) (m_x_ : AI) : Option Int64 :=
  (loopN FU (fun s_ => BX7_wholeOf_7 c_people m_x_ s_.1 s_.2) ((0 : Int32), (1 : Int64))).bind fun r5 =>
  some r5
def BX7_partOf_5 (p0 : Int32) (c_people : Int32) (m_x_ : AI) (c_dies_ : AI) (x2_5 : Int64) (x4_5 : Int32) : Option ((Int64 × Int32) ⊕ Int64) :=
  if c_people ≤ x4_5 then
    some (.inr x2_5)
  else
    (MX7_isLiving x4_5 m_x_).bind fun r2 =>
    if (b2i r2) = 0 then
      some (.inl (x2_5, (x4_5 + (1 : Int32))))
    else
      (MX7_bit p0 x4_5).bind fun r5 =>
      if (b2i r5) = 0 then
        gi x4_5 6 <|
        lt_ (x2_5 * (Int32.toInt64 ((100 : Int32) - (c_dies_ (Int32.toNatClampNeg x4_5))))) fun y9 =>
        some (.inl (y9, (x4_5 + (1 : Int32))))
      else
        gi x4_5 6 <|
        lt_ (x2_5 * (Int32.toInt64 (c_dies_ (Int32.toNatClampNeg x4_5)))) fun y11 =>
        some (.inl (y11, (x4_5 + (1 : Int32))))
def MX7_partOf (p0 : Int32) (c_people : Int32) (m_x_ : AI) (c_dies_ : AI) : Option Int64 :=
  (loopN FU (fun s_ => BX7_partOf_5 p0 c_people m_x_ c_dies_ s_.1 s_.2) ((1 : Int64), (0 : Int32))).bind fun r12 =>
  some r12
def BX7_meanOf_13 (p0 : Int32) (c_people : Int32) (m_x_ : AI) (c_dies_ : AI) (m_whole_13 : Int64) (m_heir_13 : AI) (x2_13 : Int64) (x4_13 : Int32) (m_catGets_13 : Int32) (m_then_13 : AI) : Option ((Int64 × Int32 × Int32 × AI) ⊕ (Int64 × AI × Int32)) :=
  if (m_x_ 42) < x4_13 then
    some (.inr (x2_13, m_then_13, m_catGets_13))
  else
    if (x4_13 &&& ((m_x_ 42) ^^^ (-1 : Int32))) = 0 then
      (MX7_partOf x4_13 c_people m_x_ c_dies_).bind fun r7 =>
      if (lg_cmp r7 (0 : Int64)) = 0 then
        some (.inl (x2_13, (x4_13 + (1 : Int32)), m_catGets_13, m_then_13))
      else
        (MX7_dying x4_13 c_people m_then_13 m_x_ m_heir_13).bind fun r10 =>
        gi p0 6 <|
        lt_ (x2_13 + (r7 * (Int32.toInt64 (r10.2 (Int32.toNatClampNeg p0))))) fun y13 =>
        some (.inl (y13, (x4_13 + (1 : Int32)), r10.1, r10.2))
    else
      some (.inl (x2_13, (x4_13 + (1 : Int32)), m_catGets_13, m_then_13))
def MX7_meanOf (p0 : Int32) (m_catGets : Int32) (c_people : Int32) (m_x_ : AI) (m_heir_ : AI) (c_dies_ : AI) (m_then_ : AI) : Option (Int64 × Int32 × Int64 × AI × AI) :=
  (MX7_heirs c_people m_x_ m_heir_).bind fun r1 =>
  (MX7_wholeOf c_people m_x_).bind fun r3 =>
  (loopN FU (fun s_ => BX7_meanOf_13 p0 c_people m_x_ c_dies_ r3 r1 s_.1 s_.2.1 s_.2.2.1 s_.2.2.2) ((0 : Int64), (0 : Int32), m_catGets, m_then_)).bind fun r14 =>
  some (r14.1, r14.2.2, r3, r1, r14.2.1)
def BX7_common_6 (x4_6 : Int64) (x6_6 : Int64) : Option ((Int64 × Int64) ⊕ Int64) :=
  if (lg_cmp x6_6 (0 : Int64)) = 0 then
    some (.inr x4_6)
  else
    gzl x6_6 <|
    some (.inl (x6_6, (x4_6 - x4_6 / x6_6 * x6_6)))
def MX7_common (p0 : Int64) (p1 : Int64) : Option Int64 :=
  (loopN FU (fun s_ => BX7_common_6 s_.1 s_.2) (p0, p1)).bind fun r3 =>
  some r3
def MX7_fraction (p0 : Int64) (p1 : Int64) (p2 : Bool) : Option (Int64 × Int32 × Int32) :=
  (MX7_good (0 : Int32)).bind fun r1 =>
  if (b2i p2) = 0 then
    (MX7_common p0 p1).bind fun r4 =>
    gzl r4 <|
    some ((p0 / r4), r1.2.1, r1.2.2)
  else
    (MX7_common p0 p1).bind fun r7 =>
    gzl r7 <|
    some ((p1 / r7), r1.2.1, r1.2.2)
def MX7_mean (p0 : Int32) (p1 : Bool) (m_catGets : Int32) (m_whole : Int64) (c_people : Int32) (m_v_ : AI) (m_x_ : AI) (m_heir_ : AI) (m_then_ : AI) (c_dies_ : AI) : Option (Int64 × Int32 × Int32 × Int32 × Int32 × Int64 × AI × AI × AI) :=
  (MX7_isPerson p0 c_people).bind fun r1 =>
  if (b2i r1) = 0 then
    (MX7_refused (1 : Int32)).bind fun r25 =>
    some ((Int32.toInt64 r25.1), (0 : Int32), r25.2.1, r25.2.2, m_catGets, m_whole, m_x_, m_heir_, m_then_)
  else
    (MX7_works m_v_ m_x_).bind fun r4 =>
    (MX7_isLiving p0 r4).bind fun r6 =>
    if (b2i r6) = 0 then
      (MX7_isLiving p0 r4).bind fun r9 =>
      if (b2i r9) = 0 then
        (MX7_fraction (0 : Int64) (1 : Int64) p1).bind fun r14 =>
        some (r14.1, (0 : Int32), r14.2.1, r14.2.2, m_catGets, (1 : Int64), r4, m_heir_, m_then_)
      else
        (MX7_fraction (0 : Int64) m_whole p1).bind fun r12 =>
        some (r12.1, (0 : Int32), r12.2.1, r12.2.2, m_catGets, m_whole, r4, m_heir_, m_then_)
    else
      (MX7_meanOf p0 m_catGets c_people r4 m_heir_ c_dies_ m_then_).bind fun r16 =>
      (MX7_isLiving p0 r4).bind fun r18 =>
      if (b2i r18) = 0 then
        (MX7_fraction r16.1 (1 : Int64) p1).bind fun r23 =>
        some (r23.1, (0 : Int32), r23.2.1, r23.2.2, r16.2.1, (1 : Int64), r4, r16.2.2.2.1, r16.2.2.2.2)
      else
        (MX7_fraction r16.1 r16.2.2.1 p1).bind fun r21 =>
        some (r21.1, (0 : Int32), r21.2.1, r21.2.2, r16.2.1, r16.2.2.1, r4, r16.2.2.2.1, r16.2.2.2.2)
def BX5_atLeast_11 (p1 : Int32) (p2 : Int32) (p1_living : Int32) (p1_hour : Int32) (p1_cat : Int32) (p1_nights : Int32) (p1_seed : Int32) (c_peopleMany : Int32) (p1_has_ : AI) (p1_hours_ : AI) (np : Nat) (pd : AI) (g_all_11 : Int64) (x4_11 : Int64) (x6_11 : Int32) (g_then_living_11 : Int32) (g_then_hour_11 : Int32) (g_then_cat_11 : Int32) (g_then_nights_11 : Int32) (g_then_seed_11 : Int32) (g_then_has_11 : AI) (g_then_hours_11 : AI) : Option ((Int64 × Int32 × Int32 × Int32 × Int32 × Int32 × Int32 × AI × AI) ⊕ (Int64 × AI × AI × Int32 × Int32 × Int32 × Int32 × Int32)) :=
  if p1_living < x6_11 then
    some (.inr (x4_11, g_then_has_11, g_then_hours_11, g_then_living_11, g_then_hour_11, g_then_cat_11, g_then_nights_11, g_then_seed_11))
  else
    if (x6_11 &&& (p1_living ^^^ (-1 : Int32))) = 0 then
      (MX4_dies x6_11 p1_living p1_hour p1_cat p1_nights p1_seed g_then_has_11 g_then_hours_11 p1_has_ p1_hours_ c_peopleMany).bind fun r5 =>
      gi p1 6 <|
      if (r5.2.2.2.2.2.1 (Int32.toNatClampNeg p1)) < p2 then
        some (.inl (x4_11, (x6_11 + (1 : Int32)), r5.1, r5.2.1, r5.2.2.1, r5.2.2.2.1, r5.2.2.2.2.1, r5.2.2.2.2.2.1, r5.2.2.2.2.2.2))
      else
        (MX5_weight x6_11 p1_living c_peopleMany np pd).bind fun r9 =>
        some (.inl ((x4_11 + r9), (x6_11 + (1 : Int32)), r5.1, r5.2.1, r5.2.2.1, r5.2.2.2.1, r5.2.2.2.2.1, r5.2.2.2.2.2.1, r5.2.2.2.2.2.2))
    else
      some (.inl (x4_11, (x6_11 + (1 : Int32)), g_then_living_11, g_then_hour_11, g_then_cat_11, g_then_nights_11, g_then_seed_11, g_then_has_11, g_then_hours_11))
def MX5_atLeast (p1 : Int32) (p2 : Int32) (p1_living : Int32) (p1_hour : Int32) (p1_cat : Int32) (p1_nights : Int32) (p1_seed : Int32) (c_peopleMany : Int32) (g_then_living : Int32) (g_then_hour : Int32) (g_then_cat : Int32) (g_then_nights : Int32) (g_then_seed : Int32) (g_then_has_ : AI) (g_then_hours_ : AI) (p1_has_ : AI) (p1_hours_ : AI) (np : Nat) (pd : AI) : Option (Int64 × Int64 × Int32 × Int32 × Int32 × Int32 × Int32 × AI × AI) :=
  (MX5_lay p1_living c_peopleMany).bind fun r1 =>
  (loopN FU (fun s_ => BX5_atLeast_11 p1 p2 p1_living p1_hour p1_cat p1_nights p1_seed c_peopleMany p1_has_ p1_hours_ np pd r1 s_.1 s_.2.1 s_.2.2.1 s_.2.2.2.1 s_.2.2.2.2.1 s_.2.2.2.2.2.1 s_.2.2.2.2.2.2.1 s_.2.2.2.2.2.2.2.1 s_.2.2.2.2.2.2.2.2) ((0 : Int64), (0 : Int32), g_then_living, g_then_hour, g_then_cat, g_then_nights, g_then_seed, g_then_has_, g_then_hours_)).bind fun r11 =>
  some (r11.1, r1, r11.2.2.2.1, r11.2.2.2.2.1, r11.2.2.2.2.2.1, r11.2.2.2.2.2.2.1, r11.2.2.2.2.2.2.2, r11.2.1, r11.2.2.1)
def MX1_odds (p0 : Int32) (p1 : Int32) (p2 : Bool) (c_peopleMany : Int32) (o_night_all : Int64) (o_town_living : Int32) (o_town_hour : Int32) (o_town_cat : Int32) (o_town_nights : Int32) (o_town_seed : Int32) (o_night_then_living : Int32) (o_night_then_hour : Int32) (o_night_then_cat : Int32) (o_night_then_nights : Int32) (o_night_then_seed : Int32) (o_town_has_ : AI) (o_town_hours_ : AI) (o_night_then_has_ : AI) (o_night_then_hours_ : AI) (np : Nat) (pd : AI) : Option (Int64 × Int32 × Int32 × Int64 × Int32 × Int32 × Int32 × Int32 × Int32 × AI × AI) :=
  (MX1_anew).bind fun r1 =>
  (MX1_isPerson p0 c_peopleMany).bind fun r3 =>
  (MX1_in p1 (0 : Int32) (594 : Int32)).bind fun r5 =>
  (MX1_numberWhy r3 r5).bind fun r7 =>
  if r7 = 0 then
    (MX5_atLeast p0 p1 o_town_living o_town_hour o_town_cat o_town_nights o_town_seed c_peopleMany o_night_then_living o_night_then_hour o_night_then_cat o_night_then_nights o_night_then_seed o_night_then_has_ o_night_then_hours_ o_town_has_ o_town_hours_ np pd).bind fun r10 =>
    (MX1_lowest r10.1 r10.2.1 p2).bind fun r12 =>
    some (r12, r1.1, r1.2, r10.2.1, r10.2.2.1, r10.2.2.2.1, r10.2.2.2.2.1, r10.2.2.2.2.2.1, r10.2.2.2.2.2.2.1, r10.2.2.2.2.2.2.2.1, r10.2.2.2.2.2.2.2.2)
  else
    (MX1_no r7).bind fun r14 =>
    some ((Int32.toInt64 r14.1), r14.2, r1.2, o_night_all, o_night_then_living, o_night_then_hour, o_night_then_cat, o_night_then_nights, o_night_then_seed, o_night_then_has_, o_night_then_hours_)
def BX7_odds_52 (p0 : Int32) (p1 : Int32) (c_people : Int32) (c_dies_ : AI) (m_whole_52 : Int64) (m_x_52 : AI) (m_heir_52 : AI) (x4_52 : Int64) (x6_52 : Int32) (m_catGets_52 : Int32) (m_then_52 : AI) : Option ((Int64 × Int32 × Int32 × AI) ⊕ (Int64 × AI × Int32)) :=
  if (m_x_52 42) < x6_52 then
    some (.inr (x4_52, m_then_52, m_catGets_52))
  else
    if (x6_52 &&& ((m_x_52 42) ^^^ (-1 : Int32))) = 0 then
      (MX7_dying x6_52 c_people m_then_52 m_x_52 m_heir_52).bind fun r13 =>
      gi p0 6 <|
      if (r13.2 (Int32.toNatClampNeg p0)) < p1 then
        some (.inl ((x4_52 + (0 : Int64)), (x6_52 + (1 : Int32)), r13.1, r13.2))
      else
        (MX7_partOf x6_52 c_people m_x_52 c_dies_).bind fun r17 =>
        some (.inl ((x4_52 + r17), (x6_52 + (1 : Int32)), r13.1, r13.2))
    else
      some (.inl (x4_52, (x6_52 + (1 : Int32)), m_catGets_52, m_then_52))
def MX7_odds (p0 : Int32) (p1 : Int32) (p2 : Bool) (m_catGets : Int32) (m_whole : Int64) (c_people : Int32) (m_v_ : AI) (m_x_ : AI) (m_heir_ : AI) (m_then_ : AI) (c_dies_ : AI) : Option (Int64 × Int32 × Int32 × Int32 × Int32 × Int64 × AI × AI × AI) :=
  (MX7_isPerson p0 c_people).bind fun r1 =>
  if (b2i r1) = 0 then
    (MX7_refused (1 : Int32)).bind fun r24 =>
    some ((Int32.toInt64 r24.1), (0 : Int32), r24.2.1, r24.2.2, m_catGets, m_whole, m_x_, m_heir_, m_then_)
  else
    (MX7_in p1 (0 : Int32) (594 : Int32)).bind fun r4 =>
    if (b2i r4) = 0 then
      (MX7_refused (2 : Int32)).bind fun r22 =>
      some ((Int32.toInt64 r22.1), (0 : Int32), r22.2.1, r22.2.2, m_catGets, m_whole, m_x_, m_heir_, m_then_)
    else
      (MX7_worksWithHeirs m_v_ m_x_ c_people m_heir_).bind fun r7 =>
      (MX7_wholeOf c_people r7.1).bind fun r9 =>
      (loopN FU (fun s_ => BX7_odds_52 p0 p1 c_people c_dies_ r9 r7.1 r7.2 s_.1 s_.2.1 s_.2.2.1 s_.2.2.2) ((0 : Int64), (0 : Int32), m_catGets, m_then_)).bind fun r19 =>
      (MX7_fraction r19.1 r9 p2).bind fun r20 =>
      some (r20.1, (0 : Int32), r20.2.1, r20.2.2, r19.2.2, r9, r7.1, r7.2, r19.2.1)
def BX5_passing_11 (p1 : Int32) (p2 : Int32) (p1_living : Int32) (c_peopleMany : Int32) (p1_hours_ : AI) (np : Nat) (pd : AI) (g_all_11 : Int64) (x4_11 : Int64) (x6_11 : Int32) : Option ((Int64 × Int32) ⊕ Int64) :=
  if p1_living < x6_11 then
    some (.inr x4_11)
  else
    if (x6_11 &&& (p1_living ^^^ (-1 : Int32))) = 0 then
      (MX1_has x6_11 p1).bind fun r5 =>
      if (b2i r5) = 0 then
        some (.inl (x4_11, (x6_11 + (1 : Int32))))
      else
        (MX4_goesTo p1 x6_11 p1_living p1_hours_ c_peopleMany).bind fun r8 =>
        if r8 = p2 then
          (MX5_weight x6_11 p1_living c_peopleMany np pd).bind fun r11 =>
          some (.inl ((x4_11 + r11), (x6_11 + (1 : Int32))))
        else
          some (.inl (x4_11, (x6_11 + (1 : Int32))))
    else
      some (.inl (x4_11, (x6_11 + (1 : Int32))))
def MX5_passing (p1 : Int32) (p2 : Int32) (p1_living : Int32) (c_peopleMany : Int32) (p1_hours_ : AI) (np : Nat) (pd : AI) : Option (Int64 × Int64) :=
  (MX5_lay p1_living c_peopleMany).bind fun r1 =>
  (loopN FU (fun s_ => BX5_passing_11 p1 p2 p1_living c_peopleMany p1_hours_ np pd r1 s_.1 s_.2) ((0 : Int64), (0 : Int32))).bind fun r13 =>
  some (r13, r1)
def MX1_passes (p0 : Int32) (p1 : Int32) (p2 : Bool) (c_peopleMany : Int32) (o_night_all : Int64) (o_town_living : Int32) (o_town_hours_ : AI) (np : Nat) (pd : AI) : Option (Int64 × Int32 × Int32 × Int64) :=
  (MX1_anew).bind fun r1 =>
  (MX1_areTwo p0 p1 c_peopleMany).bind fun r3 =>
  if (b2i r3) = 0 then
    (MX1_no (1 : Int32)).bind fun r10 =>
    some ((Int32.toInt64 r10.1), r10.2, r1.2, o_night_all)
  else
    (MX5_passing p0 p1 o_town_living c_peopleMany o_town_hours_ np pd).bind fun r6 =>
    (MX1_lowest r6.1 r6.2 p2).bind fun r8 =>
    some (r8, r1.1, r1.2, r6.2)
def BX7_passes_35 (p0 : Int32) (p1 : Int32) (c_people : Int32) (c_dies_ : AI) (m_whole_35 : Int64) (m_x_35 : AI) (m_heir_35 : AI) (x4_35 : Int64) (x6_35 : Int32) : Option ((Int64 × Int32) ⊕ Int64) :=
  if (m_x_35 42) < x6_35 then
    some (.inr x4_35)
  else
    if (x6_35 &&& ((m_x_35 42) ^^^ (-1 : Int32))) = 0 then
      (MX7_bit x6_35 p0).bind fun r10 =>
      if (b2i r10) = 0 then
        some (.inl (x4_35, (x6_35 + (1 : Int32))))
      else
        (MX7_goes p0 x6_35 m_heir_35).bind fun r13 =>
        if r13 = p1 then
          (MX7_partOf x6_35 c_people m_x_35 c_dies_).bind fun r16 =>
          some (.inl ((x4_35 + r16), (x6_35 + (1 : Int32))))
        else
          some (.inl (x4_35, (x6_35 + (1 : Int32))))
    else
      some (.inl (x4_35, (x6_35 + (1 : Int32))))
def MX7_passes (p0 : Int32) (p1 : Int32) (p2 : Bool) (m_whole : Int64) (c_people : Int32) (m_v_ : AI) (m_x_ : AI) (m_heir_ : AI) (c_dies_ : AI) : Option (Int64 × Int32 × Int32 × Int32 × Int64 × AI × AI) :=
  (MX7_areTwo p0 p1 c_people).bind fun r1 =>
  if (b2i r1) = 0 then
    (MX7_refused (1 : Int32)).bind fun r21 =>
    some ((Int32.toInt64 r21.1), (0 : Int32), r21.2.1, r21.2.2, m_whole, m_x_, m_heir_)
  else
    (MX7_worksWithHeirs m_v_ m_x_ c_people m_heir_).bind fun r4 =>
    (MX7_wholeOf c_people r4.1).bind fun r6 =>
    (loopN FU (fun s_ => BX7_passes_35 p0 p1 c_people c_dies_ r6 r4.1 r4.2 s_.1 s_.2) ((0 : Int64), (0 : Int32))).bind fun r18 =>
    (MX7_fraction r18 r6 p2).bind fun r19 =>
    some (r19.1, (0 : Int32), r19.2.1, r19.2.2, r6, r4.1, r4.2)
def MX1_catMean (p0 : Bool) (c_peopleMany : Int32) (o_town_living : Int32) (o_town_hour : Int32) (o_town_cat : Int32) (o_town_nights : Int32) (o_town_seed : Int32) (o_night_then_living : Int32) (o_night_then_hour : Int32) (o_night_then_cat : Int32) (o_night_then_nights : Int32) (o_night_then_seed : Int32) (o_town_has_ : AI) (o_town_hours_ : AI) (o_night_then_has_ : AI) (o_night_then_hours_ : AI) (np : Nat) (pd : AI) : Option (Int64 × Int32 × Int32 × Int64 × Int32 × Int32 × Int32 × Int32 × Int32 × AI × AI) :=
  (MX1_anew).bind fun r1 =>
  (MX5_sum (-1 : Int32) o_town_living o_town_hour o_town_cat o_town_nights o_town_seed c_peopleMany o_night_then_living o_night_then_hour o_night_then_cat o_night_then_nights o_night_then_seed o_night_then_has_ o_night_then_hours_ o_town_has_ o_town_hours_ np pd).bind fun r3 =>
  (MX1_lowest r3.1 r3.2.1 p0).bind fun r5 =>
  some (r5, r1.1, r1.2, r3.2.1, r3.2.2.1, r3.2.2.2.1, r3.2.2.2.2.1, r3.2.2.2.2.2.1, r3.2.2.2.2.2.2.1, r3.2.2.2.2.2.2.2.1, r3.2.2.2.2.2.2.2.2)
def BX7_catMean_32 (c_people : Int32) (c_dies_ : AI) (m_whole_32 : Int64) (m_x_32 : AI) (m_heir_32 : AI) (x2_32 : Int64) (x4_32 : Int32) (m_catGets_32 : Int32) (m_then_32 : AI) : Option ((Int64 × Int32 × Int32 × AI) ⊕ (Int64 × AI × Int32)) :=
  if (m_x_32 42) < x4_32 then
    some (.inr (x2_32, m_then_32, m_catGets_32))
  else
    if (x4_32 &&& ((m_x_32 42) ^^^ (-1 : Int32))) = 0 then
      (MX7_dying x4_32 c_people m_then_32 m_x_32 m_heir_32).bind fun r7 =>
      (MX7_partOf x4_32 c_people m_x_32 c_dies_).bind fun r9 =>
      some (.inl ((x2_32 + (r9 * (Int32.toInt64 r7.1))), (x4_32 + (1 : Int32)), r7.1, r7.2))
    else
      some (.inl (x2_32, (x4_32 + (1 : Int32)), m_catGets_32, m_then_32))
def MX7_catMean (p0 : Bool) (m_catGets : Int32) (c_people : Int32) (m_v_ : AI) (m_x_ : AI) (m_heir_ : AI) (m_then_ : AI) (c_dies_ : AI) : Option (Int64 × Int32 × Int32 × Int32 × Int32 × Int64 × AI × AI × AI) :=
  (MX7_worksWithHeirs m_v_ m_x_ c_people m_heir_).bind fun r1 =>
  (MX7_wholeOf c_people r1.1).bind fun r3 =>
  (loopN FU (fun s_ => BX7_catMean_32 c_people c_dies_ r3 r1.1 r1.2 s_.1 s_.2.1 s_.2.2.1 s_.2.2.2) ((0 : Int64), (0 : Int32), m_catGets, m_then_)).bind fun r11 =>
  (MX7_fraction r11.1 r3 p0).bind fun r12 =>
  some (r12.1, (0 : Int32), r12.2.1, r12.2.2, r11.2.2, r3, r1.1, r1.2, r11.2.1)
def MX1_planWhy (p0 : Int32) (p1 : Bool) (c_peopleMany : Int32) (o_town_living : Int32) : Option Int32 :=
  (MX1_isPerson p0 c_peopleMany).bind fun r1 =>
  if (b2i r1) = 0 then
    some (1 : Int32)
  else
    if (b2i p1) = 0 then
      some (2 : Int32)
    else
      (MX4_isLiving p0 o_town_living).bind fun r5 =>
      if (b2i r5) = 0 then
        some (5 : Int32)
      else
        some (0 : Int32)
def MX4_asks (p0 : Int32) (p1 : Int32) (t_hour : Int32) (c_gives : Int32) (t_has_ : AI) (t_hours_ : AI) : Option (Int32 × Int32 × AI × AI) :=
  gi p1 6 <|
  gi (((6 : Int32) * p0) + p1) 36 <|
  gi p1 6 <|
  gi p1 6 <|
  lt_ ((t_has_ (Int32.toNatClampNeg p1)) - (minI c_gives (t_has_ (Int32.toNatClampNeg p1)))) fun y5 =>
  gi p0 6 <|
  gi p0 6 <|
  lt_ (((upd t_has_ (Int32.toNatClampNeg p1) y5) (Int32.toNatClampNeg p0)) + (minI c_gives (t_has_ (Int32.toNatClampNeg p1)))) fun y8 =>
  some ((minI c_gives (t_has_ (Int32.toNatClampNeg p1))), (t_hour + (1 : Int32)), (upd (upd t_has_ (Int32.toNatClampNeg p1) y5) (Int32.toNatClampNeg p0) y8), (upd t_hours_ (Int32.toNatClampNeg (((6 : Int32) * p0) + p1)) (t_hour + (1 : Int32))))
def MX6_tries3 (p1 : Int32) (k_person : Int32) (k_many : Int32) (k_row : Int32) (k_most : Int64) (k_towns3_living : Int32) (k_towns3_hour : Int32) (k_towns3_cat : Int32) (k_towns3_nights : Int32) (k_towns3_seed : Int32) (k_night_then_living : Int32) (k_night_then_hour : Int32) (k_night_then_cat : Int32) (k_night_then_nights : Int32) (k_night_then_seed : Int32) (k_towns3_has_ : AI) (k_towns3_hours_ : AI) (c_peopleMany : Int32) (k_night_then_has_ : AI) (k_night_then_hours_ : AI) (np : Nat) (pd : AI) : Option (Int32 × Int64 × Int64 × Int32 × Int32 × Int32 × Int32 × Int32 × AI × AI) :=
  if (3 : Int32) = k_many then
    (MX5_sum k_person k_towns3_living k_towns3_hour k_towns3_cat k_towns3_nights k_towns3_seed c_peopleMany k_night_then_living k_night_then_hour k_night_then_cat k_night_then_nights k_night_then_seed k_night_then_has_ k_night_then_hours_ k_towns3_has_ k_towns3_hours_ np pd).bind fun r2 =>
    if (lg_cmp r2.1 k_most) ≤ 0 then
      some (k_row, (maxL k_most r2.1), r2.2.1, r2.2.2.1, r2.2.2.2.1, r2.2.2.2.2.1, r2.2.2.2.2.2.1, r2.2.2.2.2.2.2.1, r2.2.2.2.2.2.2.2.1, r2.2.2.2.2.2.2.2.2)
    else
      some (p1, (maxL k_most r2.1), r2.2.1, r2.2.2.1, r2.2.2.2.1, r2.2.2.2.2.1, r2.2.2.2.2.2.1, r2.2.2.2.2.2.2.1, r2.2.2.2.2.2.2.2.1, r2.2.2.2.2.2.2.2.2)
  else
    none
def BX6_tries2_91 (p1 : Int32) (k_person : Int32) (k_many : Int32) (k_towns2_living : Int32) (k_towns2_hour : Int32) (k_towns2_cat : Int32) (k_towns2_nights : Int32) (k_towns2_seed : Int32) (k_towns2_has_ : AI) (k_towns2_hours_ : AI) (c_gives : Int32) (c_peopleMany : Int32) (np : Nat) (pk : Nat → Nat) (pd : AI) (pr : AI) (x3_91 : Int32) (k_row_91 : Int32) (k_most_91 : Int64) (k_towns3_living_91 : Int32) (k_towns3_hour_91 : Int32) (k_towns3_cat_91 : Int32) (k_towns3_nights_91 : Int32) (k_towns3_seed_91 : Int32) (k_towns3_has_91 : AI) (k_towns3_hours_91 : AI) (k_night_all_91 : Int64) (k_night_then_living_91 : Int32) (k_night_then_hour_91 : Int32) (k_night_then_cat_91 : Int32) (k_night_then_nights_91 : Int32) (k_night_then_seed_91 : Int32) (k_night_then_has_91 : AI) (k_night_then_hours_91 : AI) : Option ((Int32 × Int32 × Int64 × Int32 × Int32 × Int32 × Int32 × Int32 × AI × AI × Int64 × Int32 × Int32 × Int32 × Int32 × Int32 × AI × AI) ⊕ (AI × AI × AI × AI × Int32 × Int64 × Int32 × Int32 × Int32 × Int32 × Int32 × Int64 × Int32 × Int32 × Int32 × Int32 × Int32)) :=
  if c_peopleMany ≤ x3_91 then
    some (.inr (k_towns3_has_91, k_towns3_hours_91, k_night_then_has_91, k_night_then_hours_91, k_row_91, k_most_91, k_towns3_living_91, k_towns3_hour_91, k_towns3_cat_91, k_towns3_nights_91, k_towns3_seed_91, k_night_all_91, k_night_then_living_91, k_night_then_hour_91, k_night_then_cat_91, k_night_then_nights_91, k_night_then_seed_91))
  else
    (MX4_canAsk k_person x3_91 k_towns2_living np pk pr).bind fun r7 =>
    if (b2i r7) = 0 then
      some (.inl ((x3_91 + (1 : Int32)), k_row_91, k_most_91, k_towns3_living_91, k_towns3_hour_91, k_towns3_cat_91, k_towns3_nights_91, k_towns3_seed_91, k_towns3_has_91, k_towns3_hours_91, k_night_all_91, k_night_then_living_91, k_night_then_hour_91, k_night_then_cat_91, k_night_then_nights_91, k_night_then_seed_91, k_night_then_has_91, k_night_then_hours_91))
    else
      (MX4_become k_towns2_living k_towns2_hour k_towns2_cat k_towns2_nights k_towns2_seed k_towns3_has_91 k_towns2_has_ k_towns3_hours_91 k_towns2_hours_).bind fun r10 =>
      (MX4_asks k_person x3_91 r10.2.1 c_gives r10.2.2.2.2.2.1 r10.2.2.2.2.2.2).bind fun r12 =>
      (MX6_tries3 ((((10 : Int32) * p1) + x3_91) + (1 : Int32)) k_person k_many k_row_91 k_most_91 r10.1 r12.2.1 r10.2.2.1 r10.2.2.2.1 r10.2.2.2.2.1 k_night_then_living_91 k_night_then_hour_91 k_night_then_cat_91 k_night_then_nights_91 k_night_then_seed_91 r12.2.2.1 r12.2.2.2 c_peopleMany k_night_then_has_91 k_night_then_hours_91 np pd).bind fun r14 =>
      some (.inl ((x3_91 + (1 : Int32)), r14.1, r14.2.1, r10.1, r12.2.1, r10.2.2.1, r10.2.2.2.1, r10.2.2.2.2.1, r12.2.2.1, r12.2.2.2, r14.2.2.1, r14.2.2.2.1, r14.2.2.2.2.1, r14.2.2.2.2.2.1, r14.2.2.2.2.2.2.1, r14.2.2.2.2.2.2.2.1, r14.2.2.2.2.2.2.2.2.1, r14.2.2.2.2.2.2.2.2.2))
def MX6_tries2 (p1 : Int32) (k_person : Int32) (k_many : Int32) (k_row : Int32) (k_most : Int64) (k_towns3_living : Int32) (k_towns3_hour : Int32) (k_towns3_cat : Int32) (k_towns3_nights : Int32) (k_towns3_seed : Int32) (k_towns2_living : Int32) (k_towns2_hour : Int32) (k_towns2_cat : Int32) (k_towns2_nights : Int32) (k_towns2_seed : Int32) (k_towns3_has_ : AI) (k_towns3_hours_ : AI) (k_towns2_has_ : AI) (k_towns2_hours_ : AI) (c_gives : Int32) (c_peopleMany : Int32) (k_night_then_living : Int32) (k_night_then_hour : Int32) (k_night_then_cat : Int32) (k_night_then_nights : Int32) (k_night_then_seed : Int32) (k_night_then_has_ : AI) (k_night_then_hours_ : AI) (np : Nat) (pk : Nat → Nat) (pd : AI) (pr : AI) : Option (Int32 × Int64 × Int32 × Int32 × Int32 × Int32 × Int32 × AI × AI × Int64 × Int32 × Int32 × Int32 × Int32 × Int32 × AI × AI) :=
  if (2 : Int32) = k_many then
    (MX5_sum k_person k_towns2_living k_towns2_hour k_towns2_cat k_towns2_nights k_towns2_seed c_peopleMany k_night_then_living k_night_then_hour k_night_then_cat k_night_then_nights k_night_then_seed k_night_then_has_ k_night_then_hours_ k_towns2_has_ k_towns2_hours_ np pd).bind fun r17 =>
    if (lg_cmp r17.1 k_most) ≤ 0 then
      some (k_row, (maxL k_most r17.1), k_towns3_living, k_towns3_hour, k_towns3_cat, k_towns3_nights, k_towns3_seed, k_towns3_has_, k_towns3_hours_, r17.2.1, r17.2.2.1, r17.2.2.2.1, r17.2.2.2.2.1, r17.2.2.2.2.2.1, r17.2.2.2.2.2.2.1, r17.2.2.2.2.2.2.2.1, r17.2.2.2.2.2.2.2.2)
    else
      some (p1, (maxL k_most r17.1), k_towns3_living, k_towns3_hour, k_towns3_cat, k_towns3_nights, k_towns3_seed, k_towns3_has_, k_towns3_hours_, r17.2.1, r17.2.2.1, r17.2.2.2.1, r17.2.2.2.2.1, r17.2.2.2.2.2.1, r17.2.2.2.2.2.2.1, r17.2.2.2.2.2.2.2.1, r17.2.2.2.2.2.2.2.2)
  else
    (MX4_become k_towns2_living k_towns2_hour k_towns2_cat k_towns2_nights k_towns2_seed k_towns3_has_ k_towns2_has_ k_towns3_hours_ k_towns2_hours_).bind fun r2 =>
    (MX6_tries3 ((10 : Int32) * p1) k_person k_many k_row k_most r2.1 r2.2.1 r2.2.2.1 r2.2.2.2.1 r2.2.2.2.2.1 k_night_then_living k_night_then_hour k_night_then_cat k_night_then_nights k_night_then_seed r2.2.2.2.2.2.1 r2.2.2.2.2.2.2 c_peopleMany k_night_then_has_ k_night_then_hours_ np pd).bind fun r4 =>
    (loopN FU (fun s_ => BX6_tries2_91 p1 k_person k_many k_towns2_living k_towns2_hour k_towns2_cat k_towns2_nights k_towns2_seed k_towns2_has_ k_towns2_hours_ c_gives c_peopleMany np pk pd pr s_.1 s_.2.1 s_.2.2.1 s_.2.2.2.1 s_.2.2.2.2.1 s_.2.2.2.2.2.1 s_.2.2.2.2.2.2.1 s_.2.2.2.2.2.2.2.1 s_.2.2.2.2.2.2.2.2.1 s_.2.2.2.2.2.2.2.2.2.1 s_.2.2.2.2.2.2.2.2.2.2.1 s_.2.2.2.2.2.2.2.2.2.2.2.1 s_.2.2.2.2.2.2.2.2.2.2.2.2.1 s_.2.2.2.2.2.2.2.2.2.2.2.2.2.1 s_.2.2.2.2.2.2.2.2.2.2.2.2.2.2.1 s_.2.2.2.2.2.2.2.2.2.2.2.2.2.2.2.1 s_.2.2.2.2.2.2.2.2.2.2.2.2.2.2.2.2.1 s_.2.2.2.2.2.2.2.2.2.2.2.2.2.2.2.2.2) ((0 : Int32), r4.1, r4.2.1, r2.1, r2.2.1, r2.2.2.1, r2.2.2.2.1, r2.2.2.2.2.1, r2.2.2.2.2.2.1, r2.2.2.2.2.2.2, r4.2.2.1, r4.2.2.2.1, r4.2.2.2.2.1, r4.2.2.2.2.2.1, r4.2.2.2.2.2.2.1, r4.2.2.2.2.2.2.2.1, r4.2.2.2.2.2.2.2.2.1, r4.2.2.2.2.2.2.2.2.2)).bind fun r16 =>
    some (r16.2.2.2.2.1, r16.2.2.2.2.2.1, r16.2.2.2.2.2.2.1, r16.2.2.2.2.2.2.2.1, r16.2.2.2.2.2.2.2.2.1, r16.2.2.2.2.2.2.2.2.2.1, r16.2.2.2.2.2.2.2.2.2.2.1, r16.1, r16.2.1, r16.2.2.2.2.2.2.2.2.2.2.2.1, r16.2.2.2.2.2.2.2.2.2.2.2.2.1, r16.2.2.2.2.2.2.2.2.2.2.2.2.2.1, r16.2.2.2.2.2.2.2.2.2.2.2.2.2.2.1, r16.2.2.2.2.2.2.2.2.2.2.2.2.2.2.2.1, r16.2.2.2.2.2.2.2.2.2.2.2.2.2.2.2.2, r16.2.2.1, r16.2.2.2.1)
def BX6_tries1_91 (p1 : Int32) (k_person : Int32) (k_many : Int32) (k_towns1_living : Int32) (k_towns1_hour : Int32) (k_towns1_cat : Int32) (k_towns1_nights : Int32) (k_towns1_seed : Int32) (k_towns1_has_ : AI) (k_towns1_hours_ : AI) (c_gives : Int32) (c_peopleMany : Int32) (np : Nat) (pk : Nat → Nat) (pd : AI) (pr : AI) (x3_91 : Int32) (k_row_91 : Int32) (k_most_91 : Int64) (k_towns2_living_91 : Int32) (k_towns2_hour_91 : Int32) (k_towns2_cat_91 : Int32) (k_towns2_nights_91 : Int32) (k_towns2_seed_91 : Int32) (k_towns2_has_91 : AI) (k_towns2_hours_91 : AI) (k_night_all_91 : Int64) (k_towns3_living_91 : Int32) (k_towns3_hour_91 : Int32) (k_towns3_cat_91 : Int32) (k_towns3_nights_91 : Int32) (k_towns3_seed_91 : Int32) (k_night_then_living_91 : Int32) (k_night_then_hour_91 : Int32) (k_night_then_cat_91 : Int32) (k_night_then_nights_91 : Int32) (k_night_then_seed_91 : Int32) (k_towns3_has_91 : AI) (k_towns3_hours_91 : AI) (k_night_then_has_91 : AI) (k_night_then_hours_91 : AI) : Option ((Int32 × Int32 × Int64 × Int32 × Int32 × Int32 × Int32 × Int32 × AI × AI × Int64 × Int32 × Int32 × Int32 × Int32 × Int32 × Int32 × Int32 × Int32 × Int32 × Int32 × AI × AI × AI × AI) ⊕ (AI × AI × AI × AI × AI × AI × Int32 × Int64 × Int32 × Int32 × Int32 × Int32 × Int32 × Int64 × Int32 × Int32 × Int32 × Int32 × Int32 × Int32 × Int32 × Int32 × Int32 × Int32)) :=
  if c_peopleMany ≤ x3_91 then
    some (.inr (k_towns2_has_91, k_towns2_hours_91, k_towns3_has_91, k_towns3_hours_91, k_night_then_has_91, k_night_then_hours_91, k_row_91, k_most_91, k_towns2_living_91, k_towns2_hour_91, k_towns2_cat_91, k_towns2_nights_91, k_towns2_seed_91, k_night_all_91, k_towns3_living_91, k_towns3_hour_91, k_towns3_cat_91, k_towns3_nights_91, k_towns3_seed_91, k_night_then_living_91, k_night_then_hour_91, k_night_then_cat_91, k_night_then_nights_91, k_night_then_seed_91))
  else
    (MX4_canAsk k_person x3_91 k_towns1_living np pk pr).bind fun r7 =>
    if (b2i r7) = 0 then
      some (.inl ((x3_91 + (1 : Int32)), k_row_91, k_most_91, k_towns2_living_91, k_towns2_hour_91, k_towns2_cat_91, k_towns2_nights_91, k_towns2_seed_91, k_towns2_has_91, k_towns2_hours_91, k_night_all_91, k_towns3_living_91, k_towns3_hour_91, k_towns3_cat_91, k_towns3_nights_91, k_towns3_seed_91, k_night_then_living_91, k_night_then_hour_91, k_night_then_cat_91, k_night_then_nights_91, k_night_then_seed_91, k_towns3_has_91, k_towns3_hours_91, k_night_then_has_91, k_night_then_hours_91))
    else
      (MX4_become k_towns1_living k_towns1_hour k_towns1_cat k_towns1_nights k_towns1_seed k_towns2_has_91 k_towns1_has_ k_towns2_hours_91 k_towns1_hours_).bind fun r10 =>
      (MX4_asks k_person x3_91 r10.2.1 c_gives r10.2.2.2.2.2.1 r10.2.2.2.2.2.2).bind fun r12 =>
      (MX6_tries2 ((((10 : Int32) * p1) + x3_91) + (1 : Int32)) k_person k_many k_row_91 k_most_91 k_towns3_living_91 k_towns3_hour_91 k_towns3_cat_91 k_towns3_nights_91 k_towns3_seed_91 r10.1 r12.2.1 r10.2.2.1 r10.2.2.2.1 r10.2.2.2.2.1 k_towns3_has_91 k_towns3_hours_91 r12.2.2.1 r12.2.2.2 c_gives c_peopleMany k_night_then_living_91 k_night_then_hour_91 k_night_then_cat_91 k_night_then_nights_91 k_night_then_seed_91 k_night_then_has_91 k_night_then_hours_91 np pk pd pr).bind fun r14 =>
      some (.inl ((x3_91 + (1 : Int32)), r14.1, r14.2.1, r10.1, r12.2.1, r10.2.2.1, r10.2.2.2.1, r10.2.2.2.2.1, r12.2.2.1, r12.2.2.2, r14.2.2.2.2.2.2.2.2.2.1, r14.2.2.1, r14.2.2.2.1, r14.2.2.2.2.1, r14.2.2.2.2.2.1, r14.2.2.2.2.2.2.1, r14.2.2.2.2.2.2.2.2.2.2.1, r14.2.2.2.2.2.2.2.2.2.2.2.1, r14.2.2.2.2.2.2.2.2.2.2.2.2.1, r14.2.2.2.2.2.2.2.2.2.2.2.2.2.1, r14.2.2.2.2.2.2.2.2.2.2.2.2.2.2.1, r14.2.2.2.2.2.2.2.1, r14.2.2.2.2.2.2.2.2.1, r14.2.2.2.2.2.2.2.2.2.2.2.2.2.2.2.1, r14.2.2.2.2.2.2.2.2.2.2.2.2.2.2.2.2))
def MX6_tries1 (p1 : Int32) (k_person : Int32) (k_many : Int32) (k_row : Int32) (k_most : Int64) (k_towns2_living : Int32) (k_towns2_hour : Int32) (k_towns2_cat : Int32) (k_towns2_nights : Int32) (k_towns2_seed : Int32) (k_towns1_living : Int32) (k_towns1_hour : Int32) (k_towns1_cat : Int32) (k_towns1_nights : Int32) (k_towns1_seed : Int32) (k_towns2_has_ : AI) (k_towns2_hours_ : AI) (k_towns1_has_ : AI) (k_towns1_hours_ : AI) (c_gives : Int32) (c_peopleMany : Int32) (k_towns3_living : Int32) (k_towns3_hour : Int32) (k_towns3_cat : Int32) (k_towns3_nights : Int32) (k_towns3_seed : Int32) (k_night_then_living : Int32) (k_night_then_hour : Int32) (k_night_then_cat : Int32) (k_night_then_nights : Int32) (k_night_then_seed : Int32) (k_towns3_has_ : AI) (k_towns3_hours_ : AI) (k_night_then_has_ : AI) (k_night_then_hours_ : AI) (np : Nat) (pk : Nat → Nat) (pd : AI) (pr : AI) : Option (Int32 × Int64 × Int32 × Int32 × Int32 × Int32 × Int32 × AI × AI × Int64 × Int32 × Int32 × Int32 × Int32 × Int32 × Int32 × Int32 × Int32 × Int32 × Int32 × AI × AI × AI × AI) :=
  if (1 : Int32) = k_many then
    (MX5_sum k_person k_towns1_living k_towns1_hour k_towns1_cat k_towns1_nights k_towns1_seed c_peopleMany k_night_then_living k_night_then_hour k_night_then_cat k_night_then_nights k_night_then_seed k_night_then_has_ k_night_then_hours_ k_towns1_has_ k_towns1_hours_ np pd).bind fun r17 =>
    if (lg_cmp r17.1 k_most) ≤ 0 then
      some (k_row, (maxL k_most r17.1), k_towns2_living, k_towns2_hour, k_towns2_cat, k_towns2_nights, k_towns2_seed, k_towns2_has_, k_towns2_hours_, r17.2.1, k_towns3_living, k_towns3_hour, k_towns3_cat, k_towns3_nights, k_towns3_seed, r17.2.2.1, r17.2.2.2.1, r17.2.2.2.2.1, r17.2.2.2.2.2.1, r17.2.2.2.2.2.2.1, k_towns3_has_, k_towns3_hours_, r17.2.2.2.2.2.2.2.1, r17.2.2.2.2.2.2.2.2)
    else
      some (p1, (maxL k_most r17.1), k_towns2_living, k_towns2_hour, k_towns2_cat, k_towns2_nights, k_towns2_seed, k_towns2_has_, k_towns2_hours_, r17.2.1, k_towns3_living, k_towns3_hour, k_towns3_cat, k_towns3_nights, k_towns3_seed, r17.2.2.1, r17.2.2.2.1, r17.2.2.2.2.1, r17.2.2.2.2.2.1, r17.2.2.2.2.2.2.1, k_towns3_has_, k_towns3_hours_, r17.2.2.2.2.2.2.2.1, r17.2.2.2.2.2.2.2.2)
  else
    (MX4_become k_towns1_living k_towns1_hour k_towns1_cat k_towns1_nights k_towns1_seed k_towns2_has_ k_towns1_has_ k_towns2_hours_ k_towns1_hours_).bind fun r2 =>
    (MX6_tries2 ((10 : Int32) * p1) k_person k_many k_row k_most k_towns3_living k_towns3_hour k_towns3_cat k_towns3_nights k_towns3_seed r2.1 r2.2.1 r2.2.2.1 r2.2.2.2.1 r2.2.2.2.2.1 k_towns3_has_ k_towns3_hours_ r2.2.2.2.2.2.1 r2.2.2.2.2.2.2 c_gives c_peopleMany k_night_then_living k_night_then_hour k_night_then_cat k_night_then_nights k_night_then_seed k_night_then_has_ k_night_then_hours_ np pk pd pr).bind fun r4 =>
    (loopN FU (fun s_ => BX6_tries1_91 p1 k_person k_many k_towns1_living k_towns1_hour k_towns1_cat k_towns1_nights k_towns1_seed k_towns1_has_ k_towns1_hours_ c_gives c_peopleMany np pk pd pr s_.1 s_.2.1 s_.2.2.1 s_.2.2.2.1 s_.2.2.2.2.1 s_.2.2.2.2.2.1 s_.2.2.2.2.2.2.1 s_.2.2.2.2.2.2.2.1 s_.2.2.2.2.2.2.2.2.1 s_.2.2.2.2.2.2.2.2.2.1 s_.2.2.2.2.2.2.2.2.2.2.1 s_.2.2.2.2.2.2.2.2.2.2.2.1 s_.2.2.2.2.2.2.2.2.2.2.2.2.1 s_.2.2.2.2.2.2.2.2.2.2.2.2.2.1 s_.2.2.2.2.2.2.2.2.2.2.2.2.2.2.1 s_.2.2.2.2.2.2.2.2.2.2.2.2.2.2.2.1 s_.2.2.2.2.2.2.2.2.2.2.2.2.2.2.2.2.1 s_.2.2.2.2.2.2.2.2.2.2.2.2.2.2.2.2.2.1 s_.2.2.2.2.2.2.2.2.2.2.2.2.2.2.2.2.2.2.1 s_.2.2.2.2.2.2.2.2.2.2.2.2.2.2.2.2.2.2.2.1 s_.2.2.2.2.2.2.2.2.2.2.2.2.2.2.2.2.2.2.2.2.1 s_.2.2.2.2.2.2.2.2.2.2.2.2.2.2.2.2.2.2.2.2.2.1 s_.2.2.2.2.2.2.2.2.2.2.2.2.2.2.2.2.2.2.2.2.2.2.1 s_.2.2.2.2.2.2.2.2.2.2.2.2.2.2.2.2.2.2.2.2.2.2.2.1 s_.2.2.2.2.2.2.2.2.2.2.2.2.2.2.2.2.2.2.2.2.2.2.2.2) ((0 : Int32), r4.1, r4.2.1, r2.1, r2.2.1, r2.2.2.1, r2.2.2.2.1, r2.2.2.2.2.1, r2.2.2.2.2.2.1, r2.2.2.2.2.2.2, r4.2.2.2.2.2.2.2.2.2.1, r4.2.2.1, r4.2.2.2.1, r4.2.2.2.2.1, r4.2.2.2.2.2.1, r4.2.2.2.2.2.2.1, r4.2.2.2.2.2.2.2.2.2.2.1, r4.2.2.2.2.2.2.2.2.2.2.2.1, r4.2.2.2.2.2.2.2.2.2.2.2.2.1, r4.2.2.2.2.2.2.2.2.2.2.2.2.2.1, r4.2.2.2.2.2.2.2.2.2.2.2.2.2.2.1, r4.2.2.2.2.2.2.2.1, r4.2.2.2.2.2.2.2.2.1, r4.2.2.2.2.2.2.2.2.2.2.2.2.2.2.2.1, r4.2.2.2.2.2.2.2.2.2.2.2.2.2.2.2.2)).bind fun r16 =>
    some (r16.2.2.2.2.2.2.1, r16.2.2.2.2.2.2.2.1, r16.2.2.2.2.2.2.2.2.1, r16.2.2.2.2.2.2.2.2.2.1, r16.2.2.2.2.2.2.2.2.2.2.1, r16.2.2.2.2.2.2.2.2.2.2.2.1, r16.2.2.2.2.2.2.2.2.2.2.2.2.1, r16.1, r16.2.1, r16.2.2.2.2.2.2.2.2.2.2.2.2.2.1, r16.2.2.2.2.2.2.2.2.2.2.2.2.2.2.1, r16.2.2.2.2.2.2.2.2.2.2.2.2.2.2.2.1, r16.2.2.2.2.2.2.2.2.2.2.2.2.2.2.2.2.1, r16.2.2.2.2.2.2.2.2.2.2.2.2.2.2.2.2.2.1, r16.2.2.2.2.2.2.2.2.2.2.2.2.2.2.2.2.2.2.1, r16.2.2.2.2.2.2.2.2.2.2.2.2.2.2.2.2.2.2.2.1, r16.2.2.2.2.2.2.2.2.2.2.2.2.2.2.2.2.2.2.2.2.1, r16.2.2.2.2.2.2.2.2.2.2.2.2.2.2.2.2.2.2.2.2.2.1, r16.2.2.2.2.2.2.2.2.2.2.2.2.2.2.2.2.2.2.2.2.2.2.1, r16.2.2.2.2.2.2.2.2.2.2.2.2.2.2.2.2.2.2.2.2.2.2.2, r16.2.2.1, r16.2.2.2.1, r16.2.2.2.2.1, r16.2.2.2.2.2.1)
def BX6_tries0_91 (p1 : Int32) (k_person : Int32) (k_many : Int32) (k_towns0_living : Int32) (k_towns0_hour : Int32) (k_towns0_cat : Int32) (k_towns0_nights : Int32) (k_towns0_seed : Int32) (k_towns0_has_ : AI) (k_towns0_hours_ : AI) (c_gives : Int32) (c_peopleMany : Int32) (np : Nat) (pk : Nat → Nat) (pd : AI) (pr : AI) (x3_91 : Int32) (k_row_91 : Int32) (k_most_91 : Int64) (k_towns1_living_91 : Int32) (k_towns1_hour_91 : Int32) (k_towns1_cat_91 : Int32) (k_towns1_nights_91 : Int32) (k_towns1_seed_91 : Int32) (k_towns1_has_91 : AI) (k_towns1_hours_91 : AI) (k_night_all_91 : Int64) (k_towns2_living_91 : Int32) (k_towns2_hour_91 : Int32) (k_towns2_cat_91 : Int32) (k_towns2_nights_91 : Int32) (k_towns2_seed_91 : Int32) (k_towns3_living_91 : Int32) (k_towns3_hour_91 : Int32) (k_towns3_cat_91 : Int32) (k_towns3_nights_91 : Int32) (k_towns3_seed_91 : Int32) (k_night_then_living_91 : Int32) (k_night_then_hour_91 : Int32) (k_night_then_cat_91 : Int32) (k_night_then_nights_91 : Int32) (k_night_then_seed_91 : Int32) (k_towns2_has_91 : AI) (k_towns2_hours_91 : AI) (k_towns3_has_91 : AI) (k_towns3_hours_91 : AI) (k_night_then_has_91 : AI) (k_night_then_hours_91 : AI) : Option ((Int32 × Int32 × Int64 × Int32 × Int32 × Int32 × Int32 × Int32 × AI × AI × Int64 × Int32 × Int32 × Int32 × Int32 × Int32 × Int32 × Int32 × Int32 × Int32 × Int32 × Int32 × Int32 × Int32 × Int32 × Int32 × AI × AI × AI × AI × AI × AI) ⊕ (AI × AI × AI × AI × AI × AI × AI × AI × Int32 × Int64 × Int32 × Int32 × Int32 × Int32 × Int32 × Int64 × Int32 × Int32 × Int32 × Int32 × Int32 × Int32 × Int32 × Int32 × Int32 × Int32 × Int32 × Int32 × Int32 × Int32 × Int32)) :=
  if c_peopleMany ≤ x3_91 then
    some (.inr (k_towns1_has_91, k_towns1_hours_91, k_towns2_has_91, k_towns2_hours_91, k_towns3_has_91, k_towns3_hours_91, k_night_then_has_91, k_night_then_hours_91, k_row_91, k_most_91, k_towns1_living_91, k_towns1_hour_91, k_towns1_cat_91, k_towns1_nights_91, k_towns1_seed_91, k_night_all_91, k_towns2_living_91, k_towns2_hour_91, k_towns2_cat_91, k_towns2_nights_91, k_towns2_seed_91, k_towns3_living_91, k_towns3_hour_91, k_towns3_cat_91, k_towns3_nights_91, k_towns3_seed_91, k_night_then_living_91, k_night_then_hour_91, k_night_then_cat_91, k_night_then_nights_91, k_night_then_seed_91))
  else
    (MX4_canAsk k_person x3_91 k_towns0_living np pk pr).bind fun r7 =>
    if (b2i r7) = 0 then
      some (.inl ((x3_91 + (1 : Int32)), k_row_91, k_most_91, k_towns1_living_91, k_towns1_hour_91, k_towns1_cat_91, k_towns1_nights_91, k_towns1_seed_91, k_towns1_has_91, k_towns1_hours_91, k_night_all_91, k_towns2_living_91, k_towns2_hour_91, k_towns2_cat_91, k_towns2_nights_91, k_towns2_seed_91, k_towns3_living_91, k_towns3_hour_91, k_towns3_cat_91, k_towns3_nights_91, k_towns3_seed_91, k_night_then_living_91, k_night_then_hour_91, k_night_then_cat_91, k_night_then_nights_91, k_night_then_seed_91, k_towns2_has_91, k_towns2_hours_91, k_towns3_has_91, k_towns3_hours_91, k_night_then_has_91, k_night_then_hours_91))
    else
      (MX4_become k_towns0_living k_towns0_hour k_towns0_cat k_towns0_nights k_towns0_seed k_towns1_has_91 k_towns0_has_ k_towns1_hours_91 k_towns0_hours_).bind fun r10 =>
      (MX4_asks k_person x3_91 r10.2.1 c_gives r10.2.2.2.2.2.1 r10.2.2.2.2.2.2).bind fun r12 =>
      (MX6_tries1 ((((10 : Int32) * p1) + x3_91) + (1 : Int32)) k_person k_many k_row_91 k_most_91 k_towns2_living_91 k_towns2_hour_91 k_towns2_cat_91 k_towns2_nights_91 k_towns2_seed_91 r10.1 r12.2.1 r10.2.2.1 r10.2.2.2.1 r10.2.2.2.2.1 k_towns2_has_91 k_towns2_hours_91 r12.2.2.1 r12.2.2.2 c_gives c_peopleMany k_towns3_living_91 k_towns3_hour_91 k_towns3_cat_91 k_towns3_nights_91 k_towns3_seed_91 k_night_then_living_91 k_night_then_hour_91 k_night_then_cat_91 k_night_then_nights_91 k_night_then_seed_91 k_towns3_has_91 k_towns3_hours_91 k_night_then_has_91 k_night_then_hours_91 np pk pd pr).bind fun r14 =>
      some (.inl ((x3_91 + (1 : Int32)), r14.1, r14.2.1, r10.1, r12.2.1, r10.2.2.1, r10.2.2.2.1, r10.2.2.2.2.1, r12.2.2.1, r12.2.2.2, r14.2.2.2.2.2.2.2.2.2.1, r14.2.2.1, r14.2.2.2.1, r14.2.2.2.2.1, r14.2.2.2.2.2.1, r14.2.2.2.2.2.2.1, r14.2.2.2.2.2.2.2.2.2.2.1, r14.2.2.2.2.2.2.2.2.2.2.2.1, r14.2.2.2.2.2.2.2.2.2.2.2.2.1, r14.2.2.2.2.2.2.2.2.2.2.2.2.2.1, r14.2.2.2.2.2.2.2.2.2.2.2.2.2.2.1, r14.2.2.2.2.2.2.2.2.2.2.2.2.2.2.2.1, r14.2.2.2.2.2.2.2.2.2.2.2.2.2.2.2.2.1, r14.2.2.2.2.2.2.2.2.2.2.2.2.2.2.2.2.2.1, r14.2.2.2.2.2.2.2.2.2.2.2.2.2.2.2.2.2.2.1, r14.2.2.2.2.2.2.2.2.2.2.2.2.2.2.2.2.2.2.2.1, r14.2.2.2.2.2.2.2.1, r14.2.2.2.2.2.2.2.2.1, r14.2.2.2.2.2.2.2.2.2.2.2.2.2.2.2.2.2.2.2.2.1, r14.2.2.2.2.2.2.2.2.2.2.2.2.2.2.2.2.2.2.2.2.2.1, r14.2.2.2.2.2.2.2.2.2.2.2.2.2.2.2.2.2.2.2.2.2.2.1, r14.2.2.2.2.2.2.2.2.2.2.2.2.2.2.2.2.2.2.2.2.2.2.2))
def MX6_tries0 (p1 : Int32) (k_person : Int32) (k_many : Int32) (k_row : Int32) (k_most : Int64) (k_towns1_living : Int32) (k_towns1_hour : Int32) (k_towns1_cat : Int32) (k_towns1_nights : Int32) (k_towns1_seed : Int32) (k_towns0_living : Int32) (k_towns0_hour : Int32) (k_towns0_cat : Int32) (k_towns0_nights : Int32) (k_towns0_seed : Int32) (k_towns1_has_ : AI) (k_towns1_hours_ : AI) (k_towns0_has_ : AI) (k_towns0_hours_ : AI) (c_gives : Int32) (c_peopleMany : Int32) (k_towns2_living : Int32) (k_towns2_hour : Int32) (k_towns2_cat : Int32) (k_towns2_nights : Int32) (k_towns2_seed : Int32) (k_towns3_living : Int32) (k_towns3_hour : Int32) (k_towns3_cat : Int32) (k_towns3_nights : Int32) (k_towns3_seed : Int32) (k_night_then_living : Int32) (k_night_then_hour : Int32) (k_night_then_cat : Int32) (k_night_then_nights : Int32) (k_night_then_seed : Int32) (k_towns2_has_ : AI) (k_towns2_hours_ : AI) (k_towns3_has_ : AI) (k_towns3_hours_ : AI) (k_night_then_has_ : AI) (k_night_then_hours_ : AI) (np : Nat) (pk : Nat → Nat) (pd : AI) (pr : AI) : Option (Int32 × Int64 × Int32 × Int32 × Int32 × Int32 × Int32 × AI × AI × Int64 × Int32 × Int32 × Int32 × Int32 × Int32 × Int32 × Int32 × Int32 × Int32 × Int32 × Int32 × Int32 × Int32 × Int32 × Int32 × AI × AI × AI × AI × AI × AI) :=
  if (0 : Int32) = k_many then
    (MX5_sum k_person k_towns0_living k_towns0_hour k_towns0_cat k_towns0_nights k_towns0_seed c_peopleMany k_night_then_living k_night_then_hour k_night_then_cat k_night_then_nights k_night_then_seed k_night_then_has_ k_night_then_hours_ k_towns0_has_ k_towns0_hours_ np pd).bind fun r17 =>
    if (lg_cmp r17.1 k_most) ≤ 0 then
      some (k_row, (maxL k_most r17.1), k_towns1_living, k_towns1_hour, k_towns1_cat, k_towns1_nights, k_towns1_seed, k_towns1_has_, k_towns1_hours_, r17.2.1, k_towns2_living, k_towns2_hour, k_towns2_cat, k_towns2_nights, k_towns2_seed, k_towns3_living, k_towns3_hour, k_towns3_cat, k_towns3_nights, k_towns3_seed, r17.2.2.1, r17.2.2.2.1, r17.2.2.2.2.1, r17.2.2.2.2.2.1, r17.2.2.2.2.2.2.1, k_towns2_has_, k_towns2_hours_, k_towns3_has_, k_towns3_hours_, r17.2.2.2.2.2.2.2.1, r17.2.2.2.2.2.2.2.2)
    else
      some (p1, (maxL k_most r17.1), k_towns1_living, k_towns1_hour, k_towns1_cat, k_towns1_nights, k_towns1_seed, k_towns1_has_, k_towns1_hours_, r17.2.1, k_towns2_living, k_towns2_hour, k_towns2_cat, k_towns2_nights, k_towns2_seed, k_towns3_living, k_towns3_hour, k_towns3_cat, k_towns3_nights, k_towns3_seed, r17.2.2.1, r17.2.2.2.1, r17.2.2.2.2.1, r17.2.2.2.2.2.1, r17.2.2.2.2.2.2.1, k_towns2_has_, k_towns2_hours_, k_towns3_has_, k_towns3_hours_, r17.2.2.2.2.2.2.2.1, r17.2.2.2.2.2.2.2.2)
  else
    (MX4_become k_towns0_living k_towns0_hour k_towns0_cat k_towns0_nights k_towns0_seed k_towns1_has_ k_towns0_has_ k_towns1_hours_ k_towns0_hours_).bind fun r2 =>
    (MX6_tries1 ((10 : Int32) * p1) k_person k_many k_row k_most k_towns2_living k_towns2_hour k_towns2_cat k_towns2_nights k_towns2_seed r2.1 r2.2.1 r2.2.2.1 r2.2.2.2.1 r2.2.2.2.2.1 k_towns2_has_ k_towns2_hours_ r2.2.2.2.2.2.1 r2.2.2.2.2.2.2 c_gives c_peopleMany k_towns3_living k_towns3_hour k_towns3_cat k_towns3_nights k_towns3_seed k_night_then_living k_night_then_hour k_night_then_cat k_night_then_nights k_night_then_seed k_towns3_has_ k_towns3_hours_ k_night_then_has_ k_night_then_hours_ np pk pd pr).bind fun r4 =>
    (loopN FU (fun s_ => BX6_tries0_91 p1 k_person k_many k_towns0_living k_towns0_hour k_towns0_cat k_towns0_nights k_towns0_seed k_towns0_has_ k_towns0_hours_ c_gives c_peopleMany np pk pd pr s_.1 s_.2.1 s_.2.2.1 s_.2.2.2.1 s_.2.2.2.2.1 s_.2.2.2.2.2.1 s_.2.2.2.2.2.2.1 s_.2.2.2.2.2.2.2.1 s_.2.2.2.2.2.2.2.2.1 s_.2.2.2.2.2.2.2.2.2.1 s_.2.2.2.2.2.2.2.2.2.2.1 s_.2.2.2.2.2.2.2.2.2.2.2.1 s_.2.2.2.2.2.2.2.2.2.2.2.2.1 s_.2.2.2.2.2.2.2.2.2.2.2.2.2.1 s_.2.2.2.2.2.2.2.2.2.2.2.2.2.2.1 s_.2.2.2.2.2.2.2.2.2.2.2.2.2.2.2.1 s_.2.2.2.2.2.2.2.2.2.2.2.2.2.2.2.2.1 s_.2.2.2.2.2.2.2.2.2.2.2.2.2.2.2.2.2.1 s_.2.2.2.2.2.2.2.2.2.2.2.2.2.2.2.2.2.2.1 s_.2.2.2.2.2.2.2.2.2.2.2.2.2.2.2.2.2.2.2.1 s_.2.2.2.2.2.2.2.2.2.2.2.2.2.2.2.2.2.2.2.2.1 s_.2.2.2.2.2.2.2.2.2.2.2.2.2.2.2.2.2.2.2.2.2.1 s_.2.2.2.2.2.2.2.2.2.2.2.2.2.2.2.2.2.2.2.2.2.2.1 s_.2.2.2.2.2.2.2.2.2.2.2.2.2.2.2.2.2.2.2.2.2.2.2.1 s_.2.2.2.2.2.2.2.2.2.2.2.2.2.2.2.2.2.2.2.2.2.2.2.2.1 s_.2.2.2.2.2.2.2.2.2.2.2.2.2.2.2.2.2.2.2.2.2.2.2.2.2.1 s_.2.2.2.2.2.2.2.2.2.2.2.2.2.2.2.2.2.2.2.2.2.2.2.2.2.2.1 s_.2.2.2.2.2.2.2.2.2.2.2.2.2.2.2.2.2.2.2.2.2.2.2.2.2.2.2.1 s_.2.2.2.2.2.2.2.2.2.2.2.2.2.2.2.2.2.2.2.2.2.2.2.2.2.2.2.2.1 s_.2.2.2.2.2.2.2.2.2.2.2.2.2.2.2.2.2.2.2.2.2.2.2.2.2.2.2.2.2.1 s_.2.2.2.2.2.2.2.2.2.2.2.2.2.2.2.2.2.2.2.2.2.2.2.2.2.2.2.2.2.2.1 s_.2.2.2.2.2.2.2.2.2.2.2.2.2.2.2.2.2.2.2.2.2.2.2.2.2.2.2.2.2.2.2) ((0 : Int32), r4.1, r4.2.1, r2.1, r2.2.1, r2.2.2.1, r2.2.2.2.1, r2.2.2.2.2.1, r2.2.2.2.2.2.1, r2.2.2.2.2.2.2, r4.2.2.2.2.2.2.2.2.2.1, r4.2.2.1, r4.2.2.2.1, r4.2.2.2.2.1, r4.2.2.2.2.2.1, r4.2.2.2.2.2.2.1, r4.2.2.2.2.2.2.2.2.2.2.1, r4.2.2.2.2.2.2.2.2.2.2.2.1, r4.2.2.2.2.2.2.2.2.2.2.2.2.1, r4.2.2.2.2.2.2.2.2.2.2.2.2.2.1, r4.2.2.2.2.2.2.2.2.2.2.2.2.2.2.1, r4.2.2.2.2.2.2.2.2.2.2.2.2.2.2.2.1, r4.2.2.2.2.2.2.2.2.2.2.2.2.2.2.2.2.1, r4.2.2.2.2.2.2.2.2.2.2.2.2.2.2.2.2.2.1, r4.2.2.2.2.2.2.2.2.2.2.2.2.2.2.2.2.2.2.1, r4.2.2.2.2.2.2.2.2.2.2.2.2.2.2.2.2.2.2.2.1, r4.2.2.2.2.2.2.2.1, r4.2.2.2.2.2.2.2.2.1, r4.2.2.2.2.2.2.2.2.2.2.2.2.2.2.2.2.2.2.2.2.1, r4.2.2.2.2.2.2.2.2.2.2.2.2.2.2.2.2.2.2.2.2.2.1, r4.2.2.2.2.2.2.2.2.2.2.2.2.2.2.2.2.2.2.2.2.2.2.1, r4.2.2.2.2.2.2.2.2.2.2.2.2.2.2.2.2.2.2.2.2.2.2.2)).bind fun r16 =>
    some (r16.2.2.2.2.2.2.2.2.1, r16.2.2.2.2.2.2.2.2.2.1, r16.2.2.2.2.2.2.2.2.2.2.1, r16.2.2.2.2.2.2.2.2.2.2.2.1, r16.2.2.2.2.2.2.2.2.2.2.2.2.1, r16.2.2.2.2.2.2.2.2.2.2.2.2.2.1, r16.2.2.2.2.2.2.2.2.2.2.2.2.2.2.1, r16.1, r16.2.1, r16.2.2.2.2.2.2.2.2.2.2.2.2.2.2.2.1, r16.2.2.2.2.2.2.2.2.2.2.2.2.2.2.2.2.1, r16.2.2.2.2.2.2.2.2.2.2.2.2.2.2.2.2.2.1, r16.2.2.2.2.2.2.2.2.2.2.2.2.2.2.2.2.2.2.1, r16.2.2.2.2.2.2.2.2.2.2.2.2.2.2.2.2.2.2.2.1, r16.2.2.2.2.2.2.2.2.2.2.2.2.2.2.2.2.2.2.2.2.1, r16.2.2.2.2.2.2.2.2.2.2.2.2.2.2.2.2.2.2.2.2.2.1, r16.2.2.2.2.2.2.2.2.2.2.2.2.2.2.2.2.2.2.2.2.2.2.1, r16.2.2.2.2.2.2.2.2.2.2.2.2.2.2.2.2.2.2.2.2.2.2.2.1, r16.2.2.2.2.2.2.2.2.2.2.2.2.2.2.2.2.2.2.2.2.2.2.2.2.1, r16.2.2.2.2.2.2.2.2.2.2.2.2.2.2.2.2.2.2.2.2.2.2.2.2.2.1, r16.2.2.2.2.2.2.2.2.2.2.2.2.2.2.2.2.2.2.2.2.2.2.2.2.2.2.1, r16.2.2.2.2.2.2.2.2.2.2.2.2.2.2.2.2.2.2.2.2.2.2.2.2.2.2.2.1, r16.2.2.2.2.2.2.2.2.2.2.2.2.2.2.2.2.2.2.2.2.2.2.2.2.2.2.2.2.1, r16.2.2.2.2.2.2.2.2.2.2.2.2.2.2.2.2.2.2.2.2.2.2.2.2.2.2.2.2.2.1, r16.2.2.2.2.2.2.2.2.2.2.2.2.2.2.2.2.2.2.2.2.2.2.2.2.2.2.2.2.2.2, r16.2.2.1, r16.2.2.2.1, r16.2.2.2.2.1, r16.2.2.2.2.2.1, r16.2.2.2.2.2.2.1, r16.2.2.2.2.2.2.2.1)
def MX6_best (p1 : Int32) (p2 : Int32) (k_row : Int32) (p1_living : Int32) (p1_hour : Int32) (p1_cat : Int32) (p1_nights : Int32) (p1_seed : Int32) (k_towns0_has_ : AI) (k_towns0_hours_ : AI) (p1_has_ : AI) (p1_hours_ : AI) (c_gives : Int32) (c_peopleMany : Int32) (k_towns1_living : Int32) (k_towns1_hour : Int32) (k_towns1_cat : Int32) (k_towns1_nights : Int32) (k_towns1_seed : Int32) (k_towns2_living : Int32) (k_towns2_hour : Int32) (k_towns2_cat : Int32) (k_towns2_nights : Int32) (k_towns2_seed : Int32) (k_towns3_living : Int32) (k_towns3_hour : Int32) (k_towns3_cat : Int32) (k_towns3_nights : Int32) (k_towns3_seed : Int32) (k_night_then_living : Int32) (k_night_then_hour : Int32) (k_night_then_cat : Int32) (k_night_then_nights : Int32) (k_night_then_seed : Int32) (k_towns1_has_ : AI) (k_towns1_hours_ : AI) (k_towns2_has_ : AI) (k_towns2_hours_ : AI) (k_towns3_has_ : AI) (k_towns3_hours_ : AI) (k_night_then_has_ : AI) (k_night_then_hours_ : AI) (np : Nat) (pk : Nat → Nat) (pd : AI) (pr : AI) : Option (Int32 × Int32 × Int32 × Int64 × Int32 × Int32 × Int32 × Int32 × Int32 × AI × AI × Int64 × Int32 × Int32 × Int32 × Int32 × Int32 × Int32 × Int32 × Int32 × Int32 × Int32 × Int32 × Int32 × Int32 × Int32 × Int32 × Int32 × Int32 × Int32 × Int32 × Int32 × AI × AI × AI × AI × AI × AI × AI × AI) :=
  (MX4_become p1_living p1_hour p1_cat p1_nights p1_seed k_towns0_has_ p1_has_ k_towns0_hours_ p1_hours_).bind fun r1 =>
  (MX6_tries0 (0 : Int32) p1 p2 k_row (-1 : Int64) k_towns1_living k_towns1_hour k_towns1_cat k_towns1_nights k_towns1_seed r1.1 r1.2.1 r1.2.2.1 r1.2.2.2.1 r1.2.2.2.2.1 k_towns1_has_ k_towns1_hours_ r1.2.2.2.2.2.1 r1.2.2.2.2.2.2 c_gives c_peopleMany k_towns2_living k_towns2_hour k_towns2_cat k_towns2_nights k_towns2_seed k_towns3_living k_towns3_hour k_towns3_cat k_towns3_nights k_towns3_seed k_night_then_living k_night_then_hour k_night_then_cat k_night_then_nights k_night_then_seed k_towns2_has_ k_towns2_hours_ k_towns3_has_ k_towns3_hours_ k_night_then_has_ k_night_then_hours_ np pk pd pr).bind fun r3 =>
  some (p1, p2, r3.1, r3.2.1, r1.1, r1.2.1, r1.2.2.1, r1.2.2.2.1, r1.2.2.2.2.1, r1.2.2.2.2.2.1, r1.2.2.2.2.2.2, r3.2.2.2.2.2.2.2.2.2.1, r3.2.2.1, r3.2.2.2.1, r3.2.2.2.2.1, r3.2.2.2.2.2.1, r3.2.2.2.2.2.2.1, r3.2.2.2.2.2.2.2.2.2.2.1, r3.2.2.2.2.2.2.2.2.2.2.2.1, r3.2.2.2.2.2.2.2.2.2.2.2.2.1, r3.2.2.2.2.2.2.2.2.2.2.2.2.2.1, r3.2.2.2.2.2.2.2.2.2.2.2.2.2.2.1, r3.2.2.2.2.2.2.2.2.2.2.2.2.2.2.2.1, r3.2.2.2.2.2.2.2.2.2.2.2.2.2.2.2.2.1, r3.2.2.2.2.2.2.2.2.2.2.2.2.2.2.2.2.2.1, r3.2.2.2.2.2.2.2.2.2.2.2.2.2.2.2.2.2.2.1, r3.2.2.2.2.2.2.2.2.2.2.2.2.2.2.2.2.2.2.2.1, r3.2.2.2.2.2.2.2.2.2.2.2.2.2.2.2.2.2.2.2.2.1, r3.2.2.2.2.2.2.2.2.2.2.2.2.2.2.2.2.2.2.2.2.2.1, r3.2.2.2.2.2.2.2.2.2.2.2.2.2.2.2.2.2.2.2.2.2.2.1, r3.2.2.2.2.2.2.2.2.2.2.2.2.2.2.2.2.2.2.2.2.2.2.2.1, r3.2.2.2.2.2.2.2.2.2.2.2.2.2.2.2.2.2.2.2.2.2.2.2.2.1, r3.2.2.2.2.2.2.2.1, r3.2.2.2.2.2.2.2.2.1, r3.2.2.2.2.2.2.2.2.2.2.2.2.2.2.2.2.2.2.2.2.2.2.2.2.2.1, r3.2.2.2.2.2.2.2.2.2.2.2.2.2.2.2.2.2.2.2.2.2.2.2.2.2.2.1, r3.2.2.2.2.2.2.2.2.2.2.2.2.2.2.2.2.2.2.2.2.2.2.2.2.2.2.2.1, r3.2.2.2.2.2.2.2.2.2.2.2.2.2.2.2.2.2.2.2.2.2.2.2.2.2.2.2.2.1, r3.2.2.2.2.2.2.2.2.2.2.2.2.2.2.2.2.2.2.2.2.2.2.2.2.2.2.2.2.2.1, r3.2.2.2.2.2.2.2.2.2.2.2.2.2.2.2.2.2.2.2.2.2.2.2.2.2.2.2.2.2.2)
def MX1_best (p0 : Int32) (p1 : Int32) (c_gives : Int32) (c_peopleMany : Int32) (o_town_living : Int32) (o_town_hour : Int32) (o_town_cat : Int32) (o_town_nights : Int32) (o_town_seed : Int32) (o_plans_person : Int32) (o_plans_many : Int32) (o_plans_row : Int32) (o_plans_most : Int64) (o_plans_night_all : Int64) (o_town_has_ : AI) (o_town_hours_ : AI) (o_plans_towns0_living : Int32) (o_plans_towns0_hour : Int32) (o_plans_towns0_cat : Int32) (o_plans_towns0_nights : Int32) (o_plans_towns0_seed : Int32) (o_plans_towns1_living : Int32) (o_plans_towns1_hour : Int32) (o_plans_towns1_cat : Int32) (o_plans_towns1_nights : Int32) (o_plans_towns1_seed : Int32) (o_plans_towns2_living : Int32) (o_plans_towns2_hour : Int32) (o_plans_towns2_cat : Int32) (o_plans_towns2_nights : Int32) (o_plans_towns2_seed : Int32) (o_plans_towns3_living : Int32) (o_plans_towns3_hour : Int32) (o_plans_towns3_cat : Int32) (o_plans_towns3_nights : Int32) (o_plans_towns3_seed : Int32) (o_plans_night_then_living : Int32) (o_plans_night_then_hour : Int32) (o_plans_night_then_cat : Int32) (o_plans_night_then_nights : Int32) (o_plans_night_then_seed : Int32) (o_plans_towns0_has_ : AI) (o_plans_towns0_hours_ : AI) (o_plans_towns1_has_ : AI) (o_plans_towns1_hours_ : AI) (o_plans_towns2_has_ : AI) (o_plans_towns2_hours_ : AI) (o_plans_towns3_has_ : AI) (o_plans_towns3_hours_ : AI) (o_plans_night_then_has_ : AI) (o_plans_night_then_hours_ : AI) (np : Nat) (pk : Nat → Nat) (pd : AI) (pr : AI) : Option (Int32 × Int32 × Int32 × Int32 × Int32 × Int32 × Int64 × Int64 × Int32 × Int32 × Int32 × Int32 × Int32 × Int32 × Int32 × Int32 × Int32 × Int32 × Int32 × Int32 × Int32 × Int32 × Int32 × Int32 × Int32 × Int32 × Int32 × Int32 × Int32 × Int32 × Int32 × Int32 × Int32 × AI × AI × AI × AI × AI × AI × AI × AI × AI × AI) :=
  (MX1_anew).bind fun r1 =>
  (MX1_in p1 (1 : Int32) (3 : Int32)).bind fun r3 =>
  (MX1_planWhy p0 r3 c_peopleMany o_town_living).bind fun r5 =>
  if r5 = 0 then
    (MX6_best p0 p1 o_plans_row o_town_living o_town_hour o_town_cat o_town_nights o_town_seed o_plans_towns0_has_ o_plans_towns0_hours_ o_town_has_ o_town_hours_ c_gives c_peopleMany o_plans_towns1_living o_plans_towns1_hour o_plans_towns1_cat o_plans_towns1_nights o_plans_towns1_seed o_plans_towns2_living o_plans_towns2_hour o_plans_towns2_cat o_plans_towns2_nights o_plans_towns2_seed o_plans_towns3_living o_plans_towns3_hour o_plans_towns3_cat o_plans_towns3_nights o_plans_towns3_seed o_plans_night_then_living o_plans_night_then_hour o_plans_night_then_cat o_plans_night_then_nights o_plans_night_then_seed o_plans_towns1_has_ o_plans_towns1_hours_ o_plans_towns2_has_ o_plans_towns2_hours_ o_plans_towns3_has_ o_plans_towns3_hours_ o_plans_night_then_has_ o_plans_night_then_hours_ np pk pd pr).bind fun r8 =>
    some (r8.2.2.1, r1.1, r1.2, r8.1, r8.2.1, r8.2.2.1, r8.2.2.2.1, r8.2.2.2.2.2.2.2.2.2.2.2.1, r8.2.2.2.2.1, r8.2.2.2.2.2.1, r8.2.2.2.2.2.2.1, r8.2.2.2.2.2.2.2.1, r8.2.2.2.2.2.2.2.2.1, r8.2.2.2.2.2.2.2.2.2.2.2.2.1, r8.2.2.2.2.2.2.2.2.2.2.2.2.2.1, r8.2.2.2.2.2.2.2.2.2.2.2.2.2.2.1, r8.2.2.2.2.2.2.2.2.2.2.2.2.2.2.2.1, r8.2.2.2.2.2.2.2.2.2.2.2.2.2.2.2.2.1, r8.2.2.2.2.2.2.2.2.2.2.2.2.2.2.2.2.2.1, r8.2.2.2.2.2.2.2.2.2.2.2.2.2.2.2.2.2.2.1, r8.2.2.2.2.2.2.2.2.2.2.2.2.2.2.2.2.2.2.2.1, r8.2.2.2.2.2.2.2.2.2.2.2.2.2.2.2.2.2.2.2.2.1, r8.2.2.2.2.2.2.2.2.2.2.2.2.2.2.2.2.2.2.2.2.2.1, r8.2.2.2.2.2.2.2.2.2.2.2.2.2.2.2.2.2.2.2.2.2.2.1, r8.2.2.2.2.2.2.2.2.2.2.2.2.2.2.2.2.2.2.2.2.2.2.2.1, r8.2.2.2.2.2.2.2.2.2.2.2.2.2.2.2.2.2.2.2.2.2.2.2.2.1, r8.2.2.2.2.2.2.2.2.2.2.2.2.2.2.2.2.2.2.2.2.2.2.2.2.2.1, r8.2.2.2.2.2.2.2.2.2.2.2.2.2.2.2.2.2.2.2.2.2.2.2.2.2.2.1, r8.2.2.2.2.2.2.2.2.2.2.2.2.2.2.2.2.2.2.2.2.2.2.2.2.2.2.2.1, r8.2.2.2.2.2.2.2.2.2.2.2.2.2.2.2.2.2.2.2.2.2.2.2.2.2.2.2.2.1, r8.2.2.2.2.2.2.2.2.2.2.2.2.2.2.2.2.2.2.2.2.2.2.2.2.2.2.2.2.2.1, r8.2.2.2.2.2.2.2.2.2.2.2.2.2.2.2.2.2.2.2.2.2.2.2.2.2.2.2.2.2.2.1, r8.2.2.2.2.2.2.2.2.2.2.2.2.2.2.2.2.2.2.2.2.2.2.2.2.2.2.2.2.2.2.2.1, r8.2.2.2.2.2.2.2.2.2.1, r8.2.2.2.2.2.2.2.2.2.2.1, r8.2.2.2.2.2.2.2.2.2.2.2.2.2.2.2.2.2.2.2.2.2.2.2.2.2.2.2.2.2.2.2.2.1, r8.2.2.2.2.2.2.2.2.2.2.2.2.2.2.2.2.2.2.2.2.2.2.2.2.2.2.2.2.2.2.2.2.2.1, r8.2.2.2.2.2.2.2.2.2.2.2.2.2.2.2.2.2.2.2.2.2.2.2.2.2.2.2.2.2.2.2.2.2.2.1, r8.2.2.2.2.2.2.2.2.2.2.2.2.2.2.2.2.2.2.2.2.2.2.2.2.2.2.2.2.2.2.2.2.2.2.2.1, r8.2.2.2.2.2.2.2.2.2.2.2.2.2.2.2.2.2.2.2.2.2.2.2.2.2.2.2.2.2.2.2.2.2.2.2.2.1, r8.2.2.2.2.2.2.2.2.2.2.2.2.2.2.2.2.2.2.2.2.2.2.2.2.2.2.2.2.2.2.2.2.2.2.2.2.2.1, r8.2.2.2.2.2.2.2.2.2.2.2.2.2.2.2.2.2.2.2.2.2.2.2.2.2.2.2.2.2.2.2.2.2.2.2.2.2.2.1, r8.2.2.2.2.2.2.2.2.2.2.2.2.2.2.2.2.2.2.2.2.2.2.2.2.2.2.2.2.2.2.2.2.2.2.2.2.2.2.2)
  else
    (MX1_no r5).bind fun r10 =>
    some (r10.1, r10.2, r1.2, o_plans_person, o_plans_many, o_plans_row, o_plans_most, o_plans_night_all, o_plans_towns0_living, o_plans_towns0_hour, o_plans_towns0_cat, o_plans_towns0_nights, o_plans_towns0_seed, o_plans_towns1_living, o_plans_towns1_hour, o_plans_towns1_cat, o_plans_towns1_nights, o_plans_towns1_seed, o_plans_towns2_living, o_plans_towns2_hour, o_plans_towns2_cat, o_plans_towns2_nights, o_plans_towns2_seed, o_plans_towns3_living, o_plans_towns3_hour, o_plans_towns3_cat, o_plans_towns3_nights, o_plans_towns3_seed, o_plans_night_then_living, o_plans_night_then_hour, o_plans_night_then_cat, o_plans_night_then_nights, o_plans_night_then_seed, o_plans_towns0_has_, o_plans_towns0_hours_, o_plans_towns1_has_, o_plans_towns1_hours_, o_plans_towns2_has_, o_plans_towns2_hours_, o_plans_towns3_has_, o_plans_towns3_hours_, o_plans_night_then_has_, o_plans_night_then_hours_)
def MX7_refusesNumber (p0 : Int32) (p1 : Int32) (p2 : Int32) (p3 : Int32) (c_people : Int32) (m_v_ : AI) : Option Int32 :=
  (MX7_isPerson p0 c_people).bind fun r1 =>
  if (b2i r1) = 0 then
    some (1 : Int32)
  else
    (MX7_in p1 p2 p3).bind fun r4 =>
    if (b2i r4) = 0 then
      some (2 : Int32)
    else
      (MX7_bit (m_v_ 42) p0).bind fun r7 =>
      if (b2i r7) = 0 then
        some (5 : Int32)
      else
        some (0 : Int32)
def MX7_asks (p0 : Int32) (p1 : Int32) (m_x_ : AI) (c_gives : Int32) : Option AI :=
  gi (((6 : Int32) + ((6 : Int32) * p0)) + p1) 47 <|
  gi p1 47 <|
  if c_gives ≤ ((upd (upd m_x_ 44 ((m_x_ 44) + (1 : Int32))) (Int32.toNatClampNeg (((6 : Int32) + ((6 : Int32) * p0)) + p1)) ((upd m_x_ 44 ((m_x_ 44) + (1 : Int32))) 44)) (Int32.toNatClampNeg p1)) then
    gi p1 47 <|
    gi p1 47 <|
    lt_ (((upd (upd m_x_ 44 ((m_x_ 44) + (1 : Int32))) (Int32.toNatClampNeg (((6 : Int32) + ((6 : Int32) * p0)) + p1)) ((upd m_x_ 44 ((m_x_ 44) + (1 : Int32))) 44)) (Int32.toNatClampNeg p1)) - c_gives) fun y6 =>
    gi p0 47 <|
    gi p0 47 <|
    lt_ (((upd (upd (upd m_x_ 44 ((m_x_ 44) + (1 : Int32))) (Int32.toNatClampNeg (((6 : Int32) + ((6 : Int32) * p0)) + p1)) ((upd m_x_ 44 ((m_x_ 44) + (1 : Int32))) 44)) (Int32.toNatClampNeg p1) y6) (Int32.toNatClampNeg p0)) + c_gives) fun y9 =>
    some (upd (upd (upd (upd m_x_ 44 ((m_x_ 44) + (1 : Int32))) (Int32.toNatClampNeg (((6 : Int32) + ((6 : Int32) * p0)) + p1)) ((upd m_x_ 44 ((m_x_ 44) + (1 : Int32))) 44)) (Int32.toNatClampNeg p1) y6) (Int32.toNatClampNeg p0) y9)
  else
    gi p1 47 <|
    lt_ ((upd (upd m_x_ 44 ((m_x_ 44) + (1 : Int32))) (Int32.toNatClampNeg (((6 : Int32) + ((6 : Int32) * p0)) + p1)) ((upd m_x_ 44 ((m_x_ 44) + (1 : Int32))) 44)) (Int32.toNatClampNeg p1)) fun y11 =>
    gi p1 47 <|
    gi p1 47 <|
    lt_ (((upd (upd m_x_ 44 ((m_x_ 44) + (1 : Int32))) (Int32.toNatClampNeg (((6 : Int32) + ((6 : Int32) * p0)) + p1)) ((upd m_x_ 44 ((m_x_ 44) + (1 : Int32))) 44)) (Int32.toNatClampNeg p1)) - y11) fun y14 =>
    gi p0 47 <|
    gi p0 47 <|
    lt_ (((upd (upd (upd m_x_ 44 ((m_x_ 44) + (1 : Int32))) (Int32.toNatClampNeg (((6 : Int32) + ((6 : Int32) * p0)) + p1)) ((upd m_x_ 44 ((m_x_ 44) + (1 : Int32))) 44)) (Int32.toNatClampNeg p1) y14) (Int32.toNatClampNeg p0)) + y11) fun y17 =>
    some (upd (upd (upd (upd m_x_ 44 ((m_x_ 44) + (1 : Int32))) (Int32.toNatClampNeg (((6 : Int32) + ((6 : Int32) * p0)) + p1)) ((upd m_x_ 44 ((m_x_ 44) + (1 : Int32))) 44)) (Int32.toNatClampNeg p1) y14) (Int32.toNatClampNeg p0) y17)
def BX7_bestRow_33 (p1 : Int32) (x3_33 : Int32) (x5_33 : Int32) (x4_33 : Int32) (x7_33 : Int32) : Option ((Int32 × Int32) ⊕ Int32) :=
  if p1 ≤ x7_33 then
    some (.inr x4_33)
  else
    some (.inl ((x4_33 * x3_33), (x7_33 + (1 : Int32))))
def BX7_bestRow_78 (p0 : Int32) (p1 : Int32) (c_gives : Int32) (x3_78 : Int32) (x4_78 : Int32) (x5_78 : Int32) (x6_78 : Int32) (x7_78 : Int32) (m_catGets_78 : Int32) (m_whole_78 : Int64) (m_bestSum_78 : Int64) (m_heir_78 : AI) (m_then_78 : AI) (x8_78 : Int32) (x9_78 : Int32) (x10_78 : Bool) (x11_78 : Int32) (m_x_78 : AI) : Option ((Int32 × Int32 × Bool × Int32 × AI) ⊕ (Int32 × Bool × AI)) :=
  if p1 ≤ x11_78 then
    some (.inr (x9_78, x10_78, m_x_78))
  else
    if (b2i x10_78) = 0 then
      some (.inr (x9_78, x10_78, m_x_78))
    else
      gz x3_78 <|
      gz (x8_78 / x3_78) <|
      gz x3_78 <|
      lt_ ((x7_78 / (x8_78 / x3_78)) - (x7_78 / (x8_78 / x3_78)) / x3_78 * x3_78) fun y13 =>
      if y13 = 0 then
        some (.inl ((x8_78 / x3_78), (((10 : Int32) * x9_78) + y13), x10_78, (x11_78 + (1 : Int32)), m_x_78))
      else
        (MX7_bit x5_78 (y13 - (1 : Int32))).bind fun r15 =>
        if (b2i r15) = 0 then
          some (.inl ((x8_78 / x3_78), (((10 : Int32) * x9_78) + y13), r15, (x11_78 + (1 : Int32)), m_x_78))
        else
          (MX7_asks p0 (y13 - (1 : Int32)) m_x_78 c_gives).bind fun r18 =>
          some (.inl ((x8_78 / x3_78), (((10 : Int32) * x9_78) + y13), r15, (x11_78 + (1 : Int32)), r18))
def BX7_bestRow_54 (p0 : Int32) (p1 : Int32) (c_gives : Int32) (c_people : Int32) (m_v_ : AI) (c_dies_ : AI) (x3_54 : Int32) (x4_54 : Int32) (x5_54 : Int32) (x6_54 : Int32) (x7_54 : Int32) (m_catGets_54 : Int32) (m_whole_54 : Int64) (m_bestSum_54 : Int64) (m_x_54 : AI) (m_heir_54 : AI) (m_then_54 : AI) : Option ((Int32 × Int32 × Int32 × Int64 × Int64 × AI × AI × AI) ⊕ (Int32 × AI × AI × AI × Int32 × Int64 × Int64)) :=
  if x4_54 ≤ x7_54 then
    some (.inr (x6_54, m_x_54, m_heir_54, m_then_54, m_catGets_54, m_whole_54, m_bestSum_54))
  else
    (MX7_works m_v_ m_x_54).bind fun r6 =>
    (loopN FU (fun s_ => BX7_bestRow_78 p0 p1 c_gives x3_54 x4_54 x5_54 x6_54 x7_54 m_catGets_54 m_whole_54 m_bestSum_54 m_heir_54 m_then_54 s_.1 s_.2.1 s_.2.2.1 s_.2.2.2.1 s_.2.2.2.2) (x4_54, (0 : Int32), true, (0 : Int32), r6)).bind fun r20 =>
    if (b2i r20.2.1) = 0 then
      some (.inl (x6_54, (x7_54 + (1 : Int32)), m_catGets_54, m_whole_54, m_bestSum_54, r20.2.2, m_heir_54, m_then_54))
    else
      (MX7_meanOf p0 m_catGets_54 c_people r20.2.2 m_heir_54 c_dies_ m_then_54).bind fun r22 =>
      if 0 < (lg_cmp r22.1 m_bestSum_54) then
        some (.inl (r20.1, (x7_54 + (1 : Int32)), r22.2.1, r22.2.2.1, r22.1, r20.2.2, r22.2.2.2.1, r22.2.2.2.2))
      else
        some (.inl (x6_54, (x7_54 + (1 : Int32)), r22.2.1, r22.2.2.1, m_bestSum_54, r20.2.2, r22.2.2.2.1, r22.2.2.2.2))
def MX7_bestRow (p0 : Int32) (p1 : Int32) (m_catGets : Int32) (m_whole : Int64) (c_gives : Int32) (c_people : Int32) (m_v_ : AI) (c_kind_ : AI) (c_near_ : AI) (m_x_ : AI) (m_heir_ : AI) (m_then_ : AI) (c_dies_ : AI) : Option (Int32 × Int32 × Int64 × Int64 × AI × AI × AI) :=
  (MX7_canAsk p0 c_people m_v_ c_kind_ c_near_).bind fun r1 =>
  (loopN FU (fun s_ => BX7_bestRow_33 p1 (c_people + (1 : Int32)) r1 s_.1 s_.2) ((1 : Int32), (0 : Int32))).bind fun r4 =>
  (loopN FU (fun s_ => BX7_bestRow_54 p0 p1 c_gives c_people m_v_ c_dies_ (c_people + (1 : Int32)) r4 r1 s_.1 s_.2.1 s_.2.2.1 s_.2.2.2.1 s_.2.2.2.2.1 s_.2.2.2.2.2.1 s_.2.2.2.2.2.2.1 s_.2.2.2.2.2.2.2) ((0 : Int32), (0 : Int32), m_catGets, m_whole, (-1 : Int64), m_x_, m_heir_, m_then_)).bind fun r25 =>
  some (r25.1, r25.2.2.2.2.1, r25.2.2.2.2.2.1, r25.2.2.2.2.2.2, r25.2.1, r25.2.2.1, r25.2.2.2.1)
def MX7_best (p0 : Int32) (p1 : Int32) (m_catGets : Int32) (m_whole : Int64) (m_bestSum : Int64) (c_gives : Int32) (c_people : Int32) (m_v_ : AI) (m_x_ : AI) (m_heir_ : AI) (m_then_ : AI) (c_kind_ : AI) (c_dies_ : AI) (c_near_ : AI) : Option (Int32 × Int32 × Int32 × Int32 × Int32 × Int64 × Int64 × AI × AI × AI) :=
  (MX7_refusesNumber p0 p1 (1 : Int32) (3 : Int32) c_people m_v_).bind fun r1 =>
  if r1 ≤ 0 then
    (MX7_bestRow p0 p1 m_catGets m_whole c_gives c_people m_v_ c_kind_ c_near_ m_x_ m_heir_ m_then_ c_dies_).bind fun r4 =>
    (MX7_good r4.1).bind fun r6 =>
    some (r6.1, (0 : Int32), r6.2.1, r6.2.2, r4.2.1, r4.2.2.1, r4.2.2.2.1, r4.2.2.2.2.1, r4.2.2.2.2.2.1, r4.2.2.2.2.2.2)
  else
    (MX7_refused r1).bind fun r8 =>
    some (r8.1, (0 : Int32), r8.2.1, r8.2.2, m_catGets, m_whole, m_bestSum, m_x_, m_heir_, m_then_)
def MX1_bestMean (p0 : Int32) (p1 : Int32) (p2 : Bool) (c_gives : Int32) (c_peopleMany : Int32) (o_town_living : Int32) (o_town_hour : Int32) (o_town_cat : Int32) (o_town_nights : Int32) (o_town_seed : Int32) (o_plans_person : Int32) (o_plans_many : Int32) (o_plans_row : Int32) (o_plans_most : Int64) (o_plans_night_all : Int64) (o_town_has_ : AI) (o_town_hours_ : AI) (o_plans_towns0_living : Int32) (o_plans_towns0_hour : Int32) (o_plans_towns0_cat : Int32) (o_plans_towns0_nights : Int32) (o_plans_towns0_seed : Int32) (o_plans_towns1_living : Int32) (o_plans_towns1_hour : Int32) (o_plans_towns1_cat : Int32) (o_plans_towns1_nights : Int32) (o_plans_towns1_seed : Int32) (o_plans_towns2_living : Int32) (o_plans_towns2_hour : Int32) (o_plans_towns2_cat : Int32) (o_plans_towns2_nights : Int32) (o_plans_towns2_seed : Int32) (o_plans_towns3_living : Int32) (o_plans_towns3_hour : Int32) (o_plans_towns3_cat : Int32) (o_plans_towns3_nights : Int32) (o_plans_towns3_seed : Int32) (o_plans_night_then_living : Int32) (o_plans_night_then_hour : Int32) (o_plans_night_then_cat : Int32) (o_plans_night_then_nights : Int32) (o_plans_night_then_seed : Int32) (o_plans_towns0_has_ : AI) (o_plans_towns0_hours_ : AI) (o_plans_towns1_has_ : AI) (o_plans_towns1_hours_ : AI) (o_plans_towns2_has_ : AI) (o_plans_towns2_hours_ : AI) (o_plans_towns3_has_ : AI) (o_plans_towns3_hours_ : AI) (o_plans_night_then_has_ : AI) (o_plans_night_then_hours_ : AI) (np : Nat) (pk : Nat → Nat) (pd : AI) (pr : AI) : Option (Int64 × Int32 × Int32 × Int32 × Int32 × Int32 × Int64 × Int64 × Int32 × Int32 × Int32 × Int32 × Int32 × Int32 × Int32 × Int32 × Int32 × Int32 × Int32 × Int32 × Int32 × Int32 × Int32 × Int32 × Int32 × Int32 × Int32 × Int32 × Int32 × Int32 × Int32 × Int32 × Int32 × AI × AI × AI × AI × AI × AI × AI × AI × AI × AI) :=
  (MX1_anew).bind fun r1 =>
  (MX1_in p1 (1 : Int32) (3 : Int32)).bind fun r3 =>
  (MX1_planWhy p0 r3 c_peopleMany o_town_living).bind fun r5 =>
  if r5 = 0 then
    (MX6_best p0 p1 o_plans_row o_town_living o_town_hour o_town_cat o_town_nights o_town_seed o_plans_towns0_has_ o_plans_towns0_hours_ o_town_has_ o_town_hours_ c_gives c_peopleMany o_plans_towns1_living o_plans_towns1_hour o_plans_towns1_cat o_plans_towns1_nights o_plans_towns1_seed o_plans_towns2_living o_plans_towns2_hour o_plans_towns2_cat o_plans_towns2_nights o_plans_towns2_seed o_plans_towns3_living o_plans_towns3_hour o_plans_towns3_cat o_plans_towns3_nights o_plans_towns3_seed o_plans_night_then_living o_plans_night_then_hour o_plans_night_then_cat o_plans_night_then_nights o_plans_night_then_seed o_plans_towns1_has_ o_plans_towns1_hours_ o_plans_towns2_has_ o_plans_towns2_hours_ o_plans_towns3_has_ o_plans_towns3_hours_ o_plans_night_then_has_ o_plans_night_then_hours_ np pk pd pr).bind fun r8 =>
    (MX1_lowest r8.2.2.2.1 r8.2.2.2.2.2.2.2.2.2.2.2.1 p2).bind fun r10 =>
    some (r10, r1.1, r1.2, r8.1, r8.2.1, r8.2.2.1, r8.2.2.2.1, r8.2.2.2.2.2.2.2.2.2.2.2.1, r8.2.2.2.2.1, r8.2.2.2.2.2.1, r8.2.2.2.2.2.2.1, r8.2.2.2.2.2.2.2.1, r8.2.2.2.2.2.2.2.2.1, r8.2.2.2.2.2.2.2.2.2.2.2.2.1, r8.2.2.2.2.2.2.2.2.2.2.2.2.2.1, r8.2.2.2.2.2.2.2.2.2.2.2.2.2.2.1, r8.2.2.2.2.2.2.2.2.2.2.2.2.2.2.2.1, r8.2.2.2.2.2.2.2.2.2.2.2.2.2.2.2.2.1, r8.2.2.2.2.2.2.2.2.2.2.2.2.2.2.2.2.2.1, r8.2.2.2.2.2.2.2.2.2.2.2.2.2.2.2.2.2.2.1, r8.2.2.2.2.2.2.2.2.2.2.2.2.2.2.2.2.2.2.2.1, r8.2.2.2.2.2.2.2.2.2.2.2.2.2.2.2.2.2.2.2.2.1, r8.2.2.2.2.2.2.2.2.2.2.2.2.2.2.2.2.2.2.2.2.2.1, r8.2.2.2.2.2.2.2.2.2.2.2.2.2.2.2.2.2.2.2.2.2.2.1, r8.2.2.2.2.2.2.2.2.2.2.2.2.2.2.2.2.2.2.2.2.2.2.2.1, r8.2.2.2.2.2.2.2.2.2.2.2.2.2.2.2.2.2.2.2.2.2.2.2.2.1, r8.2.2.2.2.2.2.2.2.2.2.2.2.2.2.2.2.2.2.2.2.2.2.2.2.2.1, r8.2.2.2.2.2.2.2.2.2.2.2.2.2.2.2.2.2.2.2.2.2.2.2.2.2.2.1, r8.2.2.2.2.2.2.2.2.2.2.2.2.2.2.2.2.2.2.2.2.2.2.2.2.2.2.2.1, r8.2.2.2.2.2.2.2.2.2.2.2.2.2.2.2.2.2.2.2.2.2.2.2.2.2.2.2.2.1, r8.2.2.2.2.2.2.2.2.2.2.2.2.2.2.2.2.2.2.2.2.2.2.2.2.2.2.2.2.2.1, r8.2.2.2.2.2.2.2.2.2.2.2.2.2.2.2.2.2.2.2.2.2.2.2.2.2.2.2.2.2.2.1, r8.2.2.2.2.2.2.2.2.2.2.2.2.2.2.2.2.2.2.2.2.2.2.2.2.2.2.2.2.2.2.2.1, r8.2.2.2.2.2.2.2.2.2.1, r8.2.2.2.2.2.2.2.2.2.2.1, r8.2.2.2.2.2.2.2.2.2.2.2.2.2.2.2.2.2.2.2.2.2.2.2.2.2.2.2.2.2.2.2.2.1, r8.2.2.2.2.2.2.2.2.2.2.2.2.2.2.2.2.2.2.2.2.2.2.2.2.2.2.2.2.2.2.2.2.2.1, r8.2.2.2.2.2.2.2.2.2.2.2.2.2.2.2.2.2.2.2.2.2.2.2.2.2.2.2.2.2.2.2.2.2.2.1, r8.2.2.2.2.2.2.2.2.2.2.2.2.2.2.2.2.2.2.2.2.2.2.2.2.2.2.2.2.2.2.2.2.2.2.2.1, r8.2.2.2.2.2.2.2.2.2.2.2.2.2.2.2.2.2.2.2.2.2.2.2.2.2.2.2.2.2.2.2.2.2.2.2.2.1, r8.2.2.2.2.2.2.2.2.2.2.2.2.2.2.2.2.2.2.2.2.2.2.2.2.2.2.2.2.2.2.2.2.2.2.2.2.2.1, r8.2.2.2.2.2.2.2.2.2.2.2.2.2.2.2.2.2.2.2.2.2.2.2.2.2.2.2.2.2.2.2.2.2.2.2.2.2.2.1, r8.2.2.2.2.2.2.2.2.2.2.2.2.2.2.2.2.2.2.2.2.2.2.2.2.2.2.2.2.2.2.2.2.2.2.2.2.2.2.2)
  else
    (MX1_no r5).bind fun r12 =>
    some ((Int32.toInt64 r12.1), r12.2, r1.2, o_plans_person, o_plans_many, o_plans_row, o_plans_most, o_plans_night_all, o_plans_towns0_living, o_plans_towns0_hour, o_plans_towns0_cat, o_plans_towns0_nights, o_plans_towns0_seed, o_plans_towns1_living, o_plans_towns1_hour, o_plans_towns1_cat, o_plans_towns1_nights, o_plans_towns1_seed, o_plans_towns2_living, o_plans_towns2_hour, o_plans_towns2_cat, o_plans_towns2_nights, o_plans_towns2_seed, o_plans_towns3_living, o_plans_towns3_hour, o_plans_towns3_cat, o_plans_towns3_nights, o_plans_towns3_seed, o_plans_night_then_living, o_plans_night_then_hour, o_plans_night_then_cat, o_plans_night_then_nights, o_plans_night_then_seed, o_plans_towns0_has_, o_plans_towns0_hours_, o_plans_towns1_has_, o_plans_towns1_hours_, o_plans_towns2_has_, o_plans_towns2_hours_, o_plans_towns3_has_, o_plans_towns3_hours_, o_plans_night_then_has_, o_plans_night_then_hours_)
def MX7_bestMean (p0 : Int32) (p1 : Int32) (p2 : Bool) (m_catGets : Int32) (m_whole : Int64) (m_bestSum : Int64) (c_gives : Int32) (c_people : Int32) (m_v_ : AI) (m_x_ : AI) (m_heir_ : AI) (m_then_ : AI) (c_kind_ : AI) (c_dies_ : AI) (c_near_ : AI) : Option (Int64 × Int32 × Int32 × Int32 × Int32 × Int64 × Int64 × AI × AI × AI) :=
  (MX7_refusesNumber p0 p1 (1 : Int32) (3 : Int32) c_people m_v_).bind fun r1 =>
  if r1 ≤ 0 then
    (MX7_bestRow p0 p1 m_catGets m_whole c_gives c_people m_v_ c_kind_ c_near_ m_x_ m_heir_ m_then_ c_dies_).bind fun r4 =>
    (MX7_works m_v_ r4.2.2.2.2.1).bind fun r6 =>
    (MX7_wholeOf c_people r6).bind fun r8 =>
    (MX7_fraction r4.2.2.2.1 r8 p2).bind fun r10 =>
    some (r10.1, (0 : Int32), r10.2.1, r10.2.2, r4.2.1, r8, r4.2.2.2.1, r6, r4.2.2.2.2.2.1, r4.2.2.2.2.2.2)
  else
    (MX7_refused r1).bind fun r12 =>
    some ((Int32.toInt64 r12.1), (0 : Int32), r12.2.1, r12.2.2, m_catGets, m_whole, m_bestSum, m_x_, m_heir_, m_then_)
def BX6_apart_31 (c_peopleMany : Int32) (np : Nat) (pr : AI) (x3_31 : Int32) (x4_31 : Int32) (x5_31 : Int32) (x6_31 : Int32) : Option ((Int32 × Int32) ⊕ Int32) :=
  if c_peopleMany ≤ x6_31 then
    some (.inr x5_31)
  else
    (MX1_has x3_31 x6_31).bind fun r6 =>
    if (b2i r6) = 0 then
      some (.inl ((x5_31 ||| (0 : Int32)), (x6_31 + (1 : Int32))))
    else
      gi x6_31 6 <|
      gn (Int32.toNatClampNeg x6_31) np <|
      some (.inl ((x5_31 ||| (pr (Int32.toNatClampNeg x6_31))), (x6_31 + (1 : Int32))))
def BX6_apart_7 (p2 : Int32) (c_peopleMany : Int32) (np : Nat) (pr : AI) (x3_7 : Int32) (x4_7 : Int32) : Option ((Int32 × Int32) ⊕ (Int32 ⊕ Unit)) :=
  if (6 : Int32) ≤ x4_7 then
    some (.inr (.inr ()))
  else
    (MX1_has x3_7 p2).bind fun r2 =>
    if (b2i r2) = 0 then
      (loopN FU (fun s_ => BX6_apart_31 c_peopleMany np pr x3_7 x4_7 s_.1 s_.2) (x3_7, (0 : Int32))).bind fun r11 =>
      some (.inl (r11, (x4_7 + (1 : Int32))))
    else
      some (.inr (.inl x4_7))
def MX6_apart (p1 : Int32) (p2 : Int32) (c_peopleMany : Int32) (np : Nat) (pr : AI) : Option Int32 :=
  (loopN FU (fun s_ => BX6_apart_7 p2 c_peopleMany np pr s_.1 s_.2) (((1 : Int32) <<< (p1 &&& 31)), (0 : Int32))).bind fun r12 => match r12 with
  | .inl z13 =>
    some z13
  | .inr z14 =>
    some (1000000 : Int32)
def BX6_lay_60 (c_peopleMany : Int32) (np : Nat) (pr : AI) (x3_60 : Int32) (x4_60 : Int32) (x6_60 : Int32) (k_reach_60 : AI) (x5_60 : Int32) (x7_60 : Int32) : Option ((Int32 × Int32) ⊕ Int32) :=
  if c_peopleMany ≤ x7_60 then
    some (.inr x5_60)
  else
    (MX1_has x3_60 x4_60).bind fun r8 =>
    if (b2i r8) = 0 then
      some (.inl (x5_60, (x7_60 + (1 : Int32))))
    else
      (MX1_has x6_60 x7_60).bind fun r11 =>
      if (b2i r11) = 0 then
        some (.inl (x5_60, (x7_60 + (1 : Int32))))
      else
        gi (((6 : Int32) * x6_60) + x7_60) 384 <|
        (MX6_apart x7_60 x4_60 c_peopleMany np pr).bind fun r15 =>
        lt_ (minI x5_60 ((k_reach_60 (Int32.toNatClampNeg (((6 : Int32) * x6_60) + x7_60))) + r15)) fun y17 =>
        some (.inl (y17, (x7_60 + (1 : Int32))))
def BX6_lay_11 (p1 : Int32) (c_peopleMany : Int32) (np : Nat) (pr : AI) (x3_11 : Int32) (x4_11 : Int32) (k_reach_11 : AI) : Option ((Int32 × AI) ⊕ AI) :=
  if c_peopleMany ≤ x4_11 then
    some (.inr k_reach_11)
  else
    lt_ (x3_11 &&& (((1 : Int32) <<< (x4_11 &&& 31)) ^^^ (-1 : Int32))) fun y3 =>
    (MX1_has x3_11 x4_11).bind fun r4 =>
    if (b2i r4) = 0 then
      (loopN FU (fun s_ => BX6_lay_60 c_peopleMany np pr x3_11 x4_11 y3 k_reach_11 s_.1 s_.2) ((1000000 : Int32), (0 : Int32))).bind fun r18 =>
      gi (((6 : Int32) * x3_11) + x4_11) 384 <|
      some (.inl ((x4_11 + (1 : Int32)), (upd k_reach_11 (Int32.toNatClampNeg (((6 : Int32) * x3_11) + x4_11)) (minI r18 (1000000 : Int32)))))
    else
      if y3 = 0 then
        (MX6_apart p1 x4_11 c_peopleMany np pr).bind fun r23 =>
        (loopN FU (fun s_ => BX6_lay_60 c_peopleMany np pr x3_11 x4_11 y3 k_reach_11 s_.1 s_.2) (r23, (0 : Int32))).bind fun r25 =>
        gi (((6 : Int32) * x3_11) + x4_11) 384 <|
        some (.inl ((x4_11 + (1 : Int32)), (upd k_reach_11 (Int32.toNatClampNeg (((6 : Int32) * x3_11) + x4_11)) (minI r25 (1000000 : Int32)))))
      else
        (loopN FU (fun s_ => BX6_lay_60 c_peopleMany np pr x3_11 x4_11 y3 k_reach_11 s_.1 s_.2) ((1000000 : Int32), (0 : Int32))).bind fun r21 =>
        gi (((6 : Int32) * x3_11) + x4_11) 384 <|
        some (.inl ((x4_11 + (1 : Int32)), (upd k_reach_11 (Int32.toNatClampNeg (((6 : Int32) * x3_11) + x4_11)) (minI r21 (1000000 : Int32)))))
def BX6_lay_2 (p1 : Int32) (c_peopleMany : Int32) (np : Nat) (pr : AI) (x3_2 : Int32) (k_reach_2 : AI) : Option ((Int32 × AI) ⊕ AI) :=
  if (64 : Int32) ≤ x3_2 then
    some (.inr k_reach_2)
  else
    (loopN FU (fun s_ => BX6_lay_11 p1 c_peopleMany np pr x3_2 s_.1 s_.2) ((0 : Int32), k_reach_2)).bind fun r27 =>
    some (.inl ((x3_2 + (1 : Int32)), r27))
def MX6_lay (p1 : Int32) (c_peopleMany : Int32) (k_reach_ : AI) (np : Nat) (pr : AI) : Option AI :=
  (loopN FU (fun s_ => BX6_lay_2 p1 c_peopleMany np pr s_.1 s_.2) ((0 : Int32), k_reach_)).bind fun r28 =>
  some r28
def BX6_hours_14 (p1 : Int32) (c_peopleMany : Int32) (k_reach_ : AI) (x3_14 : Int32) (x4_14 : Int32) : Option ((Int32 × Int32) ⊕ Int32) :=
  if c_peopleMany ≤ x4_14 then
    some (.inr x3_14)
  else
    (MX1_has p1 x4_14).bind fun r3 =>
    if (b2i r3) = 0 then
      some (.inl ((minI x3_14 (1000000 : Int32)), (x4_14 + (1 : Int32))))
    else
      gi (((6 : Int32) * p1) + x4_14) 384 <|
      lt_ (minI x3_14 (k_reach_ (Int32.toNatClampNeg (((6 : Int32) * p1) + x4_14)))) fun y7 =>
      some (.inl (y7, (x4_14 + (1 : Int32))))
def MX6_hours (p1 : Int32) (c_peopleMany : Int32) (k_reach_ : AI) : Option Int32 :=
  if p1 = 0 then
    (loopN FU (fun s_ => BX6_hours_14 p1 c_peopleMany k_reach_ s_.1 s_.2) ((0 : Int32), (0 : Int32))).bind fun r9 =>
    some r9
  else
    (loopN FU (fun s_ => BX6_hours_14 p1 c_peopleMany k_reach_ s_.1 s_.2) ((1000000 : Int32), (0 : Int32))).bind fun r8 =>
    some r8
def BX6_tour_63 (p1 : Int32) (p1_living : Int32) (c_gives : Int32) (c_peopleMany : Int32) (np : Nat) (pk : Nat → Nat) (pr : AI) (x5_63 : Int64) (x7_63 : Int32) (k_set_63 : Int32) (k_reach_63 : AI) (k_towns0_living_63 : Int32) (k_towns0_cat_63 : Int32) (k_towns0_nights_63 : Int32) (k_towns0_seed_63 : Int32) (k_night_all_63 : Int64) (k_night_then_living_63 : Int32) (k_night_then_hour_63 : Int32) (k_night_then_cat_63 : Int32) (k_night_then_nights_63 : Int32) (k_night_then_seed_63 : Int32) (k_night_then_has_63 : AI) (k_night_then_hours_63 : AI) (x8_63 : Bool) (x9_63 : Int32) (k_towns0_hour_63 : Int32) (k_towns0_has_63 : AI) (k_towns0_hours_63 : AI) : Option ((Bool × Int32 × Int32 × AI × AI) ⊕ (Bool × AI × AI × Int32)) :=
  if c_peopleMany ≤ x9_63 then
    some (.inr (x8_63, k_towns0_has_63, k_towns0_hours_63, k_towns0_hour_63))
  else
    (MX1_has x7_63 x9_63).bind fun r12 =>
    if (b2i r12) = 0 then
      some (.inl (x8_63, (x9_63 + (1 : Int32)), k_towns0_hour_63, k_towns0_has_63, k_towns0_hours_63))
    else
      if (b2i x8_63) = 0 then
        some (.inl (false, (x9_63 + (1 : Int32)), k_towns0_hour_63, k_towns0_has_63, k_towns0_hours_63))
      else
        (MX4_canAsk p1 x9_63 p1_living np pk pr).bind fun r17 =>
        if (b2i r17) = 0 then
          some (.inl (false, (x9_63 + (1 : Int32)), k_towns0_hour_63, k_towns0_has_63, k_towns0_hours_63))
        else
          (MX4_asks p1 x9_63 k_towns0_hour_63 c_gives k_towns0_has_63 k_towns0_hours_63).bind fun r22 =>
          some (.inl (true, (x9_63 + (1 : Int32)), r22.2.1, r22.2.2.1, r22.2.2.2))
def BX6_tour_21 (p1 : Int32) (p2 : Int32) (p1_living : Int32) (p1_hour : Int32) (p1_cat : Int32) (p1_nights : Int32) (p1_seed : Int32) (c_gives : Int32) (c_peopleMany : Int32) (p1_has_ : AI) (p1_hours_ : AI) (np : Nat) (pk : Nat → Nat) (pd : AI) (pr : AI) (k_reach_21 : AI) (x5_21 : Int64) (x7_21 : Int32) (k_set_21 : Int32) (k_towns0_living_21 : Int32) (k_towns0_hour_21 : Int32) (k_towns0_cat_21 : Int32) (k_towns0_nights_21 : Int32) (k_towns0_seed_21 : Int32) (k_towns0_has_21 : AI) (k_towns0_hours_21 : AI) (k_night_all_21 : Int64) (k_night_then_living_21 : Int32) (k_night_then_hour_21 : Int32) (k_night_then_cat_21 : Int32) (k_night_then_nights_21 : Int32) (k_night_then_seed_21 : Int32) (k_night_then_has_21 : AI) (k_night_then_hours_21 : AI) : Option ((Int64 × Int32 × Int32 × Int32 × Int32 × Int32 × Int32 × Int32 × AI × AI × Int64 × Int32 × Int32 × Int32 × Int32 × Int32 × AI × AI) ⊕ (AI × AI × AI × AI × Int32 × Int32 × Int32 × Int32 × Int32 × Int32 × Int64 × Int32 × Int32 × Int32 × Int32 × Int32)) :=
  (MX8_all c_peopleMany).bind fun r3 =>
  if r3 < x7_21 then
    some (.inr (k_towns0_has_21, k_towns0_hours_21, k_night_then_has_21, k_night_then_hours_21, k_set_21, k_towns0_living_21, k_towns0_hour_21, k_towns0_cat_21, k_towns0_nights_21, k_towns0_seed_21, k_night_all_21, k_night_then_living_21, k_night_then_hour_21, k_night_then_cat_21, k_night_then_nights_21, k_night_then_seed_21))
  else
    (MX6_hours x7_21 c_peopleMany k_reach_21).bind fun r6 =>
    if r6 ≤ p2 then
      (MX4_become p1_living p1_hour p1_cat p1_nights p1_seed k_towns0_has_21 p1_has_ k_towns0_hours_21 p1_hours_).bind fun r9 =>
      (loopN FU (fun s_ => BX6_tour_63 p1 p1_living c_gives c_peopleMany np pk pr x5_21 x7_21 k_set_21 k_reach_21 r9.1 r9.2.2.1 r9.2.2.2.1 r9.2.2.2.2.1 k_night_all_21 k_night_then_living_21 k_night_then_hour_21 k_night_then_cat_21 k_night_then_nights_21 k_night_then_seed_21 k_night_then_has_21 k_night_then_hours_21 s_.1 s_.2.1 s_.2.2.1 s_.2.2.2.1 s_.2.2.2.2) (true, (0 : Int32), r9.2.1, r9.2.2.2.2.2.1, r9.2.2.2.2.2.2)).bind fun r24 =>
      if (b2i r24.1) = 0 then
        some (.inl (x5_21, (x7_21 + (1 : Int32)), k_set_21, r9.1, r24.2.2.2, r9.2.2.1, r9.2.2.2.1, r9.2.2.2.2.1, r24.2.1, r24.2.2.1, k_night_all_21, k_night_then_living_21, k_night_then_hour_21, k_night_then_cat_21, k_night_then_nights_21, k_night_then_seed_21, k_night_then_has_21, k_night_then_hours_21))
      else
        (MX5_sum p1 r9.1 r24.2.2.2 r9.2.2.1 r9.2.2.2.1 r9.2.2.2.2.1 c_peopleMany k_night_then_living_21 k_night_then_hour_21 k_night_then_cat_21 k_night_then_nights_21 k_night_then_seed_21 k_night_then_has_21 k_night_then_hours_21 r24.2.1 r24.2.2.1 np pd).bind fun r26 =>
        if 0 < (lg_cmp r26.1 x5_21) then
          (MX5_sum p1 r9.1 r24.2.2.2 r9.2.2.1 r9.2.2.2.1 r9.2.2.2.2.1 c_peopleMany r26.2.2.1 r26.2.2.2.1 r26.2.2.2.2.1 r26.2.2.2.2.2.1 r26.2.2.2.2.2.2.1 r26.2.2.2.2.2.2.2.1 r26.2.2.2.2.2.2.2.2 r24.2.1 r24.2.2.1 np pd).bind fun r29 =>
          some (.inl (r29.1, (x7_21 + (1 : Int32)), x7_21, r9.1, r24.2.2.2, r9.2.2.1, r9.2.2.2.1, r9.2.2.2.2.1, r24.2.1, r24.2.2.1, r29.2.1, r29.2.2.1, r29.2.2.2.1, r29.2.2.2.2.1, r29.2.2.2.2.2.1, r29.2.2.2.2.2.2.1, r29.2.2.2.2.2.2.2.1, r29.2.2.2.2.2.2.2.2))
        else
          some (.inl (x5_21, (x7_21 + (1 : Int32)), k_set_21, r9.1, r24.2.2.2, r9.2.2.1, r9.2.2.2.1, r9.2.2.2.2.1, r24.2.1, r24.2.2.1, r26.2.1, r26.2.2.1, r26.2.2.2.1, r26.2.2.2.2.1, r26.2.2.2.2.2.1, r26.2.2.2.2.2.2.1, r26.2.2.2.2.2.2.2.1, r26.2.2.2.2.2.2.2.2))
    else
      some (.inl (x5_21, (x7_21 + (1 : Int32)), k_set_21, k_towns0_living_21, k_towns0_hour_21, k_towns0_cat_21, k_towns0_nights_21, k_towns0_seed_21, k_towns0_has_21, k_towns0_hours_21, k_night_all_21, k_night_then_living_21, k_night_then_hour_21, k_night_then_cat_21, k_night_then_nights_21, k_night_then_seed_21, k_night_then_has_21, k_night_then_hours_21))
def MX6_tour (p1 : Int32) (p2 : Int32) (k_set : Int32) (p1_living : Int32) (p1_hour : Int32) (p1_cat : Int32) (p1_nights : Int32) (p1_seed : Int32) (c_gives : Int32) (c_peopleMany : Int32) (k_reach_ : AI) (k_towns0_living : Int32) (k_towns0_hour : Int32) (k_towns0_cat : Int32) (k_towns0_nights : Int32) (k_towns0_seed : Int32) (k_towns0_has_ : AI) (k_towns0_hours_ : AI) (p1_has_ : AI) (p1_hours_ : AI) (k_night_all : Int64) (k_night_then_living : Int32) (k_night_then_hour : Int32) (k_night_then_cat : Int32) (k_night_then_nights : Int32) (k_night_then_seed : Int32) (k_night_then_has_ : AI) (k_night_then_hours_ : AI) (np : Nat) (pk : Nat → Nat) (pd : AI) (pr : AI) : Option (Int32 × Int64 × AI × Int32 × Int32 × Int32 × Int32 × Int32 × AI × AI × Int64 × Int32 × Int32 × Int32 × Int32 × Int32 × AI × AI) :=
  (MX6_lay p1 c_peopleMany k_reach_ np pr).bind fun r1 =>
  (loopN FU (fun s_ => BX6_tour_21 p1 p2 p1_living p1_hour p1_cat p1_nights p1_seed c_gives c_peopleMany p1_has_ p1_hours_ np pk pd pr r1 s_.1 s_.2.1 s_.2.2.1 s_.2.2.2.1 s_.2.2.2.2.1 s_.2.2.2.2.2.1 s_.2.2.2.2.2.2.1 s_.2.2.2.2.2.2.2.1 s_.2.2.2.2.2.2.2.2.1 s_.2.2.2.2.2.2.2.2.2.1 s_.2.2.2.2.2.2.2.2.2.2.1 s_.2.2.2.2.2.2.2.2.2.2.2.1 s_.2.2.2.2.2.2.2.2.2.2.2.2.1 s_.2.2.2.2.2.2.2.2.2.2.2.2.2.1 s_.2.2.2.2.2.2.2.2.2.2.2.2.2.2.1 s_.2.2.2.2.2.2.2.2.2.2.2.2.2.2.2.1 s_.2.2.2.2.2.2.2.2.2.2.2.2.2.2.2.2.1 s_.2.2.2.2.2.2.2.2.2.2.2.2.2.2.2.2.2) ((-1 : Int64), (0 : Int32), k_set, k_towns0_living, k_towns0_hour, k_towns0_cat, k_towns0_nights, k_towns0_seed, k_towns0_has_, k_towns0_hours_, k_night_all, k_night_then_living, k_night_then_hour, k_night_then_cat, k_night_then_nights, k_night_then_seed, k_night_then_has_, k_night_then_hours_)).bind fun r31 =>
  (MX6_hours r31.2.2.2.2.1 c_peopleMany r1).bind fun r32 =>
  some (r31.2.2.2.2.1, (Int32.toInt64 r32), r1, r31.2.2.2.2.2.1, r31.2.2.2.2.2.2.1, r31.2.2.2.2.2.2.2.1, r31.2.2.2.2.2.2.2.2.1, r31.2.2.2.2.2.2.2.2.2.1, r31.1, r31.2.1, r31.2.2.2.2.2.2.2.2.2.2.1, r31.2.2.2.2.2.2.2.2.2.2.2.1, r31.2.2.2.2.2.2.2.2.2.2.2.2.1, r31.2.2.2.2.2.2.2.2.2.2.2.2.2.1, r31.2.2.2.2.2.2.2.2.2.2.2.2.2.2.1, r31.2.2.2.2.2.2.2.2.2.2.2.2.2.2.2, r31.2.2.1, r31.2.2.2.1)
def MX1_tour (p0 : Int32) (p1 : Int32) (c_gives : Int32) (c_peopleMany : Int32) (o_town_living : Int32) (o_town_hour : Int32) (o_town_cat : Int32) (o_town_nights : Int32) (o_town_seed : Int32) (o_plans_set : Int32) (o_plans_most : Int64) (o_plans_night_all : Int64) (o_plans_reach_ : AI) (o_town_has_ : AI) (o_town_hours_ : AI) (o_plans_towns0_living : Int32) (o_plans_towns0_hour : Int32) (o_plans_towns0_cat : Int32) (o_plans_towns0_nights : Int32) (o_plans_towns0_seed : Int32) (o_plans_night_then_living : Int32) (o_plans_night_then_hour : Int32) (o_plans_night_then_cat : Int32) (o_plans_night_then_nights : Int32) (o_plans_night_then_seed : Int32) (o_plans_towns0_has_ : AI) (o_plans_towns0_hours_ : AI) (o_plans_night_then_has_ : AI) (o_plans_night_then_hours_ : AI) (np : Nat) (pk : Nat → Nat) (pd : AI) (pr : AI) : Option (Int32 × Int32 × Int32 × Int32 × Int64 × Int64 × AI × Int32 × Int32 × Int32 × Int32 × Int32 × Int32 × Int32 × Int32 × Int32 × Int32 × AI × AI × AI × AI) :=
  (MX1_anew).bind fun r1 =>
  (MX1_in p1 (0 : Int32) (12 : Int32)).bind fun r3 =>
  (MX1_planWhy p0 r3 c_peopleMany o_town_living).bind fun r5 =>
  if r5 = 0 then
    (MX6_tour p0 p1 o_plans_set o_town_living o_town_hour o_town_cat o_town_nights o_town_seed c_gives c_peopleMany o_plans_reach_ o_plans_towns0_living o_plans_towns0_hour o_plans_towns0_cat o_plans_towns0_nights o_plans_towns0_seed o_plans_towns0_has_ o_plans_towns0_hours_ o_town_has_ o_town_hours_ o_plans_night_all o_plans_night_then_living o_plans_night_then_hour o_plans_night_then_cat o_plans_night_then_nights o_plans_night_then_seed o_plans_night_then_has_ o_plans_night_then_hours_ np pk pd pr).bind fun r8 =>
    some (r8.1, r1.1, r1.2, r8.1, r8.2.1, r8.2.2.2.2.2.2.2.2.2.2.1, r8.2.2.1, r8.2.2.2.1, r8.2.2.2.2.1, r8.2.2.2.2.2.1, r8.2.2.2.2.2.2.1, r8.2.2.2.2.2.2.2.1, r8.2.2.2.2.2.2.2.2.2.2.2.1, r8.2.2.2.2.2.2.2.2.2.2.2.2.1, r8.2.2.2.2.2.2.2.2.2.2.2.2.2.1, r8.2.2.2.2.2.2.2.2.2.2.2.2.2.2.1, r8.2.2.2.2.2.2.2.2.2.2.2.2.2.2.2.1, r8.2.2.2.2.2.2.2.2.1, r8.2.2.2.2.2.2.2.2.2.1, r8.2.2.2.2.2.2.2.2.2.2.2.2.2.2.2.2.1, r8.2.2.2.2.2.2.2.2.2.2.2.2.2.2.2.2.2)
  else
    (MX1_no r5).bind fun r10 =>
    some (r10.1, r10.2, r1.2, o_plans_set, o_plans_most, o_plans_night_all, o_plans_reach_, o_plans_towns0_living, o_plans_towns0_hour, o_plans_towns0_cat, o_plans_towns0_nights, o_plans_towns0_seed, o_plans_night_then_living, o_plans_night_then_hour, o_plans_night_then_cat, o_plans_night_then_nights, o_plans_night_then_seed, o_plans_towns0_has_, o_plans_towns0_hours_, o_plans_night_then_has_, o_plans_night_then_hours_)
def BX7_spreads_2 (p0 : Int32) (p1 : Int32) (c_people : Int32) (c_near_ : AI) (x3_2 : Int32) (m_comeThen_2 : AI) : Option ((Int32 × AI) ⊕ AI) :=
  if c_people ≤ x3_2 then
    some (.inr m_comeThen_2)
  else
    (MX7_near p1 c_near_).bind fun r2 =>
    (MX7_bit r2 x3_2).bind fun r4 =>
    if (b2i r4) = 0 then
      some (.inl ((x3_2 + (1 : Int32)), m_comeThen_2))
    else
      gi (p0 ||| ((1 : Int32) <<< (x3_2 &&& 31))) 64 <|
      gi (p0 ||| ((1 : Int32) <<< (x3_2 &&& 31))) 64 <|
      lt_ ((m_comeThen_2 (Int32.toNatClampNeg (p0 ||| ((1 : Int32) <<< (x3_2 &&& 31))))) ||| ((1 : Int32) <<< (x3_2 &&& 31))) fun y9 =>
      some (.inl ((x3_2 + (1 : Int32)), (upd m_comeThen_2 (Int32.toNatClampNeg (p0 ||| ((1 : Int32) <<< (x3_2 &&& 31)))) y9)))
def MX7_spreads (p0 : Int32) (p1 : Int32) (c_people : Int32) (c_near_ : AI) (m_comeThen_ : AI) : Option AI :=
  (loopN FU (fun s_ => BX7_spreads_2 p0 p1 c_people c_near_ s_.1 s_.2) ((0 : Int32), m_comeThen_)).bind fun r10 =>
  some r10
def BX7_hoursBy_3 (x4_3 : Int32) (m_come_3 : AI) : Option ((Int32 × AI) ⊕ AI) :=
  if (64 : Int32) ≤ x4_3 then
    some (.inr m_come_3)
  else
    gi x4_3 64 <|
    some (.inl ((x4_3 + (1 : Int32)), (upd m_come_3 (Int32.toNatClampNeg x4_3) (0 : Int32))))
def BX7_hoursBy_47 (p1 : Int32) (x4_47 : Int32) (m_come_47 : AI) (m_comeThen_47 : AI) (x5_47 : Int32) : Option (Int32 ⊕ (Unit ⊕ Unit)) :=
  if (64 : Int32) ≤ x5_47 then
    some (.inr (.inr ()))
  else
    gi x5_47 64 <|
    if (m_come_47 (Int32.toNatClampNeg x5_47)) = 0 then
      some (.inl (x5_47 + (1 : Int32)))
    else
      if (p1 &&& (x5_47 ^^^ (-1 : Int32))) = 0 then
        some (.inr (.inl ()))
      else
        some (.inl (x5_47 + (1 : Int32)))
def BX7_hoursBy_85 (x4_85 : Int32) (m_come_85 : AI) (x5_85 : Int32) (m_comeThen_85 : AI) : Option ((Int32 × AI) ⊕ AI) :=
  if (64 : Int32) ≤ x5_85 then
    some (.inr m_comeThen_85)
  else
    gi x5_85 64 <|
    some (.inl ((x5_85 + (1 : Int32)), (upd m_comeThen_85 (Int32.toNatClampNeg x5_85) (0 : Int32))))
def BX7_hoursBy_119 (c_people : Int32) (c_near_ : AI) (x4_119 : Int32) (x5_119 : Int32) (m_come_119 : AI) (x6_119 : Int32) (m_comeThen_119 : AI) : Option ((Int32 × AI) ⊕ AI) :=
  if c_people ≤ x6_119 then
    some (.inr m_comeThen_119)
  else
    gi x5_119 64 <|
    (MX7_bit (m_come_119 (Int32.toNatClampNeg x5_119)) x6_119).bind fun r19 =>
    if (b2i r19) = 0 then
      some (.inl ((x6_119 + (1 : Int32)), m_comeThen_119))
    else
      (MX7_spreads x5_119 x6_119 c_people c_near_ m_comeThen_119).bind fun r22 =>
      some (.inl ((x6_119 + (1 : Int32)), r22))
def BX7_hoursBy_109 (c_people : Int32) (c_near_ : AI) (x4_109 : Int32) (m_come_109 : AI) (x5_109 : Int32) (m_comeThen_109 : AI) : Option ((Int32 × AI) ⊕ AI) :=
  if (64 : Int32) ≤ x5_109 then
    some (.inr m_comeThen_109)
  else
    (loopN FU (fun s_ => BX7_hoursBy_119 c_people c_near_ x4_109 x5_109 m_come_109 s_.1 s_.2) ((0 : Int32), m_comeThen_109)).bind fun r24 =>
    some (.inl ((x5_109 + (1 : Int32)), r24))
def BX7_hoursBy_169 (x4_169 : Int32) (m_comeThen_169 : AI) (x5_169 : Int32) (m_come_169 : AI) : Option ((Int32 × AI) ⊕ AI) :=
  if (64 : Int32) ≤ x5_169 then
    some (.inr m_come_169)
  else
    gi x5_169 64 <|
    gi x5_169 64 <|
    some (.inl ((x5_169 + (1 : Int32)), (upd m_come_169 (Int32.toNatClampNeg x5_169) (m_comeThen_169 (Int32.toNatClampNeg x5_169)))))
def BX7_hoursBy_38 (p1 : Int32) (p2 : Int32) (c_people : Int32) (c_near_ : AI) (x4_38 : Int32) (m_come_38 : AI) (m_comeThen_38 : AI) : Option ((Int32 × AI × AI) ⊕ ((Int32 × AI × AI) ⊕ (AI × AI))) :=
  if p2 < x4_38 then
    some (.inr (.inr (m_come_38, m_comeThen_38)))
  else
    (loopN FU (fun s_ => BX7_hoursBy_47 p1 x4_38 m_come_38 m_comeThen_38 s_) (0 : Int32)).bind fun r10 => match r10 with
    | .inl z11 =>
      some (.inr (.inl (x4_38, m_come_38, m_comeThen_38)))
    | .inr z12 =>
      (loopN FU (fun s_ => BX7_hoursBy_85 x4_38 m_come_38 s_.1 s_.2) ((0 : Int32), m_comeThen_38)).bind fun r15 =>
      (loopN FU (fun s_ => BX7_hoursBy_109 c_people c_near_ x4_38 m_come_38 s_.1 s_.2) ((0 : Int32), r15)).bind fun r25 =>
      (loopN FU (fun s_ => BX7_hoursBy_169 x4_38 r25 s_.1 s_.2) ((0 : Int32), m_come_38)).bind fun r29 =>
      some (.inl ((x4_38 + (1 : Int32)), r29, r25))
def MX7_hoursBy (p0 : Int32) (p1 : Int32) (p2 : Int32) (m_come_ : AI) (m_comeThen_ : AI) (c_people : Int32) (c_near_ : AI) : Option (Int32 × AI × AI) :=
  (loopN FU (fun s_ => BX7_hoursBy_3 s_.1 s_.2) ((0 : Int32), m_come_)).bind fun r3 =>
  gi ((1 : Int32) <<< (p0 &&& 31)) 64 <|
  (loopN FU (fun s_ => BX7_hoursBy_38 p1 p2 c_people c_near_ s_.1 s_.2.1 s_.2.2) ((0 : Int32), (upd r3 (Int32.toNatClampNeg ((1 : Int32) <<< (p0 &&& 31))) ((1 : Int32) <<< (p0 &&& 31))), m_comeThen_)).bind fun r30 => match r30 with
  | .inl z31 =>
    some (z31.1, z31.2.1, z31.2.2)
  | .inr z32 =>
    some ((9999 : Int32), z32.1, z32.2)
def BX7_bestTour_63 (p0 : Int32) (c_gives : Int32) (c_people : Int32) (x3_63 : Int32) (x4_63 : Int32) (x5_63 : Int64) (x7_63 : Int32) (x8_63 : Int32) (m_catGets_63 : Int32) (m_whole_63 : Int64) (m_tourHoursNow_63 : Int32) (m_come_63 : AI) (m_comeThen_63 : AI) (m_heir_63 : AI) (m_then_63 : AI) (x9_63 : Int32) (m_x_63 : AI) : Option ((Int32 × AI) ⊕ AI) :=
  if c_people ≤ x9_63 then
    some (.inr m_x_63)
  else
    (MX7_bit x7_63 x9_63).bind fun r11 =>
    if (b2i r11) = 0 then
      some (.inl ((x9_63 + (1 : Int32)), m_x_63))
    else
      (MX7_asks p0 x9_63 m_x_63 c_gives).bind fun r14 =>
      some (.inl ((x9_63 + (1 : Int32)), r14))
def BX7_bestTour_17 (p0 : Int32) (p1 : Int32) (c_gives : Int32) (c_people : Int32) (m_v_ : AI) (c_near_ : AI) (c_dies_ : AI) (x3_17 : Int32) (x4_17 : Int32) (x5_17 : Int64) (x7_17 : Int32) (m_catGets_17 : Int32) (m_whole_17 : Int64) (m_tourHoursNow_17 : Int32) (m_come_17 : AI) (m_comeThen_17 : AI) (m_x_17 : AI) (m_heir_17 : AI) (m_then_17 : AI) : Option ((Int32 × Int64 × Int32 × Int32 × Int64 × Int32 × AI × AI × AI × AI × AI) ⊕ (Int32 × AI × AI × AI × AI × AI × Int32 × Int64 × Int32)) :=
  if x3_17 < x7_17 then
    some (.inr (x4_17, m_come_17, m_comeThen_17, m_x_17, m_heir_17, m_then_17, m_catGets_17, m_whole_17, m_tourHoursNow_17))
  else
    if (x7_17 &&& (x3_17 ^^^ (-1 : Int32))) = 0 then
      (MX7_hoursBy p0 x7_17 p1 m_come_17 m_comeThen_17 c_people c_near_).bind fun r5 =>
      if r5.1 = (9999 : Int32) then
        some (.inl (x4_17, x5_17, (x7_17 + (1 : Int32)), m_catGets_17, m_whole_17, m_tourHoursNow_17, r5.2.1, r5.2.2, m_x_17, m_heir_17, m_then_17))
      else
        (MX7_works m_v_ m_x_17).bind fun r8 =>
        (loopN FU (fun s_ => BX7_bestTour_63 p0 c_gives c_people x3_17 x4_17 x5_17 x7_17 r5.1 m_catGets_17 m_whole_17 m_tourHoursNow_17 r5.2.1 r5.2.2 m_heir_17 m_then_17 s_.1 s_.2) ((0 : Int32), r8)).bind fun r16 =>
        (MX7_meanOf p0 m_catGets_17 c_people r16 m_heir_17 c_dies_ m_then_17).bind fun r17 =>
        if 0 < (lg_cmp r17.1 x5_17) then
          some (.inl (x7_17, r17.1, (x7_17 + (1 : Int32)), r17.2.1, r17.2.2.1, r5.1, r5.2.1, r5.2.2, r16, r17.2.2.2.1, r17.2.2.2.2))
        else
          some (.inl (x4_17, x5_17, (x7_17 + (1 : Int32)), r17.2.1, r17.2.2.1, m_tourHoursNow_17, r5.2.1, r5.2.2, r16, r17.2.2.2.1, r17.2.2.2.2))
    else
      some (.inl (x4_17, x5_17, (x7_17 + (1 : Int32)), m_catGets_17, m_whole_17, m_tourHoursNow_17, m_come_17, m_comeThen_17, m_x_17, m_heir_17, m_then_17))
def MX7_bestTour (p0 : Int32) (p1 : Int32) (m_catGets : Int32) (m_whole : Int64) (m_tourHoursNow : Int32) (c_gives : Int32) (c_people : Int32) (m_v_ : AI) (c_kind_ : AI) (c_near_ : AI) (m_come_ : AI) (m_comeThen_ : AI) (m_x_ : AI) (m_heir_ : AI) (m_then_ : AI) (c_dies_ : AI) : Option (Int32 × Int32 × Int64 × Int32 × AI × AI × AI × AI × AI) :=
  (MX7_canAsk p0 c_people m_v_ c_kind_ c_near_).bind fun r1 =>
  (loopN FU (fun s_ => BX7_bestTour_17 p0 p1 c_gives c_people m_v_ c_near_ c_dies_ r1 s_.1 s_.2.1 s_.2.2.1 s_.2.2.2.1 s_.2.2.2.2.1 s_.2.2.2.2.2.1 s_.2.2.2.2.2.2.1 s_.2.2.2.2.2.2.2.1 s_.2.2.2.2.2.2.2.2.1 s_.2.2.2.2.2.2.2.2.2.1 s_.2.2.2.2.2.2.2.2.2.2) ((0 : Int32), (-1 : Int64), (0 : Int32), m_catGets, m_whole, m_tourHoursNow, m_come_, m_comeThen_, m_x_, m_heir_, m_then_)).bind fun r20 =>
  some (r20.1, r20.2.2.2.2.2.2.1, r20.2.2.2.2.2.2.2.1, r20.2.2.2.2.2.2.2.2, r20.2.1, r20.2.2.1, r20.2.2.2.1, r20.2.2.2.2.1, r20.2.2.2.2.2.1)
def MX7_tour (p0 : Int32) (p1 : Int32) (m_catGets : Int32) (m_whole : Int64) (m_tourHoursNow : Int32) (c_gives : Int32) (c_people : Int32) (m_v_ : AI) (m_x_ : AI) (m_heir_ : AI) (m_then_ : AI) (m_come_ : AI) (m_comeThen_ : AI) (c_kind_ : AI) (c_dies_ : AI) (c_near_ : AI) : Option (Int32 × Int32 × Int32 × Int32 × Int32 × Int64 × Int32 × AI × AI × AI × AI × AI) :=
  (MX7_refusesNumber p0 p1 (0 : Int32) (12 : Int32) c_people m_v_).bind fun r1 =>
  if r1 ≤ 0 then
    (MX7_bestTour p0 p1 m_catGets m_whole m_tourHoursNow c_gives c_people m_v_ c_kind_ c_near_ m_come_ m_comeThen_ m_x_ m_heir_ m_then_ c_dies_).bind fun r4 =>
    (MX7_good r4.1).bind fun r6 =>
    some (r6.1, (0 : Int32), r6.2.1, r6.2.2, r4.2.1, r4.2.2.1, r4.2.2.2.1, r4.2.2.2.2.2.2.1, r4.2.2.2.2.2.2.2.1, r4.2.2.2.2.2.2.2.2, r4.2.2.2.2.1, r4.2.2.2.2.2.1)
  else
    (MX7_refused r1).bind fun r8 =>
    some (r8.1, (0 : Int32), r8.2.1, r8.2.2, m_catGets, m_whole, m_tourHoursNow, m_x_, m_heir_, m_then_, m_come_, m_comeThen_)
def MX1_tourHours (p0 : Int32) (p1 : Int32) (c_gives : Int32) (c_peopleMany : Int32) (o_town_living : Int32) (o_town_hour : Int32) (o_town_cat : Int32) (o_town_nights : Int32) (o_town_seed : Int32) (o_plans_set : Int32) (o_plans_most : Int64) (o_plans_night_all : Int64) (o_plans_reach_ : AI) (o_town_has_ : AI) (o_town_hours_ : AI) (o_plans_towns0_living : Int32) (o_plans_towns0_hour : Int32) (o_plans_towns0_cat : Int32) (o_plans_towns0_nights : Int32) (o_plans_towns0_seed : Int32) (o_plans_night_then_living : Int32) (o_plans_night_then_hour : Int32) (o_plans_night_then_cat : Int32) (o_plans_night_then_nights : Int32) (o_plans_night_then_seed : Int32) (o_plans_towns0_has_ : AI) (o_plans_towns0_hours_ : AI) (o_plans_night_then_has_ : AI) (o_plans_night_then_hours_ : AI) (np : Nat) (pk : Nat → Nat) (pd : AI) (pr : AI) : Option (Int32 × Int32 × Int32 × Int32 × Int64 × Int64 × AI × Int32 × Int32 × Int32 × Int32 × Int32 × Int32 × Int32 × Int32 × Int32 × Int32 × AI × AI × AI × AI) :=
  (MX1_anew).bind fun r1 =>
  (MX1_in p1 (0 : Int32) (12 : Int32)).bind fun r3 =>
  (MX1_planWhy p0 r3 c_peopleMany o_town_living).bind fun r5 =>
  if r5 = 0 then
    (MX6_tour p0 p1 o_plans_set o_town_living o_town_hour o_town_cat o_town_nights o_town_seed c_gives c_peopleMany o_plans_reach_ o_plans_towns0_living o_plans_towns0_hour o_plans_towns0_cat o_plans_towns0_nights o_plans_towns0_seed o_plans_towns0_has_ o_plans_towns0_hours_ o_town_has_ o_town_hours_ o_plans_night_all o_plans_night_then_living o_plans_night_then_hour o_plans_night_then_cat o_plans_night_then_nights o_plans_night_then_seed o_plans_night_then_has_ o_plans_night_then_hours_ np pk pd pr).bind fun r8 =>
    some ((Int64.toInt32 r8.2.1), r1.1, r1.2, r8.1, r8.2.1, r8.2.2.2.2.2.2.2.2.2.2.1, r8.2.2.1, r8.2.2.2.1, r8.2.2.2.2.1, r8.2.2.2.2.2.1, r8.2.2.2.2.2.2.1, r8.2.2.2.2.2.2.2.1, r8.2.2.2.2.2.2.2.2.2.2.2.1, r8.2.2.2.2.2.2.2.2.2.2.2.2.1, r8.2.2.2.2.2.2.2.2.2.2.2.2.2.1, r8.2.2.2.2.2.2.2.2.2.2.2.2.2.2.1, r8.2.2.2.2.2.2.2.2.2.2.2.2.2.2.2.1, r8.2.2.2.2.2.2.2.2.1, r8.2.2.2.2.2.2.2.2.2.1, r8.2.2.2.2.2.2.2.2.2.2.2.2.2.2.2.2.1, r8.2.2.2.2.2.2.2.2.2.2.2.2.2.2.2.2.2)
  else
    (MX1_no r5).bind fun r10 =>
    some (r10.1, r10.2, r1.2, o_plans_set, o_plans_most, o_plans_night_all, o_plans_reach_, o_plans_towns0_living, o_plans_towns0_hour, o_plans_towns0_cat, o_plans_towns0_nights, o_plans_towns0_seed, o_plans_night_then_living, o_plans_night_then_hour, o_plans_night_then_cat, o_plans_night_then_nights, o_plans_night_then_seed, o_plans_towns0_has_, o_plans_towns0_hours_, o_plans_night_then_has_, o_plans_night_then_hours_)
def MX7_tourHours (p0 : Int32) (p1 : Int32) (m_catGets : Int32) (m_whole : Int64) (m_tourHoursNow : Int32) (c_gives : Int32) (c_people : Int32) (m_v_ : AI) (m_x_ : AI) (m_heir_ : AI) (m_then_ : AI) (m_come_ : AI) (m_comeThen_ : AI) (c_kind_ : AI) (c_dies_ : AI) (c_near_ : AI) : Option (Int32 × Int32 × Int32 × Int32 × Int32 × Int64 × Int32 × AI × AI × AI × AI × AI) :=
  (MX7_refusesNumber p0 p1 (0 : Int32) (12 : Int32) c_people m_v_).bind fun r1 =>
  if r1 ≤ 0 then
    (MX7_bestTour p0 p1 m_catGets m_whole m_tourHoursNow c_gives c_people m_v_ c_kind_ c_near_ m_come_ m_comeThen_ m_x_ m_heir_ m_then_ c_dies_).bind fun r4 =>
    (MX7_good r4.2.2.2.1).bind fun r6 =>
    some (r6.1, (0 : Int32), r6.2.1, r6.2.2, r4.2.1, r4.2.2.1, r4.2.2.2.1, r4.2.2.2.2.2.2.1, r4.2.2.2.2.2.2.2.1, r4.2.2.2.2.2.2.2.2, r4.2.2.2.2.1, r4.2.2.2.2.2.1)
  else
    (MX7_refused r1).bind fun r8 =>
    some (r8.1, (0 : Int32), r8.2.1, r8.2.2, m_catGets, m_whole, m_tourHoursNow, m_x_, m_heir_, m_then_, m_come_, m_comeThen_)
def MX1_apart (p0 : Int32) (p1 : Int32) (c_peopleMany : Int32) (np : Nat) (pr : AI) : Option (Int32 × Int32 × Int32) :=
  (MX1_anew).bind fun r1 =>
  (MX1_isPerson p0 c_peopleMany).bind fun r3 =>
  if (b2i r3) = 0 then
    (MX1_no (1 : Int32)).bind fun r6 =>
    some (r6.1, r6.2, r1.2)
  else
    (MX1_isPerson p1 c_peopleMany).bind fun r8 =>
    if (b2i r8) = 0 then
      (MX1_no (1 : Int32)).bind fun r14 =>
      some (r14.1, r14.2, r1.2)
    else
      (MX6_apart p0 p1 c_peopleMany np pr).bind fun r11 =>
      if r11 = (1000000 : Int32) then
        some ((-2 : Int32), r1.1, r1.2)
      else
        some (r11, r1.1, r1.2)
def MX7_apart (p0 : Int32) (p1 : Int32) (c_people : Int32) (m_come_ : AI) (m_comeThen_ : AI) (c_near_ : AI) : Option (Int32 × Int32 × Int32 × Int32 × AI × AI) :=
  (MX7_isPerson p0 c_people).bind fun r1 =>
  if (b2i r1) = 0 then
    (MX7_refused (1 : Int32)).bind fun r4 =>
    some (r4.1, (0 : Int32), r4.2.1, r4.2.2, m_come_, m_comeThen_)
  else
    (MX7_isPerson p1 c_people).bind fun r6 =>
    if (b2i r6) = 0 then
      (MX7_refused (1 : Int32)).bind fun r16 =>
      some (r16.1, (0 : Int32), r16.2.1, r16.2.2, m_come_, m_comeThen_)
    else
      (MX7_hoursBy p0 ((1 : Int32) <<< (p1 &&& 31)) (6 : Int32) m_come_ m_comeThen_ c_people c_near_).bind fun r9 =>
      if r9.1 = (9999 : Int32) then
        (MX7_good (-2 : Int32)).bind fun r14 =>
        some (r14.1, (0 : Int32), r14.2.1, r14.2.2, r9.2.1, r9.2.2)
      else
        (MX7_good r9.1).bind fun r12 =>
        some (r12.1, (0 : Int32), r12.2.1, r12.2.2, r9.2.1, r9.2.2)
def BX1_toAsk_38 (c_peopleMany : Int32) (o_town_has_ : AI) (x2_38 : Int32) (o_trouble_38 : Int32) (o_where_38 : Int32) (x3_38 : Int32) (x4_38 : Int32) : Option ((Int32 × Int32) ⊕ Int32) :=
  if c_peopleMany ≤ x4_38 then
    some (.inr x3_38)
  else
    (MX1_has x2_38 x4_38).bind fun r11 =>
    if (b2i r11) = 0 then
      some (.inl (x3_38, (x4_38 + (1 : Int32))))
    else
      if x3_38 = (-2 : Int32) then
        some (.inl (x4_38, (x4_38 + (1 : Int32))))
      else
        gi x4_38 6 <|
        gi x3_38 6 <|
        if (o_town_has_ (Int32.toNatClampNeg x4_38)) ≤ (o_town_has_ (Int32.toNatClampNeg x3_38)) then
          some (.inl (x3_38, (x4_38 + (1 : Int32))))
        else
          some (.inl (x4_38, (x4_38 + (1 : Int32))))
def MX1_toAsk (p0 : Int32) (c_peopleMany : Int32) (o_town_living : Int32) (o_town_hours_ : AI) (o_town_has_ : AI) (np : Nat) (pk : Nat → Nat) (pr : AI) : Option (Int32 × Int32 × Int32) :=
  (MX1_anew).bind fun r1 =>
  (MX1_isPerson p0 c_peopleMany).bind fun r3 =>
  if (b2i r3) = 0 then
    (MX1_no (1 : Int32)).bind fun r19 =>
    some (r19.1, r19.2, r1.2)
  else
    (MX1_askable p0 c_peopleMany o_town_living np pk pr).bind fun r6 =>
    (MX1_heirTos p0 c_peopleMany o_town_living o_town_hours_).bind fun r8 =>
    (loopN FU (fun s_ => BX1_toAsk_38 c_peopleMany o_town_has_ (r6 &&& (r8 ^^^ (-1 : Int32))) r1.1 r1.2 s_.1 s_.2) ((-2 : Int32), (0 : Int32))).bind fun r18 =>
    some (r18, r1.1, r1.2)
def BX7_toAsk_35 (p0 : Int32) (c_people : Int32) (m_v_ : AI) (x2_35 : Int32) (m_x_35 : AI) (x3_35 : Int32) (x4_35 : Int32) : Option ((Int32 × Int32) ⊕ Int32) :=
  if c_people ≤ x4_35 then
    some (.inr x3_35)
  else
    (MX7_bit x2_35 x4_35).bind fun r9 =>
    if (b2i r9) = 0 then
      some (.inl (x3_35, (x4_35 + (1 : Int32))))
    else
      (MX7_heirOf x4_35 c_people m_x_35).bind fun r12 =>
      if r12 = p0 then
        some (.inl (x3_35, (x4_35 + (1 : Int32))))
      else
        if x3_35 = (-2 : Int32) then
          some (.inl (x4_35, (x4_35 + (1 : Int32))))
        else
          gi x4_35 47 <|
          gi x3_35 47 <|
          if (m_v_ (Int32.toNatClampNeg x4_35)) ≤ (m_v_ (Int32.toNatClampNeg x3_35)) then
            some (.inl (x3_35, (x4_35 + (1 : Int32))))
          else
            some (.inl (x4_35, (x4_35 + (1 : Int32))))
def MX7_toAsk (p0 : Int32) (c_people : Int32) (m_v_ : AI) (m_x_ : AI) (c_kind_ : AI) (c_near_ : AI) : Option (Int32 × Int32 × Int32 × Int32 × AI) :=
  (MX7_isPerson p0 c_people).bind fun r1 =>
  if (b2i r1) = 0 then
    (MX7_refused (1 : Int32)).bind fun r22 =>
    some (r22.1, (0 : Int32), r22.2.1, r22.2.2, m_x_)
  else
    (MX7_works m_v_ m_x_).bind fun r4 =>
    (MX7_canAsk p0 c_people m_v_ c_kind_ c_near_).bind fun r6 =>
    (loopN FU (fun s_ => BX7_toAsk_35 p0 c_people m_v_ r6 r4 s_.1 s_.2) ((-2 : Int32), (0 : Int32))).bind fun r19 =>
    (MX7_good r19).bind fun r20 =>
    some (r20.1, (0 : Int32), r20.2.1, r20.2.2, r4)
def MX1_isAhead (p0 : Int32) (p1 : Int32) (p2 : Int32) (o_town_hours_ : AI) : Option Bool :=
  (MX4_hourOf p0 p2 o_town_hours_).bind fun r1 =>
  (MX4_hourOf p1 p2 o_town_hours_).bind fun r3 =>
  if r3 < r1 then
    some true
  else
    if r1 = r3 then
      if p1 ≤ p0 then
        some false
      else
        some true
    else
      some false
def BX1_rivals_67 (p0 : Int32) (p1 : Int32) (c_peopleMany : Int32) (o_town_living : Int32) (o_town_hours_ : AI) (o_trouble_67 : Int32) (o_where_67 : Int32) (x3_67 : Int32) (x4_67 : Int32) : Option ((Int32 × Int32) ⊕ Int32) :=
  if c_peopleMany ≤ x4_67 then
    some (.inr x3_67)
  else
    if x4_67 = p0 then
      some (.inl ((x3_67 ||| (0 : Int32)), (x4_67 + (1 : Int32))))
    else
      if x4_67 = p1 then
        some (.inl ((x3_67 ||| (0 : Int32)), (x4_67 + (1 : Int32))))
      else
        (MX4_isLiving x4_67 o_town_living).bind fun r18 =>
        if (b2i r18) = 0 then
          some (.inl ((x3_67 ||| (0 : Int32)), (x4_67 + (1 : Int32))))
        else
          (MX1_isAhead x4_67 p0 p1 o_town_hours_).bind fun r21 =>
          if (b2i r21) = 0 then
            some (.inl ((x3_67 ||| (0 : Int32)), (x4_67 + (1 : Int32))))
          else
            some (.inl ((x3_67 ||| ((1 : Int32) <<< (x4_67 &&& 31))), (x4_67 + (1 : Int32))))
def MX1_rivals (p0 : Int32) (p1 : Int32) (c_peopleMany : Int32) (o_town_living : Int32) (o_town_hours_ : AI) : Option (Int32 × Int32 × Int32) :=
  (MX1_anew).bind fun r1 =>
  (MX1_areTwo p0 p1 c_peopleMany).bind fun r3 =>
  if (b2i r3) = 0 then
    (MX1_no (1 : Int32)).bind fun r27 =>
    some (r27.1, r27.2, r1.2)
  else
    (MX4_isLiving p1 o_town_living).bind fun r6 =>
    if (b2i r6) = 0 then
      (MX1_no (5 : Int32)).bind fun r25 =>
      some (r25.1, r25.2, r1.2)
    else
      (MX4_isLiving p0 o_town_living).bind fun r9 =>
      if (b2i r9) = 0 then
        some ((-2 : Int32), r1.1, r1.2)
      else
        (MX4_hourOf p0 p1 o_town_hours_).bind fun r12 =>
        if 0 ≤ r12 then
          (loopN FU (fun s_ => BX1_rivals_67 p0 p1 c_peopleMany o_town_living o_town_hours_ r1.1 r1.2 s_.1 s_.2) ((0 : Int32), (0 : Int32))).bind fun r24 =>
          some (r24, r1.1, r1.2)
        else
          some ((-2 : Int32), r1.1, r1.2)
def BX7_rivals_74 (p0 : Int32) (p1 : Int32) (c_people : Int32) (m_x_74 : AI) (x3_74 : Int32) (x4_74 : Int32) : Option ((Int32 × Int32) ⊕ Int32) :=
  if c_people ≤ x4_74 then
    some (.inr x3_74)
  else
    if x4_74 = p0 then
      some (.inl (x3_74, (x4_74 + (1 : Int32))))
    else
      if x4_74 = p1 then
        some (.inl (x3_74, (x4_74 + (1 : Int32))))
      else
        (MX7_isLiving x4_74 m_x_74).bind fun r20 =>
        if (b2i r20) = 0 then
          some (.inl (x3_74, (x4_74 + (1 : Int32))))
        else
          (MX7_asked x4_74 p1 m_x_74).bind fun r23 =>
          (MX7_asked p0 p1 m_x_74).bind fun r25 =>
          if r25 < r23 then
            some (.inl ((x3_74 ||| ((1 : Int32) <<< (x4_74 &&& 31))), (x4_74 + (1 : Int32))))
          else
            (MX7_asked x4_74 p1 m_x_74).bind fun r28 =>
            (MX7_asked p0 p1 m_x_74).bind fun r30 =>
            if r28 = r30 then
              if p0 ≤ x4_74 then
                some (.inl (x3_74, (x4_74 + (1 : Int32))))
              else
                some (.inl ((x3_74 ||| ((1 : Int32) <<< (x4_74 &&& 31))), (x4_74 + (1 : Int32))))
            else
              some (.inl (x3_74, (x4_74 + (1 : Int32))))
def MX7_rivals (p0 : Int32) (p1 : Int32) (c_people : Int32) (m_v_ : AI) (m_x_ : AI) : Option (Int32 × Int32 × Int32 × Int32 × AI) :=
  (MX7_areTwo p0 p1 c_people).bind fun r1 =>
  if (b2i r1) = 0 then
    (MX7_refused (1 : Int32)).bind fun r41 =>
    some (r41.1, (0 : Int32), r41.2.1, r41.2.2, m_x_)
  else
    (MX7_bit (m_v_ 42) p1).bind fun r4 =>
    if (b2i r4) = 0 then
      (MX7_refused (5 : Int32)).bind fun r39 =>
      some (r39.1, (0 : Int32), r39.2.1, r39.2.2, m_x_)
    else
      (MX7_works m_v_ m_x_).bind fun r7 =>
      (MX7_isLiving p0 r7).bind fun r9 =>
      if (b2i r9) = 0 then
        (MX7_good (-2 : Int32)).bind fun r12 =>
        some (r12.1, (0 : Int32), r12.2.1, r12.2.2, r7)
      else
        (MX7_asked p0 p1 r7).bind fun r14 =>
        if r14 = (-1 : Int32) then
          (MX7_good (-2 : Int32)).bind fun r37 =>
          some (r37.1, (0 : Int32), r37.2.1, r37.2.2, r7)
        else
          (loopN FU (fun s_ => BX7_rivals_74 p0 p1 c_people r7 s_.1 s_.2) ((0 : Int32), (0 : Int32))).bind fun r34 =>
          (MX7_good r34).bind fun r35 =>
          some (r35.1, (0 : Int32), r35.2.1, r35.2.2, r7)
def MX8_earliest (p0 : Int32) (c_heardAt_ : AI) (c_heardGive_ : AI) : Option Int32 :=
  gi p0 3 <|
  gi p0 3 <|
  some (maxI (0 : Int32) ((c_heardAt_ (Int32.toNatClampNeg p0)) - (c_heardGive_ (Int32.toNatClampNeg p0))))
def MX8_mayBe (p0 : Int32) (c_heardAt_ : AI) (c_heardGive_ : AI) : Option Int32 :=
  gi p0 3 <|
  gi p0 3 <|
  (MX8_earliest p0 c_heardAt_ c_heardGive_).bind fun r3 =>
  some ((((c_heardAt_ (Int32.toNatClampNeg p0)) + (c_heardGive_ (Int32.toNatClampNeg p0))) - r3) + (1 : Int32))
def BX1_choices_4 (c_heardMany : Int32) (c_heardAt_ : AI) (c_heardGive_ : AI) (x1_4 : Int32) (x2_4 : Int32) : Option ((Int32 × Int32) ⊕ Int32) :=
  if c_heardMany ≤ x2_4 then
    some (.inr x1_4)
  else
    (MX8_mayBe x2_4 c_heardAt_ c_heardGive_).bind fun r2 =>
    some (.inl ((x1_4 * r2), (x2_4 + (1 : Int32))))
def MX1_choices (c_heardMany : Int32) (c_heardAt_ : AI) (c_heardGive_ : AI) : Option Int32 :=
  (loopN FU (fun s_ => BX1_choices_4 c_heardMany c_heardAt_ c_heardGive_ s_.1 s_.2) ((1 : Int32), (0 : Int32))).bind fun r4 =>
  some r4
def BX1_choice_13 (p1 : Int32) (c_heardAt_ : AI) (c_heardGive_ : AI) (x3_13 : Int32) (x4_13 : Int32) : Option ((Int32 × Int32) ⊕ Int32) :=
  if x4_13 ≤ p1 then
    some (.inr x3_13)
  else
    (MX8_mayBe x4_13 c_heardAt_ c_heardGive_).bind fun r2 =>
    gz r2 <|
    some (.inl ((x3_13 / r2), (x4_13 + (-1 : Int32))))
def MX1_choice (p0 : Int32) (p1 : Int32) (c_heardMany : Int32) (c_heardAt_ : AI) (c_heardGive_ : AI) : Option Int32 :=
  (loopN FU (fun s_ => BX1_choice_13 p1 c_heardAt_ c_heardGive_ s_.1 s_.2) (p0, (c_heardMany - (1 : Int32)))).bind fun r5 =>
  (MX8_mayBe p1 c_heardAt_ c_heardGive_).bind fun r6 =>
  gz r6 <|
  some (r5 - r5 / r6 * r6)
def BX1_wrong_2 (c_peopleMany : Int32) (o_trial_living : Int32) (o_trial_hours_ : AI) (np : Nat) (pt : AI) (x1_2 : Int32) : Option (Int32 ⊕ (Int32 ⊕ Unit)) :=
  if c_peopleMany ≤ x1_2 then
    some (.inr (.inr ()))
  else
    gi x1_2 6 <|
    gn (Int32.toNatClampNeg x1_2) np <|
    if (pt (Int32.toNatClampNeg x1_2)) = (-1 : Int32) then
      some (.inl (x1_2 + (1 : Int32)))
    else
      (MX4_heir x1_2 o_trial_living c_peopleMany o_trial_hours_).bind fun r5 =>
      gi x1_2 6 <|
      gn (Int32.toNatClampNeg x1_2) np <|
      if r5 = (pt (Int32.toNatClampNeg x1_2)) then
        some (.inl (x1_2 + (1 : Int32)))
      else
        some (.inr (.inl x1_2))
def MX1_wrong (c_peopleMany : Int32) (o_trial_living : Int32) (o_trial_hours_ : AI) (np : Nat) (pt : AI) : Option Int32 :=
  (loopN FU (fun s_ => BX1_wrong_2 c_peopleMany o_trial_living o_trial_hours_ np pt s_) (0 : Int32)).bind fun r10 => match r10 with
  | .inl z11 =>
    some z11
  | .inr z12 =>
    some (-2 : Int32)
def BX1_doesFit_14 (p0 : Int32) (c_heardMany : Int32) (c_heardBy_ : AI) (c_heardOf_ : AI) (c_heardAt_ : AI) (c_heardGive_ : AI) (o_trial_living_14 : Int32) (o_trial_hour_14 : Int32) (o_trial_cat_14 : Int32) (o_trial_nights_14 : Int32) (o_trial_seed_14 : Int32) (o_trial_has_14 : AI) (x2_14 : Int32) (o_trial_hours_14 : AI) : Option ((Int32 × AI) ⊕ AI) :=
  if c_heardMany ≤ x2_14 then
    some (.inr o_trial_hours_14)
  else
    gi x2_14 3 <|
    gi x2_14 3 <|
    (MX8_earliest x2_14 c_heardAt_ c_heardGive_).bind fun r6 =>
    (MX1_choice p0 x2_14 c_heardMany c_heardAt_ c_heardGive_).bind fun r8 =>
    gi (((6 : Int32) * (c_heardBy_ (Int32.toNatClampNeg x2_14))) + (c_heardOf_ (Int32.toNatClampNeg x2_14))) 36 <|
    some (.inl ((x2_14 + (1 : Int32)), (upd o_trial_hours_14 (Int32.toNatClampNeg (((6 : Int32) * (c_heardBy_ (Int32.toNatClampNeg x2_14))) + (c_heardOf_ (Int32.toNatClampNeg x2_14)))) (r6 + r8))))
def MX1_doesFit (p0 : Int32) (c_hour : Int32) (c_peopleMany : Int32) (c_heardMany : Int32) (o_trial_has_ : AI) (o_trial_hours_ : AI) (c_hours_ : AI) (c_heardBy_ : AI) (c_heardOf_ : AI) (c_heardAt_ : AI) (c_heardGive_ : AI) (np : Nat) (pw : AI) (pt : AI) : Option (Bool × Int32 × Int32 × Int32 × Int32 × Int32 × AI × AI) :=
  (MX4_begin c_hour c_peopleMany o_trial_hours_ c_hours_ o_trial_has_ np pw).bind fun r1 =>
  (loopN FU (fun s_ => BX1_doesFit_14 p0 c_heardMany c_heardBy_ c_heardOf_ c_heardAt_ c_heardGive_ r1.1 r1.2.1 r1.2.2.1 r1.2.2.2.1 r1.2.2.2.2.1 r1.2.2.2.2.2.2 s_.1 s_.2) ((0 : Int32), r1.2.2.2.2.2.1)).bind fun r11 =>
  (MX1_wrong c_peopleMany r1.1 r11 np pt).bind fun r12 =>
  if r12 = (-2 : Int32) then
    some (true, r1.1, r1.2.1, r1.2.2.1, r1.2.2.2.1, r1.2.2.2.2.1, r1.2.2.2.2.2.2, r11)
  else
    some (false, r1.1, r1.2.1, r1.2.2.1, r1.2.2.2.1, r1.2.2.2.2.1, r1.2.2.2.2.2.2, r11)
def BX1_fits_21 (c_hour : Int32) (c_peopleMany : Int32) (c_heardMany : Int32) (c_heardAt_ : AI) (c_heardGive_ : AI) (c_hours_ : AI) (c_heardBy_ : AI) (c_heardOf_ : AI) (np : Nat) (pw : AI) (pt : AI) (o_trouble_21 : Int32) (o_where_21 : Int32) (x1_21 : Int32) (x2_21 : Int32) (o_trial_living_21 : Int32) (o_trial_hour_21 : Int32) (o_trial_cat_21 : Int32) (o_trial_nights_21 : Int32) (o_trial_seed_21 : Int32) (o_trial_has_21 : AI) (o_trial_hours_21 : AI) : Option ((Int32 × Int32 × Int32 × Int32 × Int32 × Int32 × Int32 × AI × AI) ⊕ (Int32 × AI × AI × Int32 × Int32 × Int32 × Int32 × Int32)) :=
  (MX1_choices c_heardMany c_heardAt_ c_heardGive_).bind fun r3 =>
  if r3 ≤ x2_21 then
    some (.inr (x1_21, o_trial_has_21, o_trial_hours_21, o_trial_living_21, o_trial_hour_21, o_trial_cat_21, o_trial_nights_21, o_trial_seed_21))
  else
    (MX1_doesFit x2_21 c_hour c_peopleMany c_heardMany o_trial_has_21 o_trial_hours_21 c_hours_ c_heardBy_ c_heardOf_ c_heardAt_ c_heardGive_ np pw pt).bind fun r6 =>
    if (b2i r6.1) = 0 then
      some (.inl ((x1_21 + (0 : Int32)), (x2_21 + (1 : Int32)), r6.2.1, r6.2.2.1, r6.2.2.2.1, r6.2.2.2.2.1, r6.2.2.2.2.2.1, r6.2.2.2.2.2.2.1, r6.2.2.2.2.2.2.2))
    else
      some (.inl ((x1_21 + (1 : Int32)), (x2_21 + (1 : Int32)), r6.2.1, r6.2.2.1, r6.2.2.2.1, r6.2.2.2.2.1, r6.2.2.2.2.2.1, r6.2.2.2.2.2.2.1, r6.2.2.2.2.2.2.2))
def MX1_fits (c_hour : Int32) (c_peopleMany : Int32) (c_heardMany : Int32) (c_heardAt_ : AI) (c_heardGive_ : AI) (o_trial_living : Int32) (o_trial_hour : Int32) (o_trial_cat : Int32) (o_trial_nights : Int32) (o_trial_seed : Int32) (c_hours_ : AI) (c_heardBy_ : AI) (c_heardOf_ : AI) (o_trial_has_ : AI) (o_trial_hours_ : AI) (np : Nat) (pw : AI) (pt : AI) : Option (Int32 × Int32 × Int32 × Int32 × Int32 × Int32 × Int32 × Int32 × AI × AI) :=
  (MX1_anew).bind fun r1 =>
  (loopN FU (fun s_ => BX1_fits_21 c_hour c_peopleMany c_heardMany c_heardAt_ c_heardGive_ c_hours_ c_heardBy_ c_heardOf_ np pw pt r1.1 r1.2 s_.1 s_.2.1 s_.2.2.1 s_.2.2.2.1 s_.2.2.2.2.1 s_.2.2.2.2.2.1 s_.2.2.2.2.2.2.1 s_.2.2.2.2.2.2.2.1 s_.2.2.2.2.2.2.2.2) ((0 : Int32), (0 : Int32), o_trial_living, o_trial_hour, o_trial_cat, o_trial_nights, o_trial_seed, o_trial_has_, o_trial_hours_)).bind fun r9 =>
  some (r9.1, r1.1, r1.2, r9.2.2.2.1, r9.2.2.2.2.1, r9.2.2.2.2.2.1, r9.2.2.2.2.2.2.1, r9.2.2.2.2.2.2.2, r9.2.1, r9.2.2.1)
def MX7_low (p0 : Int32) (c_by_ : AI) (c_of_ : AI) (c_asked_ : AI) (c_give_ : AI) : Option Int32 :=
  gi p0 3 <|
  gi p0 3 <|
  gi (((6 : Int32) * (c_by_ (Int32.toNatClampNeg p0))) + (c_of_ (Int32.toNatClampNeg p0))) 36 <|
  lt_ (c_asked_ (Int32.toNatClampNeg (((6 : Int32) * (c_by_ (Int32.toNatClampNeg p0))) + (c_of_ (Int32.toNatClampNeg p0))))) fun y4 =>
  gi p0 3 <|
  if y4 ≤ (c_give_ (Int32.toNatClampNeg p0)) then
    some (0 : Int32)
  else
    gi p0 3 <|
    some (y4 - (c_give_ (Int32.toNatClampNeg p0)))
def MX7_many (p0 : Int32) (c_by_ : AI) (c_of_ : AI) (c_asked_ : AI) (c_give_ : AI) : Option Int32 :=
  gi p0 3 <|
  gi p0 3 <|
  gi (((6 : Int32) * (c_by_ (Int32.toNatClampNeg p0))) + (c_of_ (Int32.toNatClampNeg p0))) 36 <|
  gi p0 3 <|
  (MX7_low p0 c_by_ c_of_ c_asked_ c_give_).bind fun r5 =>
  some ((((c_asked_ (Int32.toNatClampNeg (((6 : Int32) * (c_by_ (Int32.toNatClampNeg p0))) + (c_of_ (Int32.toNatClampNeg p0))))) + (c_give_ (Int32.toNatClampNeg p0))) - r5) + (1 : Int32))
def BX7_wrong_2 (c_people : Int32) (c_went_ : AI) (m_x_ : AI) (x1_2 : Int32) : Option (Int32 ⊕ (Int32 ⊕ Unit)) :=
  if c_people ≤ x1_2 then
    some (.inr (.inr ()))
  else
    gi x1_2 6 <|
    if (c_went_ (Int32.toNatClampNeg x1_2)) = (-1 : Int32) then
      some (.inl (x1_2 + (1 : Int32)))
    else
      (MX7_heirOf x1_2 c_people m_x_).bind fun r4 =>
      gi x1_2 6 <|
      if r4 = (c_went_ (Int32.toNatClampNeg x1_2)) then
        some (.inl (x1_2 + (1 : Int32)))
      else
        some (.inr (.inl x1_2))
def MX7_wrong (c_people : Int32) (c_went_ : AI) (m_x_ : AI) : Option Int32 :=
  (loopN FU (fun s_ => BX7_wrong_2 c_people c_went_ m_x_ s_) (0 : Int32)).bind fun r8 => match r8 with
  | .inl z9 =>
    some z9
  | .inr z10 =>
    some (-2 : Int32)
def BX7_fitting_13 (c_heards : Int32) (c_asked_ : AI) (c_by_ : AI) (c_of_ : AI) (c_give_ : AI) (x4_13 : Int32) (x5_13 : Int32) : Option ((Int32 × Int32) ⊕ Int32) :=
  if c_heards ≤ x5_13 then
    some (.inr x4_13)
  else
    (MX7_many x5_13 c_by_ c_of_ c_asked_ c_give_).bind fun r2 =>
    some (.inl ((x4_13 * r2), (x5_13 + (1 : Int32))))
def BX7_fitting_45 (x4_45 : Int32) (x5_45 : Int32) (m_partIn_45 : AI) : Option ((Int32 × AI) ⊕ AI) :=
  if (21 : Int32) ≤ x5_45 then
    some (.inr m_partIn_45)
  else
    gi x5_45 21 <|
    some (.inl ((x5_45 + (1 : Int32)), (upd m_partIn_45 (Int32.toNatClampNeg x5_45) (0 : Int32))))
def BX7_fitting_69 (x4_69 : Int32) (m_partIn_69 : AI) (x5_69 : Int32) (m_heirIn_69 : AI) : Option ((Int32 × AI) ⊕ AI) :=
  if (36 : Int32) ≤ x5_69 then
    some (.inr m_heirIn_69)
  else
    gi x5_69 36 <|
    some (.inl ((x5_69 + (1 : Int32)), (upd m_heirIn_69 (Int32.toNatClampNeg x5_69) (0 : Int32))))
def BX7_fitting_119 (c_asked_ : AI) (c_by_ : AI) (c_of_ : AI) (c_give_ : AI) (x3_119 : Bool) (x4_119 : Int32) (x5_119 : Int32) (m_fitsNow_119 : Int32) (m_foundHour_119 : Int32) (m_partIn_119 : AI) (m_heirIn_119 : AI) (x6_119 : Int32) (x7_119 : Int32) (m_x_119 : AI) (m_hour_119 : AI) : Option ((Int32 × Int32 × AI × AI) ⊕ (AI × AI)) :=
  if x7_119 < 0 then
    some (.inr (m_x_119, m_hour_119))
  else
    (MX7_many x7_119 c_by_ c_of_ c_asked_ c_give_).bind fun r15 =>
    gz r15 <|
    gi x7_119 3 <|
    (MX7_many x7_119 c_by_ c_of_ c_asked_ c_give_).bind fun r19 =>
    gz r19 <|
    gi x7_119 3 <|
    gi x7_119 3 <|
    (MX7_low x7_119 c_by_ c_of_ c_asked_ c_give_).bind fun r24 =>
    gi x7_119 3 <|
    gi (((6 : Int32) + ((6 : Int32) * (c_by_ (Int32.toNatClampNeg x7_119)))) + (c_of_ (Int32.toNatClampNeg x7_119))) 47 <|
    lt_ (r24 + ((upd m_hour_119 (Int32.toNatClampNeg x7_119) (x6_119 - x6_119 / r15 * r15)) (Int32.toNatClampNeg x7_119))) fun y28 =>
    some (.inl ((x6_119 / r19), (x7_119 + (-1 : Int32)), (upd m_x_119 (Int32.toNatClampNeg (((6 : Int32) + ((6 : Int32) * (c_by_ (Int32.toNatClampNeg x7_119)))) + (c_of_ (Int32.toNatClampNeg x7_119)))) y28), (upd m_hour_119 (Int32.toNatClampNeg x7_119) (x6_119 - x6_119 / r15 * r15))))
def BX7_fitting_269 (c_heards : Int32) (x3_269 : Bool) (x4_269 : Int32) (x5_269 : Int32) (m_fitsNow_269 : Int32) (m_foundHour_269 : Int32) (m_heirIn_269 : AI) (m_x_269 : AI) (m_hour_269 : AI) (x7_269 : Int32) (m_partIn_269 : AI) : Option ((Int32 × AI) ⊕ AI) :=
  if c_heards ≤ x7_269 then
    some (.inr m_partIn_269)
  else
    gi x7_269 3 <|
    gi (((7 : Int32) * x7_269) + (m_hour_269 (Int32.toNatClampNeg x7_269))) 21 <|
    gi (((7 : Int32) * x7_269) + (m_hour_269 (Int32.toNatClampNeg x7_269))) 21 <|
    lt_ ((m_partIn_269 (Int32.toNatClampNeg (((7 : Int32) * x7_269) + (m_hour_269 (Int32.toNatClampNeg x7_269))))) + (1 : Int32)) fun y38 =>
    some (.inl ((x7_269 + (1 : Int32)), (upd m_partIn_269 (Int32.toNatClampNeg (((7 : Int32) * x7_269) + (m_hour_269 (Int32.toNatClampNeg x7_269)))) y38)))
def BX7_fitting_312 (c_people : Int32) (x3_312 : Bool) (x4_312 : Int32) (x5_312 : Int32) (m_fitsNow_312 : Int32) (m_foundHour_312 : Int32) (m_partIn_312 : AI) (m_x_312 : AI) (m_hour_312 : AI) (x7_312 : Int32) (m_heirIn_312 : AI) : Option ((Int32 × AI) ⊕ AI) :=
  if c_people ≤ x7_312 then
    some (.inr m_heirIn_312)
  else
    (MX7_heirOf x7_312 c_people m_x_312).bind fun r41 =>
    if r41 = (-2 : Int32) then
      some (.inl ((x7_312 + (1 : Int32)), m_heirIn_312))
    else
      (MX7_heirOf x7_312 c_people m_x_312).bind fun r44 =>
      gi (((6 : Int32) * r44) + x7_312) 36 <|
      gi (((6 : Int32) * r44) + x7_312) 36 <|
      lt_ ((m_heirIn_312 (Int32.toNatClampNeg (((6 : Int32) * r44) + x7_312))) + (1 : Int32)) fun y48 =>
      some (.inl ((x7_312 + (1 : Int32)), (upd m_heirIn_312 (Int32.toNatClampNeg (((6 : Int32) * r44) + x7_312)) y48)))
def BX7_fitting_93 (p0 : Int32) (p1 : Int32) (c_hour : Int32) (c_people : Int32) (c_heards : Int32) (c_asked_ : AI) (c_by_ : AI) (c_of_ : AI) (c_give_ : AI) (c_has_ : AI) (c_went_ : AI) (x4_93 : Int32) (x3_93 : Bool) (x5_93 : Int32) (m_fitsNow_93 : Int32) (m_foundHour_93 : Int32) (m_partIn_93 : AI) (m_heirIn_93 : AI) (m_x_93 : AI) (m_hour_93 : AI) : Option ((Bool × Int32 × Int32 × Int32 × AI × AI × AI × AI) ⊕ (Bool × AI × AI × AI × AI × Int32 × Int32)) :=
  if x4_93 ≤ x5_93 then
    some (.inr (x3_93, m_partIn_93, m_heirIn_93, m_x_93, m_hour_93, m_fitsNow_93, m_foundHour_93))
  else
    (MX7_asTold m_x_93 c_hour c_people c_has_ c_asked_).bind fun r12 =>
    (loopN FU (fun s_ => BX7_fitting_119 c_asked_ c_by_ c_of_ c_give_ x3_93 x4_93 x5_93 m_fitsNow_93 m_foundHour_93 m_partIn_93 m_heirIn_93 s_.1 s_.2.1 s_.2.2.1 s_.2.2.2) (x5_93, (c_heards - (1 : Int32)), r12, m_hour_93)).bind fun r29 =>
    (MX7_wrong c_people c_went_ r29.1).bind fun r30 =>
    if r30 = (-2 : Int32) then
      if m_fitsNow_93 = p0 then
        if c_heards ≤ p1 then
          (loopN FU (fun s_ => BX7_fitting_269 c_heards true x4_93 x5_93 (m_fitsNow_93 + (1 : Int32)) (0 : Int32) m_heirIn_93 r29.1 r29.2 s_.1 s_.2) ((0 : Int32), m_partIn_93)).bind fun r51 =>
          (loopN FU (fun s_ => BX7_fitting_312 c_people true x4_93 x5_93 (m_fitsNow_93 + (1 : Int32)) (0 : Int32) r51 r29.1 r29.2 s_.1 s_.2) ((0 : Int32), m_heirIn_93)).bind fun r52 =>
          some (.inl (true, (x5_93 + (1 : Int32)), (m_fitsNow_93 + (1 : Int32)), (0 : Int32), r51, r52, r29.1, r29.2))
        else
          (MX7_low p1 c_by_ c_of_ c_asked_ c_give_).bind fun r53 =>
          gi p1 3 <|
          (loopN FU (fun s_ => BX7_fitting_269 c_heards true x4_93 x5_93 (m_fitsNow_93 + (1 : Int32)) (r53 + (r29.2 (Int32.toNatClampNeg p1))) m_heirIn_93 r29.1 r29.2 s_.1 s_.2) ((0 : Int32), m_partIn_93)).bind fun r56 =>
          (loopN FU (fun s_ => BX7_fitting_312 c_people true x4_93 x5_93 (m_fitsNow_93 + (1 : Int32)) (r53 + (r29.2 (Int32.toNatClampNeg p1))) r56 r29.1 r29.2 s_.1 s_.2) ((0 : Int32), m_heirIn_93)).bind fun r57 =>
          some (.inl (true, (x5_93 + (1 : Int32)), (m_fitsNow_93 + (1 : Int32)), (r53 + (r29.2 (Int32.toNatClampNeg p1))), r56, r57, r29.1, r29.2))
      else
        (loopN FU (fun s_ => BX7_fitting_269 c_heards x3_93 x4_93 x5_93 (m_fitsNow_93 + (1 : Int32)) m_foundHour_93 m_heirIn_93 r29.1 r29.2 s_.1 s_.2) ((0 : Int32), m_partIn_93)).bind fun r39 =>
        (loopN FU (fun s_ => BX7_fitting_312 c_people x3_93 x4_93 x5_93 (m_fitsNow_93 + (1 : Int32)) m_foundHour_93 r39 r29.1 r29.2 s_.1 s_.2) ((0 : Int32), m_heirIn_93)).bind fun r49 =>
        some (.inl (x3_93, (x5_93 + (1 : Int32)), (m_fitsNow_93 + (1 : Int32)), m_foundHour_93, r39, r49, r29.1, r29.2))
    else
      some (.inl (x3_93, (x5_93 + (1 : Int32)), m_fitsNow_93, m_foundHour_93, m_partIn_93, m_heirIn_93, r29.1, r29.2))
def MX7_fitting (p0 : Int32) (p1 : Int32) (m_foundHour : Int32) (c_hour : Int32) (c_people : Int32) (c_heards : Int32) (c_asked_ : AI) (c_by_ : AI) (c_of_ : AI) (c_give_ : AI) (m_partIn_ : AI) (m_heirIn_ : AI) (m_x_ : AI) (c_has_ : AI) (m_hour_ : AI) (c_went_ : AI) : Option (Bool × Int32 × Int32 × AI × AI × AI × AI) :=
  (loopN FU (fun s_ => BX7_fitting_13 c_heards c_asked_ c_by_ c_of_ c_give_ s_.1 s_.2) ((1 : Int32), (0 : Int32))).bind fun r4 =>
  (loopN FU (fun s_ => BX7_fitting_45 r4 s_.1 s_.2) ((0 : Int32), m_partIn_)).bind fun r7 =>
  (loopN FU (fun s_ => BX7_fitting_69 r4 r7 s_.1 s_.2) ((0 : Int32), m_heirIn_)).bind fun r10 =>
  (loopN FU (fun s_ => BX7_fitting_93 p0 p1 c_hour c_people c_heards c_asked_ c_by_ c_of_ c_give_ c_has_ c_went_ r4 s_.1 s_.2.1 s_.2.2.1 s_.2.2.2.1 s_.2.2.2.2.1 s_.2.2.2.2.2.1 s_.2.2.2.2.2.2.1 s_.2.2.2.2.2.2.2) (false, (0 : Int32), (0 : Int32), m_foundHour, r7, r10, m_x_, m_hour_)).bind fun r58 =>
  some (r58.1, r58.2.2.2.2.2.1, r58.2.2.2.2.2.2, r58.2.1, r58.2.2.1, r58.2.2.2.1, r58.2.2.2.2.1)
def MX7_fits (m_foundHour : Int32) (c_hour : Int32) (c_people : Int32) (c_heards : Int32) (m_x_ : AI) (m_hour_ : AI) (m_partIn_ : AI) (m_heirIn_ : AI) (c_has_ : AI) (c_went_ : AI) (c_asked_ : AI) (c_by_ : AI) (c_of_ : AI) (c_give_ : AI) : Option (Int32 × Int32 × Int32 × Int32 × Int32 × Int32 × AI × AI × AI × AI) :=
  (MX7_fitting (-1 : Int32) (0 : Int32) m_foundHour c_hour c_people c_heards c_asked_ c_by_ c_of_ c_give_ m_partIn_ m_heirIn_ m_x_ c_has_ m_hour_ c_went_).bind fun r1 =>
  (MX7_good r1.2.1).bind fun r3 =>
  some (r3.1, (0 : Int32), r3.2.1, r3.2.2, r1.2.1, r1.2.2.1, r1.2.2.2.2.2.1, r1.2.2.2.2.2.2, r1.2.2.2.1, r1.2.2.2.2.1)
def BX1_fitAt_39 (p0 : Int32) (c_hour : Int32) (c_peopleMany : Int32) (c_heardMany : Int32) (c_heardAt_ : AI) (c_heardGive_ : AI) (c_hours_ : AI) (c_heardBy_ : AI) (c_heardOf_ : AI) (np : Nat) (pw : AI) (pt : AI) (o_trouble_39 : Int32) (o_where_39 : Int32) (x3_39 : Int32) (x4_39 : Int32) (o_trial_living_39 : Int32) (o_trial_hour_39 : Int32) (o_trial_cat_39 : Int32) (o_trial_nights_39 : Int32) (o_trial_seed_39 : Int32) (o_trial_has_39 : AI) (o_trial_hours_39 : AI) : Option ((Int32 × Int32 × Int32 × Int32 × Int32 × Int32 × Int32 × AI × AI) ⊕ ((Int32 × AI × AI × Int32 × Int32 × Int32 × Int32 × Int32) ⊕ (AI × AI × Int32 × Int32 × Int32 × Int32 × Int32))) :=
  (MX1_choices c_heardMany c_heardAt_ c_heardGive_).bind fun r6 =>
  if r6 ≤ x4_39 then
    some (.inr (.inr (o_trial_has_39, o_trial_hours_39, o_trial_living_39, o_trial_hour_39, o_trial_cat_39, o_trial_nights_39, o_trial_seed_39)))
  else
    (MX1_doesFit x4_39 c_hour c_peopleMany c_heardMany o_trial_has_39 o_trial_hours_39 c_hours_ c_heardBy_ c_heardOf_ c_heardAt_ c_heardGive_ np pw pt).bind fun r9 =>
    if (b2i r9.1) = 0 then
      some (.inl (x3_39, (x4_39 + (1 : Int32)), r9.2.1, r9.2.2.1, r9.2.2.2.1, r9.2.2.2.2.1, r9.2.2.2.2.2.1, r9.2.2.2.2.2.2.1, r9.2.2.2.2.2.2.2))
    else
      if x3_39 = p0 then
        some (.inr (.inl (x4_39, r9.2.2.2.2.2.2.1, r9.2.2.2.2.2.2.2, r9.2.1, r9.2.2.1, r9.2.2.2.1, r9.2.2.2.2.1, r9.2.2.2.2.2.1)))
      else
        some (.inl ((x3_39 + (1 : Int32)), (x4_39 + (1 : Int32)), r9.2.1, r9.2.2.1, r9.2.2.2.1, r9.2.2.2.2.1, r9.2.2.2.2.2.1, r9.2.2.2.2.2.2.1, r9.2.2.2.2.2.2.2))
def MX1_fitAt (p0 : Int32) (p1 : Int32) (c_hour : Int32) (c_peopleMany : Int32) (c_heardMany : Int32) (c_heardAt_ : AI) (c_heardGive_ : AI) (o_trial_living : Int32) (o_trial_hour : Int32) (o_trial_cat : Int32) (o_trial_nights : Int32) (o_trial_seed : Int32) (c_hours_ : AI) (c_heardBy_ : AI) (c_heardOf_ : AI) (o_trial_has_ : AI) (o_trial_hours_ : AI) (np : Nat) (pw : AI) (pt : AI) : Option (Int32 × Int32 × Int32 × Int32 × Int32 × Int32 × Int32 × Int32 × AI × AI) :=
  (MX1_anew).bind fun r1 =>
  (MX1_in p1 (0 : Int32) (c_heardMany - (1 : Int32))).bind fun r3 =>
  if (b2i r3) = 0 then
    (MX1_no (1 : Int32)).bind fun r22 =>
    some (r22.1, r22.2, r1.2, o_trial_living, o_trial_hour, o_trial_cat, o_trial_nights, o_trial_seed, o_trial_has_, o_trial_hours_)
  else
    (loopN FU (fun s_ => BX1_fitAt_39 p0 c_hour c_peopleMany c_heardMany c_heardAt_ c_heardGive_ c_hours_ c_heardBy_ c_heardOf_ np pw pt r1.1 r1.2 s_.1 s_.2.1 s_.2.2.1 s_.2.2.2.1 s_.2.2.2.2.1 s_.2.2.2.2.2.1 s_.2.2.2.2.2.2.1 s_.2.2.2.2.2.2.2.1 s_.2.2.2.2.2.2.2.2) ((0 : Int32), (0 : Int32), o_trial_living, o_trial_hour, o_trial_cat, o_trial_nights, o_trial_seed, o_trial_has_, o_trial_hours_)).bind fun r13 => match r13 with
    | .inl z14 =>
      (MX8_earliest p1 c_heardAt_ c_heardGive_).bind fun r16 =>
      (MX1_choice z14.1 p1 c_heardMany c_heardAt_ c_heardGive_).bind fun r18 =>
      some ((r16 + r18), r1.1, r1.2, z14.2.2.2.1, z14.2.2.2.2.1, z14.2.2.2.2.2.1, z14.2.2.2.2.2.2.1, z14.2.2.2.2.2.2.2, z14.2.1, z14.2.2.1)
    | .inr z15 =>
      (MX1_no (1 : Int32)).bind fun r20 =>
      some (r20.1, r20.2, r1.2, z15.2.2.1, z15.2.2.2.1, z15.2.2.2.2.1, z15.2.2.2.2.2.1, z15.2.2.2.2.2.2, z15.1, z15.2.1)
def MX7_fitAt (p0 : Int32) (p1 : Int32) (m_fitsNow : Int32) (m_foundHour : Int32) (c_hour : Int32) (c_people : Int32) (c_heards : Int32) (m_x_ : AI) (m_hour_ : AI) (m_partIn_ : AI) (m_heirIn_ : AI) (c_has_ : AI) (c_went_ : AI) (c_asked_ : AI) (c_by_ : AI) (c_of_ : AI) (c_give_ : AI) : Option (Int32 × Int32 × Int32 × Int32 × Int32 × Int32 × AI × AI × AI × AI) :=
  if p0 < 0 then
    (MX7_refused (1 : Int32)).bind fun r2 =>
    some (r2.1, (0 : Int32), r2.2.1, r2.2.2, m_fitsNow, m_foundHour, m_x_, m_hour_, m_partIn_, m_heirIn_)
  else
    if p1 < 0 then
      (MX7_refused (1 : Int32)).bind fun r5 =>
      some (r5.1, (0 : Int32), r5.2.1, r5.2.2, m_fitsNow, m_foundHour, m_x_, m_hour_, m_partIn_, m_heirIn_)
    else
      if p1 < c_heards then
        (MX7_fitting p0 p1 m_foundHour c_hour c_people c_heards c_asked_ c_by_ c_of_ c_give_ m_partIn_ m_heirIn_ m_x_ c_has_ m_hour_ c_went_).bind fun r8 =>
        if (b2i r8.1) = 0 then
          (MX7_refused (1 : Int32)).bind fun r11 =>
          some (r11.1, (0 : Int32), r11.2.1, r11.2.2, r8.2.1, r8.2.2.1, r8.2.2.2.2.2.1, r8.2.2.2.2.2.2, r8.2.2.2.1, r8.2.2.2.2.1)
        else
          (MX7_good r8.2.2.1).bind fun r13 =>
          some (r13.1, (0 : Int32), r13.2.1, r13.2.2, r8.2.1, r8.2.2.1, r8.2.2.2.2.2.1, r8.2.2.2.2.2.2, r8.2.2.2.1, r8.2.2.2.2.1)
      else
        (MX7_refused (1 : Int32)).bind fun r15 =>
        some (r15.1, (0 : Int32), r15.2.1, r15.2.2, m_fitsNow, m_foundHour, m_x_, m_hour_, m_partIn_, m_heirIn_)
def BX1_heirBy_24 (p0 : Int32) (p1 : Int32) (c_hour : Int32) (c_peopleMany : Int32) (c_heardMany : Int32) (c_heardAt_ : AI) (c_heardGive_ : AI) (c_hours_ : AI) (c_heardBy_ : AI) (c_heardOf_ : AI) (np : Nat) (pw : AI) (pt : AI) (o_trouble_24 : Int32) (o_where_24 : Int32) (x3_24 : Int32) (x4_24 : Int32) (o_trial_living_24 : Int32) (o_trial_hour_24 : Int32) (o_trial_cat_24 : Int32) (o_trial_nights_24 : Int32) (o_trial_seed_24 : Int32) (o_trial_has_24 : AI) (o_trial_hours_24 : AI) : Option ((Int32 × Int32 × Int32 × Int32 × Int32 × Int32 × Int32 × AI × AI) ⊕ (Int32 × AI × AI × Int32 × Int32 × Int32 × Int32 × Int32)) :=
  (MX1_choices c_heardMany c_heardAt_ c_heardGive_).bind fun r6 =>
  if r6 ≤ x4_24 then
    some (.inr (x3_24, o_trial_has_24, o_trial_hours_24, o_trial_living_24, o_trial_hour_24, o_trial_cat_24, o_trial_nights_24, o_trial_seed_24))
  else
    (MX1_doesFit x4_24 c_hour c_peopleMany c_heardMany o_trial_has_24 o_trial_hours_24 c_hours_ c_heardBy_ c_heardOf_ c_heardAt_ c_heardGive_ np pw pt).bind fun r9 =>
    if (b2i r9.1) = 0 then
      some (.inl ((x3_24 + (0 : Int32)), (x4_24 + (1 : Int32)), r9.2.1, r9.2.2.1, r9.2.2.2.1, r9.2.2.2.2.1, r9.2.2.2.2.2.1, r9.2.2.2.2.2.2.1, r9.2.2.2.2.2.2.2))
    else
      (MX4_heir p1 r9.2.1 c_peopleMany r9.2.2.2.2.2.2.2).bind fun r12 =>
      if r12 = p0 then
        some (.inl ((x3_24 + (1 : Int32)), (x4_24 + (1 : Int32)), r9.2.1, r9.2.2.1, r9.2.2.2.1, r9.2.2.2.2.1, r9.2.2.2.2.2.1, r9.2.2.2.2.2.2.1, r9.2.2.2.2.2.2.2))
      else
        some (.inl ((x3_24 + (0 : Int32)), (x4_24 + (1 : Int32)), r9.2.1, r9.2.2.1, r9.2.2.2.1, r9.2.2.2.2.1, r9.2.2.2.2.2.1, r9.2.2.2.2.2.2.1, r9.2.2.2.2.2.2.2))
def MX1_heirBy (p0 : Int32) (p1 : Int32) (c_hour : Int32) (c_peopleMany : Int32) (c_heardMany : Int32) (c_heardAt_ : AI) (c_heardGive_ : AI) (o_trial_living : Int32) (o_trial_hour : Int32) (o_trial_cat : Int32) (o_trial_nights : Int32) (o_trial_seed : Int32) (c_hours_ : AI) (c_heardBy_ : AI) (c_heardOf_ : AI) (o_trial_has_ : AI) (o_trial_hours_ : AI) (np : Nat) (pw : AI) (pt : AI) : Option (Int32 × Int32 × Int32 × Int32 × Int32 × Int32 × Int32 × Int32 × AI × AI) :=
  (MX1_anew).bind fun r1 =>
  (MX1_areTwo p0 p1 c_peopleMany).bind fun r3 =>
  if (b2i r3) = 0 then
    (MX1_no (1 : Int32)).bind fun r16 =>
    some (r16.1, r16.2, r1.2, o_trial_living, o_trial_hour, o_trial_cat, o_trial_nights, o_trial_seed, o_trial_has_, o_trial_hours_)
  else
    (loopN FU (fun s_ => BX1_heirBy_24 p0 p1 c_hour c_peopleMany c_heardMany c_heardAt_ c_heardGive_ c_hours_ c_heardBy_ c_heardOf_ np pw pt r1.1 r1.2 s_.1 s_.2.1 s_.2.2.1 s_.2.2.2.1 s_.2.2.2.2.1 s_.2.2.2.2.2.1 s_.2.2.2.2.2.2.1 s_.2.2.2.2.2.2.2.1 s_.2.2.2.2.2.2.2.2) ((0 : Int32), (0 : Int32), o_trial_living, o_trial_hour, o_trial_cat, o_trial_nights, o_trial_seed, o_trial_has_, o_trial_hours_)).bind fun r15 =>
    some (r15.1, r1.1, r1.2, r15.2.2.2.1, r15.2.2.2.2.1, r15.2.2.2.2.2.1, r15.2.2.2.2.2.2.1, r15.2.2.2.2.2.2.2, r15.2.1, r15.2.2.1)
def MX7_heirBy (p0 : Int32) (p1 : Int32) (m_fitsNow : Int32) (m_foundHour : Int32) (c_hour : Int32) (c_people : Int32) (c_heards : Int32) (m_x_ : AI) (m_hour_ : AI) (m_partIn_ : AI) (m_heirIn_ : AI) (c_has_ : AI) (c_went_ : AI) (c_asked_ : AI) (c_by_ : AI) (c_of_ : AI) (c_give_ : AI) : Option (Int32 × Int32 × Int32 × Int32 × Int32 × Int32 × AI × AI × AI × AI) :=
  (MX7_areTwo p0 p1 c_people).bind fun r1 =>
  if (b2i r1) = 0 then
    (MX7_refused (1 : Int32)).bind fun r9 =>
    some (r9.1, (0 : Int32), r9.2.1, r9.2.2, m_fitsNow, m_foundHour, m_x_, m_hour_, m_partIn_, m_heirIn_)
  else
    (MX7_fitting (-1 : Int32) (0 : Int32) m_foundHour c_hour c_people c_heards c_asked_ c_by_ c_of_ c_give_ m_partIn_ m_heirIn_ m_x_ c_has_ m_hour_ c_went_).bind fun r4 =>
    gi (((6 : Int32) * p0) + p1) 36 <|
    (MX7_good (r4.2.2.2.2.1 (Int32.toNatClampNeg (((6 : Int32) * p0) + p1)))).bind fun r7 =>
    some (r7.1, (0 : Int32), r7.2.1, r7.2.2, r4.2.1, r4.2.2.1, r4.2.2.2.2.2.1, r4.2.2.2.2.2.2, r4.2.2.2.1, r4.2.2.2.2.1)
def BX1_leaves_2 (x2_2 : Int32) (o_often_2 : AI) : Option ((Int32 × AI) ⊕ AI) :=
  if (6 : Int32) < x2_2 then
    some (.inr o_often_2)
  else
    gi x2_2 7 <|
    some (.inl ((x2_2 + (1 : Int32)), (upd o_often_2 (Int32.toNatClampNeg x2_2) (0 : Int32))))
def BX1_leaves_23 (p0 : Int32) (c_hour : Int32) (c_peopleMany : Int32) (c_heardMany : Int32) (c_heardAt_ : AI) (c_heardGive_ : AI) (c_hours_ : AI) (c_heardBy_ : AI) (c_heardOf_ : AI) (np : Nat) (pw : AI) (pt : AI) (x2_23 : Int32) (o_often_23 : AI) (o_trial_living_23 : Int32) (o_trial_hour_23 : Int32) (o_trial_cat_23 : Int32) (o_trial_nights_23 : Int32) (o_trial_seed_23 : Int32) (o_trial_has_23 : AI) (o_trial_hours_23 : AI) : Option ((Int32 × AI × Int32 × Int32 × Int32 × Int32 × Int32 × AI × AI) ⊕ (AI × AI × AI × Int32 × Int32 × Int32 × Int32 × Int32)) :=
  (MX1_choices c_heardMany c_heardAt_ c_heardGive_).bind fun r4 =>
  if r4 ≤ x2_23 then
    some (.inr (o_often_23, o_trial_has_23, o_trial_hours_23, o_trial_living_23, o_trial_hour_23, o_trial_cat_23, o_trial_nights_23, o_trial_seed_23))
  else
    (MX1_doesFit x2_23 c_hour c_peopleMany c_heardMany o_trial_has_23 o_trial_hours_23 c_hours_ c_heardBy_ c_heardOf_ c_heardAt_ c_heardGive_ np pw pt).bind fun r7 =>
    if (b2i r7.1) = 0 then
      some (.inl ((x2_23 + (1 : Int32)), o_often_23, r7.2.1, r7.2.2.1, r7.2.2.2.1, r7.2.2.2.2.1, r7.2.2.2.2.2.1, r7.2.2.2.2.2.2.1, r7.2.2.2.2.2.2.2))
    else
      (MX1_choice x2_23 p0 c_heardMany c_heardAt_ c_heardGive_).bind fun r10 =>
      gi r10 7 <|
      gi r10 7 <|
      some (.inl ((x2_23 + (1 : Int32)), (upd o_often_23 (Int32.toNatClampNeg r10) ((o_often_23 (Int32.toNatClampNeg r10)) + (1 : Int32))), r7.2.1, r7.2.2.1, r7.2.2.2.1, r7.2.2.2.2.1, r7.2.2.2.2.2.1, r7.2.2.2.2.2.2.1, r7.2.2.2.2.2.2.2))
def BX1_leaves_64 (o_often_64 : AI) (o_trial_living_64 : Int32) (o_trial_hour_64 : Int32) (o_trial_cat_64 : Int32) (o_trial_nights_64 : Int32) (o_trial_seed_64 : Int32) (o_trial_has_64 : AI) (o_trial_hours_64 : AI) (x2_64 : Int32) (x3_64 : Int32) : Option ((Int32 × Int32) ⊕ Int32) :=
  if (6 : Int32) < x3_64 then
    some (.inr x2_64)
  else
    gi x3_64 7 <|
    some (.inl ((maxI x2_64 (o_often_64 (Int32.toNatClampNeg x3_64))), (x3_64 + (1 : Int32))))
def MX1_leaves (p0 : Int32) (o_often_ : AI) (c_hour : Int32) (c_peopleMany : Int32) (c_heardMany : Int32) (c_heardAt_ : AI) (c_heardGive_ : AI) (o_trial_living : Int32) (o_trial_hour : Int32) (o_trial_cat : Int32) (o_trial_nights : Int32) (o_trial_seed : Int32) (c_hours_ : AI) (c_heardBy_ : AI) (c_heardOf_ : AI) (o_trial_has_ : AI) (o_trial_hours_ : AI) (np : Nat) (pw : AI) (pt : AI) : Option (Int32 × AI × Int32 × Int32 × Int32 × Int32 × Int32 × AI × AI) :=
  (loopN FU (fun s_ => BX1_leaves_2 s_.1 s_.2) ((0 : Int32), o_often_)).bind fun r3 =>
  (loopN FU (fun s_ => BX1_leaves_23 p0 c_hour c_peopleMany c_heardMany c_heardAt_ c_heardGive_ c_hours_ c_heardBy_ c_heardOf_ np pw pt s_.1 s_.2.1 s_.2.2.1 s_.2.2.2.1 s_.2.2.2.2.1 s_.2.2.2.2.2.1 s_.2.2.2.2.2.2.1 s_.2.2.2.2.2.2.2.1 s_.2.2.2.2.2.2.2.2) ((0 : Int32), r3, o_trial_living, o_trial_hour, o_trial_cat, o_trial_nights, o_trial_seed, o_trial_has_, o_trial_hours_)).bind fun r14 =>
  (loopN FU (fun s_ => BX1_leaves_64 r14.1 r14.2.2.2.1 r14.2.2.2.2.1 r14.2.2.2.2.2.1 r14.2.2.2.2.2.2.1 r14.2.2.2.2.2.2.2 r14.2.1 r14.2.2.1 s_.1 s_.2) ((0 : Int32), (0 : Int32))).bind fun r17 =>
  some (r17, r14.1, r14.2.2.2.1, r14.2.2.2.2.1, r14.2.2.2.2.2.1, r14.2.2.2.2.2.2.1, r14.2.2.2.2.2.2.2, r14.2.1, r14.2.2.1)
def BX1_lookOf_8 (c_hour : Int32) (c_peopleMany : Int32) (c_heardMany : Int32) (c_hours_ : AI) (c_heardBy_ : AI) (c_heardOf_ : AI) (c_heardAt_ : AI) (c_heardGive_ : AI) (np : Nat) (pw : AI) (pt : AI) (x1_8 : Int32) (x2_8 : Int32) (x3_8 : Int32) (o_trial_living_8 : Int32) (o_trial_hour_8 : Int32) (o_trial_cat_8 : Int32) (o_trial_nights_8 : Int32) (o_trial_seed_8 : Int32) (o_often_8 : AI) (o_trial_has_8 : AI) (o_trial_hours_8 : AI) : Option ((Int32 × Int32 × Int32 × Int32 × Int32 × Int32 × Int32 × Int32 × AI × AI × AI) ⊕ (Int32 × AI × AI × AI × Int32 × Int32 × Int32 × Int32 × Int32)) :=
  if c_heardMany ≤ x3_8 then
    some (.inr (x1_8, o_often_8, o_trial_has_8, o_trial_hours_8, o_trial_living_8, o_trial_hour_8, o_trial_cat_8, o_trial_nights_8, o_trial_seed_8))
  else
    (MX1_leaves x3_8 o_often_8 c_hour c_peopleMany c_heardMany c_heardAt_ c_heardGive_ o_trial_living_8 o_trial_hour_8 o_trial_cat_8 o_trial_nights_8 o_trial_seed_8 c_hours_ c_heardBy_ c_heardOf_ o_trial_has_8 o_trial_hours_8 np pw pt).bind fun r2 =>
    if r2.1 = 0 then
      some (.inl (x1_8, x2_8, (x3_8 + (1 : Int32)), r2.2.2.1, r2.2.2.2.1, r2.2.2.2.2.1, r2.2.2.2.2.2.1, r2.2.2.2.2.2.2.1, r2.2.1, r2.2.2.2.2.2.2.2.1, r2.2.2.2.2.2.2.2.2))
    else
      if r2.1 < x2_8 then
        some (.inl (x3_8, r2.1, (x3_8 + (1 : Int32)), r2.2.2.1, r2.2.2.2.1, r2.2.2.2.2.1, r2.2.2.2.2.2.1, r2.2.2.2.2.2.2.1, r2.2.1, r2.2.2.2.2.2.2.2.1, r2.2.2.2.2.2.2.2.2))
      else
        some (.inl (x1_8, x2_8, (x3_8 + (1 : Int32)), r2.2.2.1, r2.2.2.2.1, r2.2.2.2.2.1, r2.2.2.2.2.2.1, r2.2.2.2.2.2.2.1, r2.2.1, r2.2.2.2.2.2.2.2.1, r2.2.2.2.2.2.2.2.2))
def MX1_lookOf (c_hour : Int32) (c_peopleMany : Int32) (c_heardMany : Int32) (o_trial_living : Int32) (o_trial_hour : Int32) (o_trial_cat : Int32) (o_trial_nights : Int32) (o_trial_seed : Int32) (o_often_ : AI) (c_hours_ : AI) (c_heardBy_ : AI) (c_heardOf_ : AI) (c_heardAt_ : AI) (c_heardGive_ : AI) (o_trial_has_ : AI) (o_trial_hours_ : AI) (np : Nat) (pw : AI) (pt : AI) : Option (Int32 × Int32 × Int32 × Int32 × Int32 × Int32 × AI × AI × AI) :=
  (loopN FU (fun s_ => BX1_lookOf_8 c_hour c_peopleMany c_heardMany c_hours_ c_heardBy_ c_heardOf_ c_heardAt_ c_heardGive_ np pw pt s_.1 s_.2.1 s_.2.2.1 s_.2.2.2.1 s_.2.2.2.2.1 s_.2.2.2.2.2.1 s_.2.2.2.2.2.2.1 s_.2.2.2.2.2.2.2.1 s_.2.2.2.2.2.2.2.2.1 s_.2.2.2.2.2.2.2.2.2.1 s_.2.2.2.2.2.2.2.2.2.2) ((-2 : Int32), (1000000 : Int32), (0 : Int32), o_trial_living, o_trial_hour, o_trial_cat, o_trial_nights, o_trial_seed, o_often_, o_trial_has_, o_trial_hours_)).bind fun r6 =>
  some (r6.1, r6.2.2.2.2.1, r6.2.2.2.2.2.1, r6.2.2.2.2.2.2.1, r6.2.2.2.2.2.2.2.1, r6.2.2.2.2.2.2.2.2, r6.2.1, r6.2.2.1, r6.2.2.2.1)
def MX1_look (c_hour : Int32) (c_peopleMany : Int32) (c_heardMany : Int32) (o_trial_living : Int32) (o_trial_hour : Int32) (o_trial_cat : Int32) (o_trial_nights : Int32) (o_trial_seed : Int32) (o_often_ : AI) (c_hours_ : AI) (c_heardBy_ : AI) (c_heardOf_ : AI) (c_heardAt_ : AI) (c_heardGive_ : AI) (o_trial_has_ : AI) (o_trial_hours_ : AI) (np : Nat) (pw : AI) (pt : AI) : Option (Int32 × Int32 × Int32 × Int32 × Int32 × Int32 × Int32 × Int32 × AI × AI × AI) :=
  (MX1_anew).bind fun r1 =>
  (MX1_lookOf c_hour c_peopleMany c_heardMany o_trial_living o_trial_hour o_trial_cat o_trial_nights o_trial_seed o_often_ c_hours_ c_heardBy_ c_heardOf_ c_heardAt_ c_heardGive_ o_trial_has_ o_trial_hours_ np pw pt).bind fun r3 =>
  some (r3.1, r1.1, r1.2, r3.2.1, r3.2.2.1, r3.2.2.2.1, r3.2.2.2.2.1, r3.2.2.2.2.2.1, r3.2.2.2.2.2.2.1, r3.2.2.2.2.2.2.2.1, r3.2.2.2.2.2.2.2.2)
def BX7_looks_41 (x1_41 : Int32) (x2_41 : Int32) (m_fitsNow_41 : Int32) (m_foundHour_41 : Int32) (m_lookLeft_41 : Int32) (m_x_41 : AI) (m_hour_41 : AI) (m_partIn_41 : AI) (m_heirIn_41 : AI) (x3_41 : Int32) (x4_41 : Int32) : Option ((Int32 × Int32) ⊕ Int32) :=
  if (7 : Int32) ≤ x4_41 then
    some (.inr x3_41)
  else
    gi (((7 : Int32) * x2_41) + x4_41) 21 <|
    if (m_partIn_41 (Int32.toNatClampNeg (((7 : Int32) * x2_41) + x4_41))) ≤ x3_41 then
      some (.inl (x3_41, (x4_41 + (1 : Int32))))
    else
      gi (((7 : Int32) * x2_41) + x4_41) 21 <|
      lt_ (m_partIn_41 (Int32.toNatClampNeg (((7 : Int32) * x2_41) + x4_41))) fun y9 =>
      some (.inl (y9, (x4_41 + (1 : Int32))))
def BX7_looks_18 (c_heards : Int32) (m_fitsNow_18 : Int32) (m_foundHour_18 : Int32) (m_x_18 : AI) (m_hour_18 : AI) (m_partIn_18 : AI) (m_heirIn_18 : AI) (x1_18 : Int32) (x2_18 : Int32) (m_lookLeft_18 : Int32) : Option ((Int32 × Int32 × Int32) ⊕ (Int32 × Int32)) :=
  if c_heards ≤ x2_18 then
    some (.inr (x1_18, m_lookLeft_18))
  else
    if m_fitsNow_18 ≤ 0 then
      some (.inr (x1_18, m_lookLeft_18))
    else
      (loopN FU (fun s_ => BX7_looks_41 x1_18 x2_18 m_fitsNow_18 m_foundHour_18 m_lookLeft_18 m_x_18 m_hour_18 m_partIn_18 m_heirIn_18 s_.1 s_.2) ((0 : Int32), (0 : Int32))).bind fun r10 =>
      if x1_18 = (-2 : Int32) then
        some (.inl (x2_18, (x2_18 + (1 : Int32)), r10))
      else
        if r10 < m_lookLeft_18 then
          some (.inl (x2_18, (x2_18 + (1 : Int32)), r10))
        else
          some (.inl (x1_18, (x2_18 + (1 : Int32)), m_lookLeft_18))
def MX7_looks (m_foundHour : Int32) (c_hour : Int32) (c_people : Int32) (c_heards : Int32) (m_x_ : AI) (m_hour_ : AI) (m_partIn_ : AI) (m_heirIn_ : AI) (c_has_ : AI) (c_went_ : AI) (c_asked_ : AI) (c_by_ : AI) (c_of_ : AI) (c_give_ : AI) : Option (Int32 × Int32 × Int32 × Int32 × AI × AI × AI × AI) :=
  (MX7_fitting (-1 : Int32) (0 : Int32) m_foundHour c_hour c_people c_heards c_asked_ c_by_ c_of_ c_give_ m_partIn_ m_heirIn_ m_x_ c_has_ m_hour_ c_went_).bind fun r1 =>
  (loopN FU (fun s_ => BX7_looks_18 c_heards r1.2.1 r1.2.2.1 r1.2.2.2.2.2.1 r1.2.2.2.2.2.2 r1.2.2.2.1 r1.2.2.2.2.1 s_.1 s_.2.1 s_.2.2) ((-2 : Int32), (0 : Int32), (-2 : Int32))).bind fun r13 =>
  some (r13.1, r1.2.1, r1.2.2.1, r13.2, r1.2.2.2.2.2.1, r1.2.2.2.2.2.2, r1.2.2.2.1, r1.2.2.2.2.1)
def MX7_look (m_foundHour : Int32) (c_hour : Int32) (c_people : Int32) (c_heards : Int32) (m_x_ : AI) (m_hour_ : AI) (m_partIn_ : AI) (m_heirIn_ : AI) (c_has_ : AI) (c_went_ : AI) (c_asked_ : AI) (c_by_ : AI) (c_of_ : AI) (c_give_ : AI) : Option (Int32 × Int32 × Int32 × Int32 × Int32 × Int32 × Int32 × AI × AI × AI × AI) :=
  (MX7_looks m_foundHour c_hour c_people c_heards m_x_ m_hour_ m_partIn_ m_heirIn_ c_has_ c_went_ c_asked_ c_by_ c_of_ c_give_).bind fun r1 =>
  (MX7_good r1.1).bind fun r3 =>
  some (r3.1, (0 : Int32), r3.2.1, r3.2.2, r1.2.1, r1.2.2.1, r1.2.2.2.1, r1.2.2.2.2.1, r1.2.2.2.2.2.1, r1.2.2.2.2.2.2.1, r1.2.2.2.2.2.2.2)
def MX1_lookLeaves (c_hour : Int32) (c_peopleMany : Int32) (c_heardMany : Int32) (o_trial_living : Int32) (o_trial_hour : Int32) (o_trial_cat : Int32) (o_trial_nights : Int32) (o_trial_seed : Int32) (o_often_ : AI) (c_hours_ : AI) (c_heardBy_ : AI) (c_heardOf_ : AI) (c_heardAt_ : AI) (c_heardGive_ : AI) (o_trial_has_ : AI) (o_trial_hours_ : AI) (np : Nat) (pw : AI) (pt : AI) : Option (Int32 × Int32 × Int32 × Int32 × Int32 × Int32 × Int32 × Int32 × AI × AI × AI) :=
  (MX1_anew).bind fun r1 =>
  (MX1_lookOf c_hour c_peopleMany c_heardMany o_trial_living o_trial_hour o_trial_cat o_trial_nights o_trial_seed o_often_ c_hours_ c_heardBy_ c_heardOf_ c_heardAt_ c_heardGive_ o_trial_has_ o_trial_hours_ np pw pt).bind fun r3 =>
  if r3.1 = (-2 : Int32) then
    some ((-2 : Int32), r1.1, r1.2, r3.2.1, r3.2.2.1, r3.2.2.2.1, r3.2.2.2.2.1, r3.2.2.2.2.2.1, r3.2.2.2.2.2.2.1, r3.2.2.2.2.2.2.2.1, r3.2.2.2.2.2.2.2.2)
  else
    (MX1_leaves r3.1 r3.2.2.2.2.2.2.1 c_hour c_peopleMany c_heardMany c_heardAt_ c_heardGive_ r3.2.1 r3.2.2.1 r3.2.2.2.1 r3.2.2.2.2.1 r3.2.2.2.2.2.1 c_hours_ c_heardBy_ c_heardOf_ r3.2.2.2.2.2.2.2.1 r3.2.2.2.2.2.2.2.2 np pw pt).bind fun r6 =>
    some (r6.1, r1.1, r1.2, r6.2.2.1, r6.2.2.2.1, r6.2.2.2.2.1, r6.2.2.2.2.2.1, r6.2.2.2.2.2.2.1, r6.2.1, r6.2.2.2.2.2.2.2.1, r6.2.2.2.2.2.2.2.2)
def MX7_lookLeaves (m_foundHour : Int32) (c_hour : Int32) (c_people : Int32) (c_heards : Int32) (m_x_ : AI) (m_hour_ : AI) (m_partIn_ : AI) (m_heirIn_ : AI) (c_has_ : AI) (c_went_ : AI) (c_asked_ : AI) (c_by_ : AI) (c_of_ : AI) (c_give_ : AI) : Option (Int32 × Int32 × Int32 × Int32 × Int32 × Int32 × Int32 × AI × AI × AI × AI) :=
  (MX7_looks m_foundHour c_hour c_people c_heards m_x_ m_hour_ m_partIn_ m_heirIn_ c_has_ c_went_ c_asked_ c_by_ c_of_ c_give_).bind fun r1 =>
  (MX7_good r1.2.2.2.1).bind fun r3 =>
  some (r3.1, (0 : Int32), r3.2.1, r3.2.2, r1.2.1, r1.2.2.1, r1.2.2.2.1, r1.2.2.2.2.1, r1.2.2.2.2.2.1, r1.2.2.2.2.2.2.1, r1.2.2.2.2.2.2.2)
def MX1_judge (c_hour : Int32) (c_peopleMany : Int32) (o_trial_has_ : AI) (o_trial_hours_ : AI) (c_hours_ : AI) (np : Nat) (pw : AI) (pt : AI) : Option (Int32 × Int32 × Int32 × Int32 × Int32 × Int32 × Int32 × Int32 × AI × AI) :=
  (MX1_anew).bind fun r1 =>
  (MX4_begin c_hour c_peopleMany o_trial_hours_ c_hours_ o_trial_has_ np pw).bind fun r3 =>
  (MX1_wrong c_peopleMany r3.1 r3.2.2.2.2.2.1 np pt).bind fun r5 =>
  some (r5, r1.1, r1.2, r3.1, r3.2.1, r3.2.2.1, r3.2.2.2.1, r3.2.2.2.2.1, r3.2.2.2.2.2.2, r3.2.2.2.2.2.1)
def MX7_judge (c_hour : Int32) (c_people : Int32) (m_x_ : AI) (c_has_ : AI) (c_asked_ : AI) (c_went_ : AI) : Option (Int32 × Int32 × Int32 × Int32 × AI) :=
  (MX7_asTold m_x_ c_hour c_people c_has_ c_asked_).bind fun r1 =>
  (MX7_wrong c_people c_went_ r1).bind fun r3 =>
  (MX7_good r3).bind fun r5 =>
  some (r5.1, (0 : Int32), r5.2.1, r5.2.2, r1)
def MX1_beggars (p0 : Bool) (p1 : Bool) : Option Int32 :=
  if (b2i p1) = 0 then
    some (0 : Int32)
  else
    if (b2i p0) = 0 then
      some (-1 : Int32)
    else
      some (4 : Int32)
def MX1_richs (p0 : Int32) (p1 : Bool) (p2 : Bool) : Option Int32 :=
  if (b2i p1) = 0 then
    if (b2i p2) = 0 then
      some (0 : Int32)
    else
      some (-p0)
  else
    if (b2i p2) = 0 then
      some (1 : Int32)
    else
      some (-2 : Int32)
def MX1_begs (p0 : Int32) (p1 : Bool) (p2 : Bool) (p3 : Bool) : Option (Int32 × Int32 × Int32) :=
  (MX1_anew).bind fun r1 =>
  (MX1_in p0 (0 : Int32) (9 : Int32)).bind fun r3 =>
  (MX1_numberWhy true r3).bind fun r5 =>
  if r5 = 0 then
    if (b2i p3) = 0 then
      (MX1_richs p0 p1 p2).bind fun r9 =>
      some (r9, r5, r1.2)
    else
      (MX1_beggars p1 p2).bind fun r11 =>
      some (r11, r5, r1.2)
  else
    some ((-100 : Int32), r5, r1.2)
def MX7_refusesShame (p0 : Int32) : Option Int32 :=
  (MX7_in p0 (0 : Int32) (9 : Int32)).bind fun r1 =>
  if (b2i r1) = 0 then
    some (2 : Int32)
  else
    some (0 : Int32)
def MX7_lost (p0 : Int32) : Option (Int32 × Int32 × Int32) :=
  (MX7_refused p0).bind fun r1 =>
  some ((-100 : Int32), r1.2.1, r1.2.2)
def MX7_beggar (p0 : Bool) (p1 : Bool) : Option Int32 :=
  if (b2i p1) = 0 then
    some (0 : Int32)
  else
    if (b2i p0) = 0 then
      some (-1 : Int32)
    else
      some (4 : Int32)
def MX7_rich (p0 : Int32) (p1 : Bool) (p2 : Bool) : Option Int32 :=
  if (b2i p1) = 0 then
    if (b2i p2) = 0 then
      some (0 : Int32)
    else
      some (-p0)
  else
    if (b2i p2) = 0 then
      some (1 : Int32)
    else
      some (-2 : Int32)
def MX7_begs (p0 : Int32) (p1 : Bool) (p2 : Bool) (p3 : Bool) : Option (Int32 × Int32 × Int32 × Int32) :=
  (MX7_refusesShame p0).bind fun r1 =>
  if r1 ≤ 0 then
    if (b2i p3) = 0 then
      (MX7_rich p0 p1 p2).bind fun r5 =>
      (MX7_good r5).bind fun r7 =>
      some (r7.1, (0 : Int32), r7.2.1, r7.2.2)
    else
      (MX7_beggar p1 p2).bind fun r9 =>
      (MX7_good r9).bind fun r11 =>
      some (r11.1, (0 : Int32), r11.2.1, r11.2.2)
  else
    (MX7_lost r1).bind fun r13 =>
    some (r13.1, (0 : Int32), r13.2.1, r13.2.2)
def MX1_isRest (p0 : Int32) (p1 : Bool) (p2 : Bool) : Option Bool :=
  if (b2i p1) = 0 then
    (MX1_richs p0 true p2).bind fun r18 =>
    (MX1_richs p0 p1 p2).bind fun r20 =>
    if r20 < r18 then
      some false
    else
      if (b2i p2) = 0 then
        (MX1_beggars p1 true).bind fun r29 =>
        (MX1_beggars p1 p2).bind fun r31 =>
        if r31 < r29 then
          some false
        else
          some true
      else
        (MX1_beggars p1 false).bind fun r24 =>
        (MX1_beggars p1 p2).bind fun r26 =>
        if r26 < r24 then
          some false
        else
          some true
  else
    (MX1_richs p0 false p2).bind fun r2 =>
    (MX1_richs p0 p1 p2).bind fun r4 =>
    if r4 < r2 then
      some false
    else
      if (b2i p2) = 0 then
        (MX1_beggars p1 true).bind fun r13 =>
        (MX1_beggars p1 p2).bind fun r15 =>
        if r15 < r13 then
          some false
        else
          some true
      else
        (MX1_beggars p1 false).bind fun r8 =>
        (MX1_beggars p1 p2).bind fun r10 =>
        if r10 < r8 then
          some false
        else
          some true
def BX1_seekRests_10 (p0 : Int32) (x2_10 : Int32) (x3_10 : Int32) (o_firstRest_10 : Int32) : Option ((Int32 × Int32 × Int32) ⊕ (Int32 × Int32)) :=
  if (4 : Int32) ≤ x3_10 then
    some (.inr (x2_10, o_firstRest_10))
  else
    if x3_10 ≤ (1 : Int32) then
      if (x3_10 - x3_10 / (2 : Int32) * (2 : Int32)) = (1 : Int32) then
        (MX1_isRest p0 false true).bind fun r9 =>
        if (b2i r9) = 0 then
          some (.inl (x2_10, (x3_10 + (1 : Int32)), o_firstRest_10))
        else
          if x2_10 = 0 then
            lt_ (((10 : Int32) * (x3_10 / (2 : Int32))) + (x3_10 - x3_10 / (2 : Int32) * (2 : Int32))) fun y13 =>
            some (.inl ((x2_10 + (1 : Int32)), (x3_10 + (1 : Int32)), y13))
          else
            some (.inl ((x2_10 + (1 : Int32)), (x3_10 + (1 : Int32)), o_firstRest_10))
      else
        (MX1_isRest p0 false false).bind fun r4 =>
        if (b2i r4) = 0 then
          some (.inl (x2_10, (x3_10 + (1 : Int32)), o_firstRest_10))
        else
          if x2_10 = 0 then
            lt_ (((10 : Int32) * (x3_10 / (2 : Int32))) + (x3_10 - x3_10 / (2 : Int32) * (2 : Int32))) fun y8 =>
            some (.inl ((x2_10 + (1 : Int32)), (x3_10 + (1 : Int32)), y8))
          else
            some (.inl ((x2_10 + (1 : Int32)), (x3_10 + (1 : Int32)), o_firstRest_10))
    else
      if (x3_10 - x3_10 / (2 : Int32) * (2 : Int32)) = (1 : Int32) then
        (MX1_isRest p0 true true).bind fun r20 =>
        if (b2i r20) = 0 then
          some (.inl (x2_10, (x3_10 + (1 : Int32)), o_firstRest_10))
        else
          if x2_10 = 0 then
            lt_ (((10 : Int32) * (x3_10 / (2 : Int32))) + (x3_10 - x3_10 / (2 : Int32) * (2 : Int32))) fun y24 =>
            some (.inl ((x2_10 + (1 : Int32)), (x3_10 + (1 : Int32)), y24))
          else
            some (.inl ((x2_10 + (1 : Int32)), (x3_10 + (1 : Int32)), o_firstRest_10))
      else
        (MX1_isRest p0 true false).bind fun r15 =>
        if (b2i r15) = 0 then
          some (.inl (x2_10, (x3_10 + (1 : Int32)), o_firstRest_10))
        else
          if x2_10 = 0 then
            lt_ (((10 : Int32) * (x3_10 / (2 : Int32))) + (x3_10 - x3_10 / (2 : Int32) * (2 : Int32))) fun y19 =>
            some (.inl ((x2_10 + (1 : Int32)), (x3_10 + (1 : Int32)), y19))
          else
            some (.inl ((x2_10 + (1 : Int32)), (x3_10 + (1 : Int32)), o_firstRest_10))
def MX1_seekRests (p0 : Int32) : Option (Int32 × Int32) :=
  (loopN FU (fun s_ => BX1_seekRests_10 p0 s_.1 s_.2.1 s_.2.2) ((0 : Int32), (0 : Int32), (-2 : Int32))).bind fun r25 =>
  some (r25.1, r25.2)
def MX1_rests (p0 : Int32) (o_firstRest : Int32) : Option (Int32 × Int32 × Int32 × Int32) :=
  (MX1_anew).bind fun r1 =>
  (MX1_in p0 (0 : Int32) (9 : Int32)).bind fun r3 =>
  (MX1_numberWhy true r3).bind fun r5 =>
  if r5 = 0 then
    (MX1_seekRests p0).bind fun r8 =>
    some (r8.1, r1.1, r1.2, r8.2)
  else
    (MX1_no r5).bind fun r10 =>
    some (r10.1, r10.2, r1.2, o_firstRest)
def MX7_isRest (p0 : Int32) (p1 : Int32) : Option Bool :=
  if p1 ≤ (1 : Int32) then
    if (p1 - p1 / (2 : Int32) * (2 : Int32)) = (1 : Int32) then
      (MX7_rich p0 true true).bind fun r16 =>
      (MX7_rich p0 false true).bind fun r18 =>
      if r18 < r16 then
        some false
      else
        (MX7_beggar false false).bind fun r22 =>
        (MX7_beggar false true).bind fun r24 =>
        if r24 < r22 then
          some false
        else
          some true
    else
      (MX7_rich p0 true false).bind fun r4 =>
      (MX7_rich p0 false false).bind fun r6 =>
      if r6 < r4 then
        some false
      else
        (MX7_beggar false true).bind fun r10 =>
        (MX7_beggar false false).bind fun r12 =>
        if r12 < r10 then
          some false
        else
          some true
  else
    if (p1 - p1 / (2 : Int32) * (2 : Int32)) = (1 : Int32) then
      (MX7_rich p0 false true).bind fun r41 =>
      (MX7_rich p0 true true).bind fun r43 =>
      if r43 < r41 then
        some false
      else
        (MX7_beggar true false).bind fun r47 =>
        (MX7_beggar true true).bind fun r49 =>
        if r49 < r47 then
          some false
        else
          some true
    else
      (MX7_rich p0 false false).bind fun r29 =>
      (MX7_rich p0 true false).bind fun r31 =>
      if r31 < r29 then
        some false
      else
        (MX7_beggar true true).bind fun r35 =>
        (MX7_beggar true false).bind fun r37 =>
        if r37 < r35 then
          some false
        else
          some true
def BX7_rests_26 (p0 : Int32) (x3_26 : Int32) (x4_26 : Int32) : Option ((Int32 × Int32) ⊕ Int32) :=
  if (4 : Int32) ≤ x4_26 then
    some (.inr x3_26)
  else
    (MX7_isRest p0 x4_26).bind fun r5 =>
    if (b2i r5) = 0 then
      some (.inl ((x3_26 + (0 : Int32)), (x4_26 + (1 : Int32))))
    else
      some (.inl ((x3_26 + (1 : Int32)), (x4_26 + (1 : Int32))))
def MX7_rests (p0 : Int32) : Option (Int32 × Int32 × Int32 × Int32) :=
  (MX7_refusesShame p0).bind fun r1 =>
  if r1 ≤ 0 then
    (loopN FU (fun s_ => BX7_rests_26 p0 s_.1 s_.2) ((0 : Int32), (0 : Int32))).bind fun r8 =>
    (MX7_good r8).bind fun r9 =>
    some (r9.1, (0 : Int32), r9.2.1, r9.2.2)
  else
    (MX7_refused r1).bind fun r11 =>
    some (r11.1, (0 : Int32), r11.2.1, r11.2.2)
def MX1_rest (p0 : Int32) (o_firstRest : Int32) : Option (Int32 × Int32 × Int32 × Int32) :=
  (MX1_anew).bind fun r1 =>
  (MX1_in p0 (0 : Int32) (9 : Int32)).bind fun r3 =>
  (MX1_numberWhy true r3).bind fun r5 =>
  if r5 = 0 then
    (MX1_seekRests p0).bind fun r8 =>
    some (r8.2, r1.1, r1.2, r8.2)
  else
    (MX1_no r5).bind fun r10 =>
    some (r10.1, r10.2, r1.2, o_firstRest)
def BX7_rest_23 (p0 : Int32) (x3_23 : Int32) : Option (Int32 ⊕ (Int32 ⊕ Unit)) :=
  if (4 : Int32) ≤ x3_23 then
    some (.inr (.inr ()))
  else
    (MX7_isRest p0 x3_23).bind fun r5 =>
    if (b2i r5) = 0 then
      some (.inl (x3_23 + (1 : Int32)))
    else
      some (.inr (.inl x3_23))
def MX7_rest (p0 : Int32) : Option (Int32 × Int32 × Int32 × Int32) :=
  (MX7_refusesShame p0).bind fun r1 =>
  if r1 ≤ 0 then
    (loopN FU (fun s_ => BX7_rest_23 p0 s_) (0 : Int32)).bind fun r8 => match r8 with
    | .inl z9 =>
      (MX7_good (((10 : Int32) * (z9 / (2 : Int32))) + (z9 - z9 / (2 : Int32) * (2 : Int32)))).bind fun r11 =>
      some (r11.1, (0 : Int32), r11.2.1, r11.2.2)
    | .inr z10 =>
      (MX7_good (-2 : Int32)).bind fun r13 =>
      some (r13.1, (0 : Int32), r13.2.1, r13.2.2)
  else
    (MX7_refused r1).bind fun r15 =>
    some (r15.1, (0 : Int32), r15.2.1, r15.2.2)
def BX4_draws_4 (t_living : Int32) (c_peopleMany : Int32) (np : Nat) (pd : AI) (x1_4 : Int32) (x2_4 : Int32) (t_seed_4 : Int32) : Option ((Int32 × Int32 × Int32) ⊕ (Int32 × Int32)) :=
  if c_peopleMany ≤ x2_4 then
    some (.inr (x1_4, t_seed_4))
  else
    (MX4_isLiving x2_4 t_living).bind fun r2 =>
    if (b2i r2) = 0 then
      some (.inl (x1_4, (x2_4 + (1 : Int32)), t_seed_4))
    else
      lt_ ((((75 : Int32) * t_seed_4) + (74 : Int32)) - (((75 : Int32) * t_seed_4) + (74 : Int32)) / (65537 : Int32) * (65537 : Int32)) fun y5 =>
      gi x2_4 6 <|
      gn (Int32.toNatClampNeg x2_4) np <|
      if (pd (Int32.toNatClampNeg x2_4)) ≤ (y5 - y5 / (100 : Int32) * (100 : Int32)) then
        some (.inl ((x1_4 ||| (0 : Int32)), (x2_4 + (1 : Int32)), y5))
      else
        some (.inl ((x1_4 ||| ((1 : Int32) <<< (x2_4 &&& 31))), (x2_4 + (1 : Int32)), y5))
def MX4_draws (t_living : Int32) (t_seed : Int32) (c_peopleMany : Int32) (np : Nat) (pd : AI) : Option (Int32 × Int32) :=
  (loopN FU (fun s_ => BX4_draws_4 t_living c_peopleMany np pd s_.1 s_.2.1 s_.2.2) ((0 : Int32), (0 : Int32), t_seed)).bind fun r9 =>
  some (r9.1, r9.2)
def BX1_nightsWhy_65 (p2 : Int32) (o_town_cat : Int32) (c_peopleMany : Int32) (np : Nat) (pd : AI) (x5_65 : Int32) (o_catAt_65 : Int32) (o_trial_living_65 : Int32) (o_trial_hour_65 : Int32) (o_trial_cat_65 : Int32) (o_trial_nights_65 : Int32) (o_trial_seed_65 : Int32) (o_trial_has_65 : AI) (o_trial_hours_65 : AI) (o_next_living_65 : Int32) (o_next_hour_65 : Int32) (o_next_cat_65 : Int32) (o_next_nights_65 : Int32) (o_next_seed_65 : Int32) (o_next_has_65 : AI) (o_next_hours_65 : AI) : Option ((Int32 × Int32 × Int32 × Int32 × Int32 × Int32 × Int32 × AI × AI × Int32 × Int32 × Int32 × Int32 × Int32 × AI × AI) ⊕ (AI × AI × AI × AI × Int32 × Int32 × Int32 × Int32 × Int32 × Int32 × Int32 × Int32 × Int32 × Int32 × Int32)) :=
  if p2 < x5_65 then
    some (.inr (o_trial_has_65, o_trial_hours_65, o_next_has_65, o_next_hours_65, o_catAt_65, o_trial_living_65, o_trial_hour_65, o_trial_cat_65, o_trial_nights_65, o_trial_seed_65, o_next_living_65, o_next_hour_65, o_next_cat_65, o_next_nights_65, o_next_seed_65))
  else
    (MX4_draws o_trial_living_65 o_trial_seed_65 c_peopleMany np pd).bind fun r10 =>
    (MX4_dies r10.1 o_trial_living_65 o_trial_hour_65 o_trial_cat_65 o_trial_nights_65 r10.2 o_next_has_65 o_next_hours_65 o_trial_has_65 o_trial_hours_65 c_peopleMany).bind fun r12 =>
    (MX4_become r12.1 r12.2.1 r12.2.2.1 r12.2.2.2.1 r12.2.2.2.2.1 o_trial_has_65 r12.2.2.2.2.2.1 o_trial_hours_65 r12.2.2.2.2.2.2).bind fun r14 =>
    if o_catAt_65 = (-2 : Int32) then
      if r14.2.2.1 ≤ o_town_cat then
        some (.inl ((x5_65 + (1 : Int32)), o_catAt_65, r14.1, r14.2.1, r14.2.2.1, r14.2.2.2.1, r14.2.2.2.2.1, r14.2.2.2.2.2.1, r14.2.2.2.2.2.2, r12.1, r12.2.1, r12.2.2.1, r12.2.2.2.1, r12.2.2.2.2.1, r12.2.2.2.2.2.1, r12.2.2.2.2.2.2))
      else
        some (.inl ((x5_65 + (1 : Int32)), x5_65, r14.1, r14.2.1, r14.2.2.1, r14.2.2.2.1, r14.2.2.2.2.1, r14.2.2.2.2.2.1, r14.2.2.2.2.2.2, r12.1, r12.2.1, r12.2.2.1, r12.2.2.2.1, r12.2.2.2.2.1, r12.2.2.2.2.2.1, r12.2.2.2.2.2.2))
    else
      some (.inl ((x5_65 + (1 : Int32)), o_catAt_65, r14.1, r14.2.1, r14.2.2.1, r14.2.2.2.1, r14.2.2.2.2.1, r14.2.2.2.2.2.1, r14.2.2.2.2.2.2, r12.1, r12.2.1, r12.2.2.1, r12.2.2.2.1, r12.2.2.2.2.1, r12.2.2.2.2.2.1, r12.2.2.2.2.2.2))
def MX1_nightsWhy (p0 : Bool) (p1 : Int32) (p2 : Int32) (o_catAt : Int32) (o_trial_living : Int32) (o_trial_hour : Int32) (o_trial_cat : Int32) (o_trial_nights : Int32) (o_trial_seed : Int32) (o_town_living : Int32) (o_town_hour : Int32) (o_town_cat : Int32) (o_town_nights : Int32) (o_town_seed : Int32) (o_trial_has_ : AI) (o_trial_hours_ : AI) (o_town_has_ : AI) (o_town_hours_ : AI) (c_peopleMany : Int32) (o_next_living : Int32) (o_next_hour : Int32) (o_next_cat : Int32) (o_next_nights : Int32) (o_next_seed : Int32) (o_next_has_ : AI) (o_next_hours_ : AI) (np : Nat) (pd : AI) : Option (Int32 × Int32 × Int32 × Int32 × Int32 × Int32 × Int32 × AI × AI × Int32 × Int32 × Int32 × Int32 × Int32 × AI × AI) :=
  (MX1_in p1 (0 : Int32) (65536 : Int32)).bind fun r1 =>
  if (b2i r1) = 0 then
    (MX1_numberWhy p0 false).bind fun r4 =>
    if r4 = 0 then
      (MX4_become o_town_living o_town_hour o_town_cat o_town_nights o_town_seed o_trial_has_ o_town_has_ o_trial_hours_ o_town_hours_).bind fun r7 =>
      (loopN FU (fun s_ => BX1_nightsWhy_65 p2 o_town_cat c_peopleMany np pd s_.1 s_.2.1 s_.2.2.1 s_.2.2.2.1 s_.2.2.2.2.1 s_.2.2.2.2.2.1 s_.2.2.2.2.2.2.1 s_.2.2.2.2.2.2.2.1 s_.2.2.2.2.2.2.2.2.1 s_.2.2.2.2.2.2.2.2.2.1 s_.2.2.2.2.2.2.2.2.2.2.1 s_.2.2.2.2.2.2.2.2.2.2.2.1 s_.2.2.2.2.2.2.2.2.2.2.2.2.1 s_.2.2.2.2.2.2.2.2.2.2.2.2.2.1 s_.2.2.2.2.2.2.2.2.2.2.2.2.2.2.1 s_.2.2.2.2.2.2.2.2.2.2.2.2.2.2.2) ((1 : Int32), (-2 : Int32), r7.1, r7.2.1, r7.2.2.1, r7.2.2.2.1, p1, r7.2.2.2.2.2.1, r7.2.2.2.2.2.2, o_next_living, o_next_hour, o_next_cat, o_next_nights, o_next_seed, o_next_has_, o_next_hours_)).bind fun r18 =>
      some ((0 : Int32), r18.2.2.2.2.1, r18.2.2.2.2.2.1, r18.2.2.2.2.2.2.1, r18.2.2.2.2.2.2.2.1, r18.2.2.2.2.2.2.2.2.1, r18.2.2.2.2.2.2.2.2.2.1, r18.1, r18.2.1, r18.2.2.2.2.2.2.2.2.2.2.1, r18.2.2.2.2.2.2.2.2.2.2.2.1, r18.2.2.2.2.2.2.2.2.2.2.2.2.1, r18.2.2.2.2.2.2.2.2.2.2.2.2.2.1, r18.2.2.2.2.2.2.2.2.2.2.2.2.2.2, r18.2.2.1, r18.2.2.2.1)
    else
      some (r4, o_catAt, o_trial_living, o_trial_hour, o_trial_cat, o_trial_nights, o_trial_seed, o_trial_has_, o_trial_hours_, o_next_living, o_next_hour, o_next_cat, o_next_nights, o_next_seed, o_next_has_, o_next_hours_)
  else
    (MX1_in p2 (0 : Int32) (60 : Int32)).bind fun r19 =>
    if (b2i r19) = 0 then
      (MX1_numberWhy p0 false).bind fun r22 =>
      if r22 = 0 then
        (MX4_become o_town_living o_town_hour o_town_cat o_town_nights o_town_seed o_trial_has_ o_town_has_ o_trial_hours_ o_town_hours_).bind fun r25 =>
        (loopN FU (fun s_ => BX1_nightsWhy_65 p2 o_town_cat c_peopleMany np pd s_.1 s_.2.1 s_.2.2.1 s_.2.2.2.1 s_.2.2.2.2.1 s_.2.2.2.2.2.1 s_.2.2.2.2.2.2.1 s_.2.2.2.2.2.2.2.1 s_.2.2.2.2.2.2.2.2.1 s_.2.2.2.2.2.2.2.2.2.1 s_.2.2.2.2.2.2.2.2.2.2.1 s_.2.2.2.2.2.2.2.2.2.2.2.1 s_.2.2.2.2.2.2.2.2.2.2.2.2.1 s_.2.2.2.2.2.2.2.2.2.2.2.2.2.1 s_.2.2.2.2.2.2.2.2.2.2.2.2.2.2.1 s_.2.2.2.2.2.2.2.2.2.2.2.2.2.2.2) ((1 : Int32), (-2 : Int32), r25.1, r25.2.1, r25.2.2.1, r25.2.2.2.1, p1, r25.2.2.2.2.2.1, r25.2.2.2.2.2.2, o_next_living, o_next_hour, o_next_cat, o_next_nights, o_next_seed, o_next_has_, o_next_hours_)).bind fun r27 =>
        some ((0 : Int32), r27.2.2.2.2.1, r27.2.2.2.2.2.1, r27.2.2.2.2.2.2.1, r27.2.2.2.2.2.2.2.1, r27.2.2.2.2.2.2.2.2.1, r27.2.2.2.2.2.2.2.2.2.1, r27.1, r27.2.1, r27.2.2.2.2.2.2.2.2.2.2.1, r27.2.2.2.2.2.2.2.2.2.2.2.1, r27.2.2.2.2.2.2.2.2.2.2.2.2.1, r27.2.2.2.2.2.2.2.2.2.2.2.2.2.1, r27.2.2.2.2.2.2.2.2.2.2.2.2.2.2, r27.2.2.1, r27.2.2.2.1)
      else
        some (r22, o_catAt, o_trial_living, o_trial_hour, o_trial_cat, o_trial_nights, o_trial_seed, o_trial_has_, o_trial_hours_, o_next_living, o_next_hour, o_next_cat, o_next_nights, o_next_seed, o_next_has_, o_next_hours_)
    else
      (MX1_numberWhy p0 true).bind fun r28 =>
      if r28 = 0 then
        (MX4_become o_town_living o_town_hour o_town_cat o_town_nights o_town_seed o_trial_has_ o_town_has_ o_trial_hours_ o_town_hours_).bind fun r31 =>
        (loopN FU (fun s_ => BX1_nightsWhy_65 p2 o_town_cat c_peopleMany np pd s_.1 s_.2.1 s_.2.2.1 s_.2.2.2.1 s_.2.2.2.2.1 s_.2.2.2.2.2.1 s_.2.2.2.2.2.2.1 s_.2.2.2.2.2.2.2.1 s_.2.2.2.2.2.2.2.2.1 s_.2.2.2.2.2.2.2.2.2.1 s_.2.2.2.2.2.2.2.2.2.2.1 s_.2.2.2.2.2.2.2.2.2.2.2.1 s_.2.2.2.2.2.2.2.2.2.2.2.2.1 s_.2.2.2.2.2.2.2.2.2.2.2.2.2.1 s_.2.2.2.2.2.2.2.2.2.2.2.2.2.2.1 s_.2.2.2.2.2.2.2.2.2.2.2.2.2.2.2) ((1 : Int32), (-2 : Int32), r31.1, r31.2.1, r31.2.2.1, r31.2.2.2.1, p1, r31.2.2.2.2.2.1, r31.2.2.2.2.2.2, o_next_living, o_next_hour, o_next_cat, o_next_nights, o_next_seed, o_next_has_, o_next_hours_)).bind fun r33 =>
        some ((0 : Int32), r33.2.2.2.2.1, r33.2.2.2.2.2.1, r33.2.2.2.2.2.2.1, r33.2.2.2.2.2.2.2.1, r33.2.2.2.2.2.2.2.2.1, r33.2.2.2.2.2.2.2.2.2.1, r33.1, r33.2.1, r33.2.2.2.2.2.2.2.2.2.2.1, r33.2.2.2.2.2.2.2.2.2.2.2.1, r33.2.2.2.2.2.2.2.2.2.2.2.2.1, r33.2.2.2.2.2.2.2.2.2.2.2.2.2.1, r33.2.2.2.2.2.2.2.2.2.2.2.2.2.2, r33.2.2.1, r33.2.2.2.1)
      else
        some (r28, o_catAt, o_trial_living, o_trial_hour, o_trial_cat, o_trial_nights, o_trial_seed, o_trial_has_, o_trial_hours_, o_next_living, o_next_hour, o_next_cat, o_next_nights, o_next_seed, o_next_has_, o_next_hours_)
def MX1_nights (p0 : Int32) (p1 : Int32) (p2 : Int32) (o_catAt : Int32) (c_peopleMany : Int32) (o_town_living : Int32) (o_town_hour : Int32) (o_town_cat : Int32) (o_town_nights : Int32) (o_town_seed : Int32) (o_trial_living : Int32) (o_trial_hour : Int32) (o_trial_cat : Int32) (o_trial_nights : Int32) (o_trial_seed : Int32) (o_next_living : Int32) (o_next_hour : Int32) (o_next_cat : Int32) (o_next_nights : Int32) (o_next_seed : Int32) (o_town_has_ : AI) (o_town_hours_ : AI) (o_trial_has_ : AI) (o_trial_hours_ : AI) (o_next_has_ : AI) (o_next_hours_ : AI) (np : Nat) (pd : AI) : Option (Int32 × Int32 × Int32 × Int32 × Int32 × Int32 × Int32 × Int32 × Int32 × Int32 × Int32 × Int32 × Int32 × Int32 × AI × AI × AI × AI) :=
  (MX1_anew).bind fun r1 =>
  (MX1_isPerson p0 c_peopleMany).bind fun r3 =>
  (MX1_nightsWhy r3 p1 p2 o_catAt o_trial_living o_trial_hour o_trial_cat o_trial_nights o_trial_seed o_town_living o_town_hour o_town_cat o_town_nights o_town_seed o_trial_has_ o_trial_hours_ o_town_has_ o_town_hours_ c_peopleMany o_next_living o_next_hour o_next_cat o_next_nights o_next_seed o_next_has_ o_next_hours_ np pd).bind fun r5 =>
  if r5.1 = 0 then
    gi p0 6 <|
    some ((r5.2.2.2.2.2.2.2.1 (Int32.toNatClampNeg p0)), r1.1, r1.2, r5.2.1, r5.2.2.1, r5.2.2.2.1, r5.2.2.2.2.1, r5.2.2.2.2.2.1, r5.2.2.2.2.2.2.1, r5.2.2.2.2.2.2.2.2.2.1, r5.2.2.2.2.2.2.2.2.2.2.1, r5.2.2.2.2.2.2.2.2.2.2.2.1, r5.2.2.2.2.2.2.2.2.2.2.2.2.1, r5.2.2.2.2.2.2.2.2.2.2.2.2.2.1, r5.2.2.2.2.2.2.2.1, r5.2.2.2.2.2.2.2.2.1, r5.2.2.2.2.2.2.2.2.2.2.2.2.2.2.1, r5.2.2.2.2.2.2.2.2.2.2.2.2.2.2.2)
  else
    (MX1_no r5.1).bind fun r9 =>
    some (r9.1, r9.2, r1.2, r5.2.1, r5.2.2.1, r5.2.2.2.1, r5.2.2.2.2.1, r5.2.2.2.2.2.1, r5.2.2.2.2.2.2.1, r5.2.2.2.2.2.2.2.2.2.1, r5.2.2.2.2.2.2.2.2.2.2.1, r5.2.2.2.2.2.2.2.2.2.2.2.1, r5.2.2.2.2.2.2.2.2.2.2.2.2.1, r5.2.2.2.2.2.2.2.2.2.2.2.2.2.1, r5.2.2.2.2.2.2.2.1, r5.2.2.2.2.2.2.2.2.1, r5.2.2.2.2.2.2.2.2.2.2.2.2.2.2.1, r5.2.2.2.2.2.2.2.2.2.2.2.2.2.2.2)
def MX7_refusesSeed (p0 : Bool) (p1 : Int32) (p2 : Int32) : Option Int32 :=
  if (b2i p0) = 0 then
    some (1 : Int32)
  else
    (MX7_in p1 (0 : Int32) (65536 : Int32)).bind fun r2 =>
    if (b2i r2) = 0 then
      some (2 : Int32)
    else
      (MX7_in p2 (0 : Int32) (60 : Int32)).bind fun r5 =>
      if (b2i r5) = 0 then
        some (2 : Int32)
      else
        some (0 : Int32)
def BX7_dieAll_11 (c_people : Int32) (m_catGets_11 : Int32) (m_heir_11 : AI) (m_then_11 : AI) (x3_11 : Int32) (m_x_11 : AI) : Option ((Int32 × AI) ⊕ AI) :=
  if c_people ≤ x3_11 then
    some (.inr m_x_11)
  else
    gi x3_11 6 <|
    gi x3_11 47 <|
    some (.inl ((x3_11 + (1 : Int32)), (upd m_x_11 (Int32.toNatClampNeg x3_11) (m_then_11 (Int32.toNatClampNeg x3_11)))))
def MX7_dieAll (p0 : Int32) (p1 : Bool) (c_people : Int32) (m_x_ : AI) (m_heir_ : AI) (m_then_ : AI) : Option (Int32 × AI × AI × AI) :=
  (MX7_heirs c_people m_x_ m_heir_).bind fun r1 =>
  (MX7_dying p0 c_people m_then_ m_x_ r1).bind fun r3 =>
  (loopN FU (fun s_ => BX7_dieAll_11 c_people r3.1 r1 r3.2 s_.1 s_.2) ((0 : Int32), m_x_)).bind fun r8 =>
  lt_ (((upd r8 43 ((r8 43) + r3.1)) 42) &&& (p0 ^^^ (-1 : Int32))) fun y9 =>
  if (b2i p1) = 0 then
    some (r3.1, (upd (upd r8 43 ((r8 43) + r3.1)) 42 y9), r1, r3.2)
  else
    lt_ (((upd (upd r8 43 ((r8 43) + r3.1)) 42 y9) 45) + (1 : Int32)) fun y11 =>
    some (r3.1, (upd (upd (upd r8 43 ((r8 43) + r3.1)) 42 y9) 45 y11), r1, r3.2)
def BX7_aNight_4 (c_people : Int32) (c_dies_ : AI) (x2_4 : Int32) (x3_4 : Int32) (m_x_4 : AI) : Option ((Int32 × Int32 × AI) ⊕ (Int32 × AI)) :=
  if c_people ≤ x3_4 then
    some (.inr (x2_4, m_x_4))
  else
    (MX7_isLiving x3_4 m_x_4).bind fun r2 =>
    if (b2i r2) = 0 then
      some (.inl (x2_4, (x3_4 + (1 : Int32)), m_x_4))
    else
      lt_ (Int64.toInt32 ((((75 : Int64) * (Int32.toInt64 (m_x_4 46))) + (74 : Int64)) - (((75 : Int64) * (Int32.toInt64 (m_x_4 46))) + (74 : Int64)) / (65537 : Int64) * (65537 : Int64))) fun y5 =>
      gi x3_4 6 <|
      if (c_dies_ (Int32.toNatClampNeg x3_4)) ≤ (((upd m_x_4 46 y5) 46) - ((upd m_x_4 46 y5) 46) / (100 : Int32) * (100 : Int32)) then
        some (.inl ((x2_4 ||| (0 : Int32)), (x3_4 + (1 : Int32)), (upd m_x_4 46 y5)))
      else
        some (.inl ((x2_4 ||| ((1 : Int32) <<< (x3_4 &&& 31))), (x3_4 + (1 : Int32)), (upd m_x_4 46 y5)))
def MX7_aNight (p0 : Bool) (c_people : Int32) (m_x_ : AI) (c_dies_ : AI) (m_heir_ : AI) (m_then_ : AI) : Option (Int32 × Int32 × AI × AI × AI) :=
  (loopN FU (fun s_ => BX7_aNight_4 c_people c_dies_ s_.1 s_.2.1 s_.2.2) ((0 : Int32), (0 : Int32), m_x_)).bind fun r8 =>
  (MX7_dieAll r8.1 p0 c_people r8.2 m_heir_ m_then_).bind fun r9 =>
  some (r8.1, r9.1, r9.2.1, r9.2.2.1, r9.2.2.2)
def BX7_nightsAll_20 (p1 : Int32) (m_v_ : AI) (c_people : Int32) (c_dies_ : AI) (x3_20 : Int32) (m_catGets_20 : Int32) (m_firstCatNow_20 : Int32) (m_x_20 : AI) (m_heir_20 : AI) (m_then_20 : AI) : Option ((Int32 × Int32 × Int32 × AI × AI × AI) ⊕ (AI × AI × AI × Int32 × Int32)) :=
  if p1 < x3_20 then
    some (.inr (m_x_20, m_heir_20, m_then_20, m_catGets_20, m_firstCatNow_20))
  else
    (MX7_aNight false c_people m_x_20 c_dies_ m_heir_20 m_then_20).bind fun r4 =>
    if m_firstCatNow_20 = (-2 : Int32) then
      if (r4.2.2.1 43) ≤ (m_v_ 43) then
        some (.inl ((x3_20 + (1 : Int32)), r4.2.1, m_firstCatNow_20, r4.2.2.1, r4.2.2.2.1, r4.2.2.2.2))
      else
        some (.inl ((x3_20 + (1 : Int32)), r4.2.1, x3_20, r4.2.2.1, r4.2.2.2.1, r4.2.2.2.2))
    else
      some (.inl ((x3_20 + (1 : Int32)), r4.2.1, m_firstCatNow_20, r4.2.2.1, r4.2.2.2.1, r4.2.2.2.2))
def MX7_nightsAll (p0 : Int32) (p1 : Int32) (m_catGets : Int32) (m_v_ : AI) (m_x_ : AI) (c_people : Int32) (m_heir_ : AI) (m_then_ : AI) (c_dies_ : AI) : Option (Int32 × Int32 × AI × AI × AI) :=
  (MX7_works m_v_ m_x_).bind fun r1 =>
  (loopN FU (fun s_ => BX7_nightsAll_20 p1 m_v_ c_people c_dies_ s_.1 s_.2.1 s_.2.2.1 s_.2.2.2.1 s_.2.2.2.2.1 s_.2.2.2.2.2) ((1 : Int32), m_catGets, (-2 : Int32), (upd r1 46 p0), m_heir_, m_then_)).bind fun r8 =>
  some (r8.2.2.2.1, r8.2.2.2.2, r8.1, r8.2.1, r8.2.2.1)
def MX7_nights (p0 : Int32) (p1 : Int32) (p2 : Int32) (m_catGets : Int32) (m_firstCatNow : Int32) (c_people : Int32) (m_v_ : AI) (m_x_ : AI) (m_heir_ : AI) (m_then_ : AI) (c_dies_ : AI) : Option (Int32 × Int32 × Int32 × Int32 × Int32 × Int32 × AI × AI × AI) :=
  (MX7_isPerson p0 c_people).bind fun r1 =>
  (MX7_refusesSeed r1 p1 p2).bind fun r3 =>
  if r3 ≤ 0 then
    (MX7_nightsAll p1 p2 m_catGets m_v_ m_x_ c_people m_heir_ m_then_ c_dies_).bind fun r6 =>
    gi p0 47 <|
    (MX7_good (r6.2.2.1 (Int32.toNatClampNeg p0))).bind fun r9 =>
    some (r9.1, (0 : Int32), r9.2.1, r9.2.2, r6.1, r6.2.1, r6.2.2.1, r6.2.2.2.1, r6.2.2.2.2)
  else
    (MX7_refused r3).bind fun r11 =>
    some (r11.1, (0 : Int32), r11.2.1, r11.2.2, m_catGets, m_firstCatNow, m_x_, m_heir_, m_then_)
def MX1_lives (p0 : Int32) (p1 : Int32) (o_catAt : Int32) (c_peopleMany : Int32) (o_town_living : Int32) (o_town_hour : Int32) (o_town_cat : Int32) (o_town_nights : Int32) (o_town_seed : Int32) (o_trial_living : Int32) (o_trial_hour : Int32) (o_trial_cat : Int32) (o_trial_nights : Int32) (o_trial_seed : Int32) (o_next_living : Int32) (o_next_hour : Int32) (o_next_cat : Int32) (o_next_nights : Int32) (o_next_seed : Int32) (o_town_has_ : AI) (o_town_hours_ : AI) (o_trial_has_ : AI) (o_trial_hours_ : AI) (o_next_has_ : AI) (o_next_hours_ : AI) (np : Nat) (pd : AI) : Option (Int32 × Int32 × Int32 × Int32 × Int32 × Int32 × Int32 × Int32 × Int32 × Int32 × Int32 × Int32 × Int32 × Int32 × AI × AI × AI × AI) :=
  (MX1_anew).bind fun r1 =>
  (MX1_nightsWhy true p0 p1 o_catAt o_trial_living o_trial_hour o_trial_cat o_trial_nights o_trial_seed o_town_living o_town_hour o_town_cat o_town_nights o_town_seed o_trial_has_ o_trial_hours_ o_town_has_ o_town_hours_ c_peopleMany o_next_living o_next_hour o_next_cat o_next_nights o_next_seed o_next_has_ o_next_hours_ np pd).bind fun r3 =>
  if r3.1 = 0 then
    some (r3.2.2.1, r1.1, r1.2, r3.2.1, r3.2.2.1, r3.2.2.2.1, r3.2.2.2.2.1, r3.2.2.2.2.2.1, r3.2.2.2.2.2.2.1, r3.2.2.2.2.2.2.2.2.2.1, r3.2.2.2.2.2.2.2.2.2.2.1, r3.2.2.2.2.2.2.2.2.2.2.2.1, r3.2.2.2.2.2.2.2.2.2.2.2.2.1, r3.2.2.2.2.2.2.2.2.2.2.2.2.2.1, r3.2.2.2.2.2.2.2.1, r3.2.2.2.2.2.2.2.2.1, r3.2.2.2.2.2.2.2.2.2.2.2.2.2.2.1, r3.2.2.2.2.2.2.2.2.2.2.2.2.2.2.2)
  else
    (MX1_no r3.1).bind fun r6 =>
    some (r6.1, r6.2, r1.2, r3.2.1, r3.2.2.1, r3.2.2.2.1, r3.2.2.2.2.1, r3.2.2.2.2.2.1, r3.2.2.2.2.2.2.1, r3.2.2.2.2.2.2.2.2.2.1, r3.2.2.2.2.2.2.2.2.2.2.1, r3.2.2.2.2.2.2.2.2.2.2.2.1, r3.2.2.2.2.2.2.2.2.2.2.2.2.1, r3.2.2.2.2.2.2.2.2.2.2.2.2.2.1, r3.2.2.2.2.2.2.2.1, r3.2.2.2.2.2.2.2.2.1, r3.2.2.2.2.2.2.2.2.2.2.2.2.2.2.1, r3.2.2.2.2.2.2.2.2.2.2.2.2.2.2.2)
def MX7_lives (p0 : Int32) (p1 : Int32) (m_catGets : Int32) (m_firstCatNow : Int32) (c_people : Int32) (m_v_ : AI) (m_x_ : AI) (m_heir_ : AI) (m_then_ : AI) (c_dies_ : AI) : Option (Int32 × Int32 × Int32 × Int32 × Int32 × Int32 × AI × AI × AI) :=
  (MX7_refusesSeed true p0 p1).bind fun r1 =>
  if r1 ≤ 0 then
    (MX7_nightsAll p0 p1 m_catGets m_v_ m_x_ c_people m_heir_ m_then_ c_dies_).bind fun r4 =>
    (MX7_good (r4.2.2.1 42)).bind fun r6 =>
    some (r6.1, (0 : Int32), r6.2.1, r6.2.2, r4.1, r4.2.1, r4.2.2.1, r4.2.2.2.1, r4.2.2.2.2)
  else
    (MX7_refused r1).bind fun r8 =>
    some (r8.1, (0 : Int32), r8.2.1, r8.2.2, m_catGets, m_firstCatNow, m_x_, m_heir_, m_then_)
def MX1_firstCat (p0 : Int32) (p1 : Int32) (o_catAt : Int32) (c_peopleMany : Int32) (o_town_living : Int32) (o_town_hour : Int32) (o_town_cat : Int32) (o_town_nights : Int32) (o_town_seed : Int32) (o_trial_living : Int32) (o_trial_hour : Int32) (o_trial_cat : Int32) (o_trial_nights : Int32) (o_trial_seed : Int32) (o_next_living : Int32) (o_next_hour : Int32) (o_next_cat : Int32) (o_next_nights : Int32) (o_next_seed : Int32) (o_town_has_ : AI) (o_town_hours_ : AI) (o_trial_has_ : AI) (o_trial_hours_ : AI) (o_next_has_ : AI) (o_next_hours_ : AI) (np : Nat) (pd : AI) : Option (Int32 × Int32 × Int32 × Int32 × Int32 × Int32 × Int32 × Int32 × Int32 × Int32 × Int32 × Int32 × Int32 × Int32 × AI × AI × AI × AI) :=
  (MX1_anew).bind fun r1 =>
  (MX1_nightsWhy true p0 p1 o_catAt o_trial_living o_trial_hour o_trial_cat o_trial_nights o_trial_seed o_town_living o_town_hour o_town_cat o_town_nights o_town_seed o_trial_has_ o_trial_hours_ o_town_has_ o_town_hours_ c_peopleMany o_next_living o_next_hour o_next_cat o_next_nights o_next_seed o_next_has_ o_next_hours_ np pd).bind fun r3 =>
  if r3.1 = 0 then
    some (r3.2.1, r1.1, r1.2, r3.2.1, r3.2.2.1, r3.2.2.2.1, r3.2.2.2.2.1, r3.2.2.2.2.2.1, r3.2.2.2.2.2.2.1, r3.2.2.2.2.2.2.2.2.2.1, r3.2.2.2.2.2.2.2.2.2.2.1, r3.2.2.2.2.2.2.2.2.2.2.2.1, r3.2.2.2.2.2.2.2.2.2.2.2.2.1, r3.2.2.2.2.2.2.2.2.2.2.2.2.2.1, r3.2.2.2.2.2.2.2.1, r3.2.2.2.2.2.2.2.2.1, r3.2.2.2.2.2.2.2.2.2.2.2.2.2.2.1, r3.2.2.2.2.2.2.2.2.2.2.2.2.2.2.2)
  else
    (MX1_no r3.1).bind fun r6 =>
    some (r6.1, r6.2, r1.2, r3.2.1, r3.2.2.1, r3.2.2.2.1, r3.2.2.2.2.1, r3.2.2.2.2.2.1, r3.2.2.2.2.2.2.1, r3.2.2.2.2.2.2.2.2.2.1, r3.2.2.2.2.2.2.2.2.2.2.1, r3.2.2.2.2.2.2.2.2.2.2.2.1, r3.2.2.2.2.2.2.2.2.2.2.2.2.1, r3.2.2.2.2.2.2.2.2.2.2.2.2.2.1, r3.2.2.2.2.2.2.2.1, r3.2.2.2.2.2.2.2.2.1, r3.2.2.2.2.2.2.2.2.2.2.2.2.2.2.1, r3.2.2.2.2.2.2.2.2.2.2.2.2.2.2.2)
def MX7_firstCat (p0 : Int32) (p1 : Int32) (m_catGets : Int32) (m_firstCatNow : Int32) (c_people : Int32) (m_v_ : AI) (m_x_ : AI) (m_heir_ : AI) (m_then_ : AI) (c_dies_ : AI) : Option (Int32 × Int32 × Int32 × Int32 × Int32 × Int32 × AI × AI × AI) :=
  (MX7_refusesSeed true p0 p1).bind fun r1 =>
  if r1 ≤ 0 then
    (MX7_nightsAll p0 p1 m_catGets m_v_ m_x_ c_people m_heir_ m_then_ c_dies_).bind fun r4 =>
    (MX7_good r4.2.1).bind fun r6 =>
    some (r6.1, (0 : Int32), r6.2.1, r6.2.2, r4.1, r4.2.1, r4.2.2.1, r4.2.2.2.1, r4.2.2.2.2)
  else
    (MX7_refused r1).bind fun r8 =>
    some (r8.1, (0 : Int32), r8.2.1, r8.2.2, m_catGets, m_firstCatNow, m_x_, m_heir_, m_then_)
def MX1_note (o_town_living : Int32) (o_town_hour : Int32) (o_town_cat : Int32) (o_town_nights : Int32) (o_town_seed : Int32) (o_was_has_ : AI) (o_was_hours_ : AI) (o_town_has_ : AI) (o_town_hours_ : AI) : Option (Int32 × Int32 × Int32 × Int32 × Int32 × AI × AI) :=
  (MX4_become o_town_living o_town_hour o_town_cat o_town_nights o_town_seed o_was_has_ o_town_has_ o_was_hours_ o_town_hours_).bind fun r1 =>
  some (r1.1, r1.2.1, r1.2.2.1, r1.2.2.2.1, r1.2.2.2.2.1, r1.2.2.2.2.2.1, r1.2.2.2.2.2.2)
def MX1_done (h_o_undoneX : Nat) (o_undoMany : Int32) (o_was_living : Int32) (o_was_hour : Int32) (o_was_cat : Int32) (o_was_nights : Int32) (o_was_seed : Int32) (o_undoneX_has_ : AI) (o_undoneX_hours_ : AI) (o_was_has_ : AI) (o_was_hours_ : AI) (o_undone_r : Nat → Option Nat) : Option (Bool × Int32 × Int32 × Int32 × Int32 × Int32 × Int32 × AI × AI) :=
  if o_undoMany = (16 : Int32) then
    none
  else
    gi o_undoMany 16 <|
    gq (o_undone_r (Int32.toNatClampNeg o_undoMany)) h_o_undoneX <|
    (MX4_become o_was_living o_was_hour o_was_cat o_was_nights o_was_seed o_undoneX_has_ o_was_has_ o_undoneX_hours_ o_was_hours_).bind fun r4 =>
    some (true, (o_undoMany + (1 : Int32)), r4.1, r4.2.1, r4.2.2.1, r4.2.2.2.1, r4.2.2.2.2.1, r4.2.2.2.2.2.1, r4.2.2.2.2.2.2)
def MX1_doneL (o_was_living : Int32) (o_was_hour : Int32) (o_was_cat : Int32) (o_was_nights : Int32) (o_was_seed : Int32) (o_undone0_has_ : AI) (o_undone0_hours_ : AI) (o_was_has_ : AI) (o_was_hours_ : AI) : Option (Bool × Int32 × Int32 × Int32 × Int32 × Int32 × AI × AI) :=
  (MX4_become o_was_living o_was_hour o_was_cat o_was_nights o_was_seed o_undone0_has_ o_was_has_ o_undone0_hours_ o_was_hours_).bind fun r18 =>
  some (true, r18.1, r18.2.1, r18.2.2.1, r18.2.2.2.1, r18.2.2.2.2.1, r18.2.2.2.2.2.1, r18.2.2.2.2.2.2)
def MX1_ask (h_c : Nat) (h_o_undoneX : Nat) (p0 : Int32) (p1 : Int32) (o_undoMany : Int32) (c_gives : Int32) (c_peopleMany : Int32) (o_town_living : Int32) (o_town_hour : Int32) (o_town_cat : Int32) (o_town_nights : Int32) (o_town_seed : Int32) (o_was_living : Int32) (o_was_hour : Int32) (o_was_cat : Int32) (o_was_nights : Int32) (o_was_seed : Int32) (o_town_has_ : AI) (o_town_hours_ : AI) (o_was_has_ : AI) (o_was_hours_ : AI) (o_undoneX_living : Int32) (o_undoneX_hour : Int32) (o_undoneX_cat : Int32) (o_undoneX_nights : Int32) (o_undoneX_seed : Int32) (o_undoneX_has_ : AI) (o_undoneX_hours_ : AI) (np : Nat) (pk : Nat → Nat) (pr : AI) (o_was_city : Value) (o_undoneX_city : Value) (o_undone_r : Nat → Option Nat) : Option (Int32 × Int32 × Int32 × Int32 × Int32 × Int32 × Int32 × Int32 × Int32 × Int32 × AI × AI × AI × AI × Int32 × Int32 × Int32 × Int32 × Int32 × AI × AI × Value × Value) :=
  (MX1_anew).bind fun r1 =>
  (MX1_areTwo p0 p1 c_peopleMany).bind fun r3 =>
  if (b2i r3) = 0 then
    (MX1_no (1 : Int32)).bind fun r30 =>
    some (r30.1, r30.2, r1.2, o_undoMany, o_town_hour, o_was_living, o_was_hour, o_was_cat, o_was_nights, o_was_seed, o_town_has_, o_town_hours_, o_was_has_, o_was_hours_, o_undoneX_living, o_undoneX_hour, o_undoneX_cat, o_undoneX_nights, o_undoneX_seed, o_undoneX_has_, o_undoneX_hours_, (o_was_city), (o_undoneX_city))
  else
    (MX4_isLiving p0 o_town_living).bind fun r6 =>
    if (b2i r6) = 0 then
      (MX1_no (5 : Int32)).bind fun r9 =>
      some (r9.1, r9.2, r1.2, o_undoMany, o_town_hour, o_was_living, o_was_hour, o_was_cat, o_was_nights, o_was_seed, o_town_has_, o_town_hours_, o_was_has_, o_was_hours_, o_undoneX_living, o_undoneX_hour, o_undoneX_cat, o_undoneX_nights, o_undoneX_seed, o_undoneX_has_, o_undoneX_hours_, (o_was_city), (o_undoneX_city))
    else
      (MX4_isLiving p1 o_town_living).bind fun r11 =>
      if (b2i r11) = 0 then
        (MX1_no (5 : Int32)).bind fun r28 =>
        some (r28.1, r28.2, r1.2, o_undoMany, o_town_hour, o_was_living, o_was_hour, o_was_cat, o_was_nights, o_was_seed, o_town_has_, o_town_hours_, o_was_has_, o_was_hours_, o_undoneX_living, o_undoneX_hour, o_undoneX_cat, o_undoneX_nights, o_undoneX_seed, o_undoneX_has_, o_undoneX_hours_, (o_was_city), (o_undoneX_city))
      else
        (MX4_canAsk p0 p1 o_town_living np pk pr).bind fun r14 =>
        if (b2i r14) = 0 then
          (MX1_no (6 : Int32)).bind fun r26 =>
          some (r26.1, r26.2, r1.2, o_undoMany, o_town_hour, o_was_living, o_was_hour, o_was_cat, o_was_nights, o_was_seed, o_town_has_, o_town_hours_, o_was_has_, o_was_hours_, o_undoneX_living, o_undoneX_hour, o_undoneX_cat, o_undoneX_nights, o_undoneX_seed, o_undoneX_has_, o_undoneX_hours_, (o_was_city), (o_undoneX_city))
        else
          if o_town_hour = (999 : Int32) then
            (MX1_no (3 : Int32)).bind fun r24 =>
            some (r24.1, r24.2, r1.2, o_undoMany, o_town_hour, o_was_living, o_was_hour, o_was_cat, o_was_nights, o_was_seed, o_town_has_, o_town_hours_, o_was_has_, o_was_hours_, o_undoneX_living, o_undoneX_hour, o_undoneX_cat, o_undoneX_nights, o_undoneX_seed, o_undoneX_has_, o_undoneX_hours_, (o_was_city), (o_undoneX_city))
          else
            (MX1_note o_town_living o_town_hour o_town_cat o_town_nights o_town_seed o_was_has_ o_was_hours_ o_town_has_ o_town_hours_).bind fun r18 =>
            (MX4_asks p0 p1 o_town_hour c_gives o_town_has_ o_town_hours_).bind fun r20 =>
            (MX1_done h_o_undoneX o_undoMany r18.1 r18.2.1 r18.2.2.1 r18.2.2.2.1 r18.2.2.2.2.1 o_undoneX_has_ o_undoneX_hours_ r18.2.2.2.2.2.1 r18.2.2.2.2.2.2 o_undone_r).bind fun r22 =>
            some (r20.1, r1.1, r1.2, r22.2.1, r20.2.1, r18.1, r18.2.1, r18.2.2.1, r18.2.2.2.1, r18.2.2.2.2.1, r20.2.2.1, r20.2.2.2, r18.2.2.2.2.2.1, r18.2.2.2.2.2.2, r22.2.2.1, r22.2.2.2.1, r22.2.2.2.2.1, r22.2.2.2.2.2.1, r22.2.2.2.2.2.2.1, r22.2.2.2.2.2.2.2.1, r22.2.2.2.2.2.2.2.2, (.ref h_c), (.ref h_c))
def MX1_askL (h_c : Nat) (h_o_undone0 : Nat) (h_o_undone1 : Nat) (h_o_undone2 : Nat) (h_o_undone3 : Nat) (h_o_undone4 : Nat) (h_o_undone5 : Nat) (h_o_undone6 : Nat) (h_o_undone7 : Nat) (h_o_undone8 : Nat) (h_o_undone9 : Nat) (h_o_undone10 : Nat) (h_o_undone11 : Nat) (h_o_undone12 : Nat) (h_o_undone13 : Nat) (h_o_undone14 : Nat) (h_o_undone15 : Nat) (p0 : Int32) (p1 : Int32) (c_gives : Int32) (c_peopleMany : Int32) (o_town_living : Int32) (o_town_hour : Int32) (o_town_cat : Int32) (o_town_nights : Int32) (o_town_seed : Int32) (o_was_living : Int32) (o_was_hour : Int32) (o_was_cat : Int32) (o_was_nights : Int32) (o_was_seed : Int32) (o_town_has_ : AI) (o_town_hours_ : AI) (o_was_has_ : AI) (o_was_hours_ : AI) (o_undone0_living : Int32) (o_undone0_hour : Int32) (o_undone0_cat : Int32) (o_undone0_nights : Int32) (o_undone0_seed : Int32) (o_undone0_has_ : AI) (o_undone0_hours_ : AI) (np : Nat) (pk : Nat → Nat) (pr : AI) (o_was_city : Value) (o_undone0_city : Value) : Option (Int32 × Int32 × Int32 × Int32 × Int32 × Int32 × Int32 × Int32 × Int32 × AI × AI × AI × AI × Int32 × Int32 × Int32 × Int32 × Int32 × AI × AI × Value × Value × Option Nat × Option Nat × Option Nat × Option Nat × Option Nat × Option Nat × Option Nat × Option Nat × Option Nat × Option Nat × Option Nat × Option Nat × Option Nat × Option Nat × Option Nat × Option Nat) :=
  (MX1_anew).bind fun r1 =>
  (MX1_areTwo p0 p1 c_peopleMany).bind fun r3 =>
  if (b2i r3) = 0 then
    (MX1_no (1 : Int32)).bind fun r30 =>
    some (r30.1, r30.2, r1.2, o_town_hour, o_was_living, o_was_hour, o_was_cat, o_was_nights, o_was_seed, o_town_has_, o_town_hours_, o_was_has_, o_was_hours_, o_undone0_living, o_undone0_hour, o_undone0_cat, o_undone0_nights, o_undone0_seed, o_undone0_has_, o_undone0_hours_, (o_was_city), (o_undone0_city), (some h_o_undone0), (some h_o_undone1), (some h_o_undone2), (some h_o_undone3), (some h_o_undone4), (some h_o_undone5), (some h_o_undone6), (some h_o_undone7), (some h_o_undone8), (some h_o_undone9), (some h_o_undone10), (some h_o_undone11), (some h_o_undone12), (some h_o_undone13), (some h_o_undone14), (some h_o_undone15))
  else
    (MX4_isLiving p0 o_town_living).bind fun r6 =>
    if (b2i r6) = 0 then
      (MX1_no (5 : Int32)).bind fun r9 =>
      some (r9.1, r9.2, r1.2, o_town_hour, o_was_living, o_was_hour, o_was_cat, o_was_nights, o_was_seed, o_town_has_, o_town_hours_, o_was_has_, o_was_hours_, o_undone0_living, o_undone0_hour, o_undone0_cat, o_undone0_nights, o_undone0_seed, o_undone0_has_, o_undone0_hours_, (o_was_city), (o_undone0_city), (some h_o_undone0), (some h_o_undone1), (some h_o_undone2), (some h_o_undone3), (some h_o_undone4), (some h_o_undone5), (some h_o_undone6), (some h_o_undone7), (some h_o_undone8), (some h_o_undone9), (some h_o_undone10), (some h_o_undone11), (some h_o_undone12), (some h_o_undone13), (some h_o_undone14), (some h_o_undone15))
    else
      (MX4_isLiving p1 o_town_living).bind fun r11 =>
      if (b2i r11) = 0 then
        (MX1_no (5 : Int32)).bind fun r28 =>
        some (r28.1, r28.2, r1.2, o_town_hour, o_was_living, o_was_hour, o_was_cat, o_was_nights, o_was_seed, o_town_has_, o_town_hours_, o_was_has_, o_was_hours_, o_undone0_living, o_undone0_hour, o_undone0_cat, o_undone0_nights, o_undone0_seed, o_undone0_has_, o_undone0_hours_, (o_was_city), (o_undone0_city), (some h_o_undone0), (some h_o_undone1), (some h_o_undone2), (some h_o_undone3), (some h_o_undone4), (some h_o_undone5), (some h_o_undone6), (some h_o_undone7), (some h_o_undone8), (some h_o_undone9), (some h_o_undone10), (some h_o_undone11), (some h_o_undone12), (some h_o_undone13), (some h_o_undone14), (some h_o_undone15))
      else
        (MX4_canAsk p0 p1 o_town_living np pk pr).bind fun r14 =>
        if (b2i r14) = 0 then
          (MX1_no (6 : Int32)).bind fun r26 =>
          some (r26.1, r26.2, r1.2, o_town_hour, o_was_living, o_was_hour, o_was_cat, o_was_nights, o_was_seed, o_town_has_, o_town_hours_, o_was_has_, o_was_hours_, o_undone0_living, o_undone0_hour, o_undone0_cat, o_undone0_nights, o_undone0_seed, o_undone0_has_, o_undone0_hours_, (o_was_city), (o_undone0_city), (some h_o_undone0), (some h_o_undone1), (some h_o_undone2), (some h_o_undone3), (some h_o_undone4), (some h_o_undone5), (some h_o_undone6), (some h_o_undone7), (some h_o_undone8), (some h_o_undone9), (some h_o_undone10), (some h_o_undone11), (some h_o_undone12), (some h_o_undone13), (some h_o_undone14), (some h_o_undone15))
        else
          if o_town_hour = (999 : Int32) then
            (MX1_no (3 : Int32)).bind fun r24 =>
            some (r24.1, r24.2, r1.2, o_town_hour, o_was_living, o_was_hour, o_was_cat, o_was_nights, o_was_seed, o_town_has_, o_town_hours_, o_was_has_, o_was_hours_, o_undone0_living, o_undone0_hour, o_undone0_cat, o_undone0_nights, o_undone0_seed, o_undone0_has_, o_undone0_hours_, (o_was_city), (o_undone0_city), (some h_o_undone0), (some h_o_undone1), (some h_o_undone2), (some h_o_undone3), (some h_o_undone4), (some h_o_undone5), (some h_o_undone6), (some h_o_undone7), (some h_o_undone8), (some h_o_undone9), (some h_o_undone10), (some h_o_undone11), (some h_o_undone12), (some h_o_undone13), (some h_o_undone14), (some h_o_undone15))
          else
            (MX1_note o_town_living o_town_hour o_town_cat o_town_nights o_town_seed o_was_has_ o_was_hours_ o_town_has_ o_town_hours_).bind fun r18 =>
            (MX4_asks p0 p1 o_town_hour c_gives o_town_has_ o_town_hours_).bind fun r20 =>
            (MX1_doneL r18.1 r18.2.1 r18.2.2.1 r18.2.2.2.1 r18.2.2.2.2.1 o_undone0_has_ o_undone0_hours_ r18.2.2.2.2.2.1 r18.2.2.2.2.2.2).bind fun r22 =>
            some (r20.1, r1.1, r1.2, r20.2.1, r18.1, r18.2.1, r18.2.2.1, r18.2.2.2.1, r18.2.2.2.2.1, r20.2.2.1, r20.2.2.2, r18.2.2.2.2.2.1, r18.2.2.2.2.2.2, r22.2.1, r22.2.2.1, r22.2.2.2.1, r22.2.2.2.2.1, r22.2.2.2.2.2.1, r22.2.2.2.2.2.2.1, r22.2.2.2.2.2.2.2, (.ref h_c), (.ref h_c), (some h_o_undone1), (some h_o_undone2), (some h_o_undone3), (some h_o_undone4), (some h_o_undone5), (some h_o_undone6), (some h_o_undone7), (some h_o_undone8), (some h_o_undone9), (some h_o_undone10), (some h_o_undone11), (some h_o_undone12), (some h_o_undone13), (some h_o_undone14), (some h_o_undone15), (some h_o_undone0))
def BX7_remembers_51 (m_v_ : AI) (m_acts_51 : Int32) (x1_51 : Int32) (m_past_51 : AI) : Option ((Int32 × AI) ⊕ AI) :=
  if (47 : Int32) ≤ x1_51 then
    some (.inr m_past_51)
  else
    gi x1_51 47 <|
    gi (((47 : Int32) * m_acts_51) + x1_51) 752 <|
    some (.inl ((x1_51 + (1 : Int32)), (upd m_past_51 (Int32.toNatClampNeg (((47 : Int32) * m_acts_51) + x1_51)) (m_v_ (Int32.toNatClampNeg x1_51)))))
def BX7_remembers_11 (x1_11 : Int32) (m_past_11 : AI) : Option ((Int32 × AI) ⊕ AI) :=
  if (705 : Int32) ≤ x1_11 then
    some (.inr m_past_11)
  else
    gi (x1_11 + (47 : Int32)) 752 <|
    gi x1_11 752 <|
    some (.inl ((x1_11 + (1 : Int32)), (upd m_past_11 (Int32.toNatClampNeg x1_11) (m_past_11 (Int32.toNatClampNeg (x1_11 + (47 : Int32)))))))
def MX7_remembers (m_acts : Int32) (m_v_ : AI) (m_past_ : AI) : Option (Int32 × AI) :=
  if m_acts = (16 : Int32) then
    (loopN FU (fun s_ => BX7_remembers_11 s_.1 s_.2) ((0 : Int32), m_past_)).bind fun r9 =>
    (loopN FU (fun s_ => BX7_remembers_51 m_v_ (m_acts - (1 : Int32)) s_.1 s_.2) ((0 : Int32), r9)).bind fun r10 =>
    some (((m_acts - (1 : Int32)) + (1 : Int32)), r10)
  else
    (loopN FU (fun s_ => BX7_remembers_51 m_v_ m_acts s_.1 s_.2) ((0 : Int32), m_past_)).bind fun r5 =>
    some ((m_acts + (1 : Int32)), r5)
def BX7_stays_2 (m_x_ : AI) (x1_2 : Int32) (m_v_2 : AI) : Option ((Int32 × AI) ⊕ AI) :=
  if (47 : Int32) ≤ x1_2 then
    some (.inr m_v_2)
  else
    gi x1_2 47 <|
    gi x1_2 47 <|
    some (.inl ((x1_2 + (1 : Int32)), (upd m_v_2 (Int32.toNatClampNeg x1_2) (m_x_ (Int32.toNatClampNeg x1_2)))))
def MX7_stays (m_x_ : AI) (m_v_ : AI) : Option AI :=
  (loopN FU (fun s_ => BX7_stays_2 m_x_ s_.1 s_.2) ((0 : Int32), m_v_)).bind fun r4 =>
  some r4
def MX7_ask (p0 : Int32) (p1 : Int32) (m_acts : Int32) (c_gives : Int32) (c_people : Int32) (m_v_ : AI) (c_kind_ : AI) (c_near_ : AI) (m_past_ : AI) (m_x_ : AI) : Option (Int32 × Int32 × Int32 × Int32 × Int32 × AI × AI × AI) :=
  (MX7_areTwo p0 p1 c_people).bind fun r1 =>
  if (b2i r1) = 0 then
    (MX7_refused (1 : Int32)).bind fun r34 =>
    some (r34.1, (0 : Int32), r34.2.1, r34.2.2, m_acts, m_v_, m_past_, m_x_)
  else
    (MX7_bit (m_v_ 42) p0).bind fun r4 =>
    if (b2i r4) = 0 then
      (MX7_refused (5 : Int32)).bind fun r7 =>
      some (r7.1, (0 : Int32), r7.2.1, r7.2.2, m_acts, m_v_, m_past_, m_x_)
    else
      (MX7_bit (m_v_ 42) p1).bind fun r9 =>
      if (b2i r9) = 0 then
        (MX7_refused (5 : Int32)).bind fun r32 =>
        some (r32.1, (0 : Int32), r32.2.1, r32.2.2, m_acts, m_v_, m_past_, m_x_)
      else
        (MX14_mayAsk p0 p1 c_kind_ c_near_).bind fun r12 =>
        if (b2i r12) = 0 then
          (MX7_refused (6 : Int32)).bind fun r30 =>
          some (r30.1, (0 : Int32), r30.2.1, r30.2.2, m_acts, m_v_, m_past_, m_x_)
        else
          if (m_v_ 44) = (999 : Int32) then
            (MX7_refused (3 : Int32)).bind fun r28 =>
            some (r28.1, (0 : Int32), r28.2.1, r28.2.2, m_acts, m_v_, m_past_, m_x_)
          else
            (MX7_remembers m_acts m_v_ m_past_).bind fun r16 =>
            (MX7_works m_v_ m_x_).bind fun r18 =>
            gi p0 47 <|
            (MX7_asks p0 p1 r18 c_gives).bind fun r21 =>
            (MX7_stays r21 m_v_).bind fun r23 =>
            gi p0 47 <|
            (MX7_good ((r23 (Int32.toNatClampNeg p0)) - (r18 (Int32.toNatClampNeg p0)))).bind fun r26 =>
            some (r26.1, (0 : Int32), r26.2.1, r26.2.2, r16.1, r23, r16.2, r21)
def MX1_die (h_c : Nat) (h_o_undoneX : Nat) (p0 : Int32) (o_undoMany : Int32) (c_peopleMany : Int32) (o_town_living : Int32) (o_town_hour : Int32) (o_town_cat : Int32) (o_town_nights : Int32) (o_town_seed : Int32) (o_was_living : Int32) (o_was_hour : Int32) (o_was_cat : Int32) (o_was_nights : Int32) (o_was_seed : Int32) (o_town_has_ : AI) (o_town_hours_ : AI) (o_was_has_ : AI) (o_was_hours_ : AI) (o_undoneX_living : Int32) (o_undoneX_hour : Int32) (o_undoneX_cat : Int32) (o_undoneX_nights : Int32) (o_undoneX_seed : Int32) (o_undoneX_has_ : AI) (o_undoneX_hours_ : AI) (o_was_city : Value) (o_undoneX_city : Value) (o_undone_r : Nat → Option Nat) : Option (Int32 × Int32 × Int32 × Int32 × Int32 × Int32 × Int32 × Int32 × Int32 × Int32 × Int32 × Int32 × Int32 × Int32 × AI × AI × AI × AI × Int32 × Int32 × Int32 × Int32 × Int32 × AI × AI × Value × Value) :=
  (MX1_anew).bind fun r1 =>
  (MX1_livesWhy p0 c_peopleMany o_town_living).bind fun r3 =>
  if r3 = 0 then
    (MX1_note o_town_living o_town_hour o_town_cat o_town_nights o_town_seed o_was_has_ o_was_hours_ o_town_has_ o_town_hours_).bind fun r6 =>
    (MX4_heir p0 o_town_living c_peopleMany o_town_hours_).bind fun r8 =>
    (MX4_dies ((1 : Int32) <<< (p0 &&& 31)) r6.1 r6.2.1 r6.2.2.1 r6.2.2.2.1 r6.2.2.2.2.1 o_town_has_ o_town_hours_ r6.2.2.2.2.2.1 r6.2.2.2.2.2.2 c_peopleMany).bind fun r10 =>
    (MX1_done h_o_undoneX o_undoMany r6.1 r6.2.1 r6.2.2.1 r6.2.2.2.1 r6.2.2.2.2.1 o_undoneX_has_ o_undoneX_hours_ r6.2.2.2.2.2.1 r6.2.2.2.2.2.2 o_undone_r).bind fun r12 =>
    some (r8, r1.1, r1.2, r12.2.1, r10.1, r10.2.1, r10.2.2.1, r10.2.2.2.1, r10.2.2.2.2.1, r6.1, r6.2.1, r6.2.2.1, r6.2.2.2.1, r6.2.2.2.2.1, r10.2.2.2.2.2.1, r10.2.2.2.2.2.2, r6.2.2.2.2.2.1, r6.2.2.2.2.2.2, r12.2.2.1, r12.2.2.2.1, r12.2.2.2.2.1, r12.2.2.2.2.2.1, r12.2.2.2.2.2.2.1, r12.2.2.2.2.2.2.2.1, r12.2.2.2.2.2.2.2.2, (.ref h_c), (.ref h_c))
  else
    (MX1_no r3).bind fun r14 =>
    some (r14.1, r14.2, r1.2, o_undoMany, o_town_living, o_town_hour, o_town_cat, o_town_nights, o_town_seed, o_was_living, o_was_hour, o_was_cat, o_was_nights, o_was_seed, o_town_has_, o_town_hours_, o_was_has_, o_was_hours_, o_undoneX_living, o_undoneX_hour, o_undoneX_cat, o_undoneX_nights, o_undoneX_seed, o_undoneX_has_, o_undoneX_hours_, (o_was_city), (o_undoneX_city))
def MX1_dieL (h_c : Nat) (h_o_undone0 : Nat) (h_o_undone1 : Nat) (h_o_undone2 : Nat) (h_o_undone3 : Nat) (h_o_undone4 : Nat) (h_o_undone5 : Nat) (h_o_undone6 : Nat) (h_o_undone7 : Nat) (h_o_undone8 : Nat) (h_o_undone9 : Nat) (h_o_undone10 : Nat) (h_o_undone11 : Nat) (h_o_undone12 : Nat) (h_o_undone13 : Nat) (h_o_undone14 : Nat) (h_o_undone15 : Nat) (p0 : Int32) (c_peopleMany : Int32) (o_town_living : Int32) (o_town_hour : Int32) (o_town_cat : Int32) (o_town_nights : Int32) (o_town_seed : Int32) (o_was_living : Int32) (o_was_hour : Int32) (o_was_cat : Int32) (o_was_nights : Int32) (o_was_seed : Int32) (o_town_has_ : AI) (o_town_hours_ : AI) (o_was_has_ : AI) (o_was_hours_ : AI) (o_undone0_living : Int32) (o_undone0_hour : Int32) (o_undone0_cat : Int32) (o_undone0_nights : Int32) (o_undone0_seed : Int32) (o_undone0_has_ : AI) (o_undone0_hours_ : AI) (o_was_city : Value) (o_undone0_city : Value) : Option (Int32 × Int32 × Int32 × Int32 × Int32 × Int32 × Int32 × Int32 × Int32 × Int32 × Int32 × Int32 × Int32 × AI × AI × AI × AI × Int32 × Int32 × Int32 × Int32 × Int32 × AI × AI × Value × Value × Option Nat × Option Nat × Option Nat × Option Nat × Option Nat × Option Nat × Option Nat × Option Nat × Option Nat × Option Nat × Option Nat × Option Nat × Option Nat × Option Nat × Option Nat × Option Nat) :=
  (MX1_anew).bind fun r1 =>
  (MX1_livesWhy p0 c_peopleMany o_town_living).bind fun r3 =>
  if r3 = 0 then
    (MX1_note o_town_living o_town_hour o_town_cat o_town_nights o_town_seed o_was_has_ o_was_hours_ o_town_has_ o_town_hours_).bind fun r6 =>
    (MX4_heir p0 o_town_living c_peopleMany o_town_hours_).bind fun r8 =>
    (MX4_dies ((1 : Int32) <<< (p0 &&& 31)) r6.1 r6.2.1 r6.2.2.1 r6.2.2.2.1 r6.2.2.2.2.1 o_town_has_ o_town_hours_ r6.2.2.2.2.2.1 r6.2.2.2.2.2.2 c_peopleMany).bind fun r10 =>
    (MX1_doneL r6.1 r6.2.1 r6.2.2.1 r6.2.2.2.1 r6.2.2.2.2.1 o_undone0_has_ o_undone0_hours_ r6.2.2.2.2.2.1 r6.2.2.2.2.2.2).bind fun r12 =>
    some (r8, r1.1, r1.2, r10.1, r10.2.1, r10.2.2.1, r10.2.2.2.1, r10.2.2.2.2.1, r6.1, r6.2.1, r6.2.2.1, r6.2.2.2.1, r6.2.2.2.2.1, r10.2.2.2.2.2.1, r10.2.2.2.2.2.2, r6.2.2.2.2.2.1, r6.2.2.2.2.2.2, r12.2.1, r12.2.2.1, r12.2.2.2.1, r12.2.2.2.2.1, r12.2.2.2.2.2.1, r12.2.2.2.2.2.2.1, r12.2.2.2.2.2.2.2, (.ref h_c), (.ref h_c), (some h_o_undone1), (some h_o_undone2), (some h_o_undone3), (some h_o_undone4), (some h_o_undone5), (some h_o_undone6), (some h_o_undone7), (some h_o_undone8), (some h_o_undone9), (some h_o_undone10), (some h_o_undone11), (some h_o_undone12), (some h_o_undone13), (some h_o_undone14), (some h_o_undone15), (some h_o_undone0))
  else
    (MX1_no r3).bind fun r14 =>
    some (r14.1, r14.2, r1.2, o_town_living, o_town_hour, o_town_cat, o_town_nights, o_town_seed, o_was_living, o_was_hour, o_was_cat, o_was_nights, o_was_seed, o_town_has_, o_town_hours_, o_was_has_, o_was_hours_, o_undone0_living, o_undone0_hour, o_undone0_cat, o_undone0_nights, o_undone0_seed, o_undone0_has_, o_undone0_hours_, (o_was_city), (o_undone0_city), (some h_o_undone0), (some h_o_undone1), (some h_o_undone2), (some h_o_undone3), (some h_o_undone4), (some h_o_undone5), (some h_o_undone6), (some h_o_undone7), (some h_o_undone8), (some h_o_undone9), (some h_o_undone10), (some h_o_undone11), (some h_o_undone12), (some h_o_undone13), (some h_o_undone14), (some h_o_undone15))
def MX7_die (p0 : Int32) (m_acts : Int32) (m_catGets : Int32) (c_people : Int32) (m_v_ : AI) (m_past_ : AI) (m_x_ : AI) (m_heir_ : AI) (m_then_ : AI) : Option (Int32 × Int32 × Int32 × Int32 × Int32 × Int32 × AI × AI × AI × AI × AI) :=
  (MX7_refusesLiving p0 c_people m_v_).bind fun r1 =>
  if r1 ≤ 0 then
    (MX7_remembers m_acts m_v_ m_past_).bind fun r4 =>
    (MX7_works m_v_ m_x_).bind fun r6 =>
    (MX7_heirOf p0 c_people r6).bind fun r8 =>
    (MX7_dieAll ((1 : Int32) <<< (p0 &&& 31)) false c_people r6 m_heir_ m_then_).bind fun r10 =>
    (MX7_stays r10.2.1 m_v_).bind fun r12 =>
    (MX7_good r8).bind fun r14 =>
    some (r14.1, (0 : Int32), r14.2.1, r14.2.2, r4.1, r10.1, r12, r4.2, r10.2.1, r10.2.2.1, r10.2.2.2)
  else
    (MX7_refused r1).bind fun r16 =>
    some (r16.1, (0 : Int32), r16.2.1, r16.2.2, m_acts, m_catGets, m_v_, m_past_, m_x_, m_heir_, m_then_)
def MX1_night (h_c : Nat) (h_o_undoneX : Nat) (o_undoMany : Int32) (c_peopleMany : Int32) (o_town_living : Int32) (o_town_hour : Int32) (o_town_cat : Int32) (o_town_nights : Int32) (o_town_seed : Int32) (o_was_living : Int32) (o_was_hour : Int32) (o_was_cat : Int32) (o_was_nights : Int32) (o_was_seed : Int32) (o_town_has_ : AI) (o_town_hours_ : AI) (o_was_has_ : AI) (o_was_hours_ : AI) (o_next_living : Int32) (o_next_hour : Int32) (o_next_cat : Int32) (o_next_nights : Int32) (o_next_seed : Int32) (o_next_has_ : AI) (o_next_hours_ : AI) (o_undoneX_living : Int32) (o_undoneX_hour : Int32) (o_undoneX_cat : Int32) (o_undoneX_nights : Int32) (o_undoneX_seed : Int32) (o_undoneX_has_ : AI) (o_undoneX_hours_ : AI) (np : Nat) (pd : AI) (o_was_city : Value) (o_next_city : Value) (o_undoneX_city : Value) (o_undone_r : Nat → Option Nat) : Option (Int32 × Int32 × Int32 × Int32 × Int32 × Int32 × Int32 × Int32 × Int32 × Int32 × Int32 × Int32 × Int32 × Int32 × AI × AI × AI × AI × Int32 × Int32 × Int32 × Int32 × Int32 × AI × AI × Int32 × Int32 × Int32 × Int32 × Int32 × AI × AI × Value × Value × Value) :=
  (MX1_anew).bind fun r1 =>
  if o_town_nights = (999 : Int32) then
    (MX1_no (3 : Int32)).bind fun r14 =>
    some (r14.1, r14.2, r1.2, o_undoMany, o_town_living, o_town_hour, o_town_cat, o_town_nights, o_town_seed, o_was_living, o_was_hour, o_was_cat, o_was_nights, o_was_seed, o_town_has_, o_town_hours_, o_was_has_, o_was_hours_, o_next_living, o_next_hour, o_next_cat, o_next_nights, o_next_seed, o_next_has_, o_next_hours_, o_undoneX_living, o_undoneX_hour, o_undoneX_cat, o_undoneX_nights, o_undoneX_seed, o_undoneX_has_, o_undoneX_hours_, (o_was_city), (o_next_city), (o_undoneX_city))
  else
    (MX1_note o_town_living o_town_hour o_town_cat o_town_nights o_town_seed o_was_has_ o_was_hours_ o_town_has_ o_town_hours_).bind fun r4 =>
    (MX4_draws o_town_living o_town_seed c_peopleMany np pd).bind fun r6 =>
    (MX4_become o_town_living o_town_hour o_town_cat o_town_nights r6.2 o_next_has_ o_town_has_ o_next_hours_ o_town_hours_).bind fun r8 =>
    (MX4_dies r6.1 r8.1 r8.2.1 r8.2.2.1 r8.2.2.2.1 r8.2.2.2.2.1 o_town_has_ o_town_hours_ r8.2.2.2.2.2.1 r8.2.2.2.2.2.2 c_peopleMany).bind fun r10 =>
    (MX1_done h_o_undoneX o_undoMany r4.1 r4.2.1 r4.2.2.1 r4.2.2.2.1 r4.2.2.2.2.1 o_undoneX_has_ o_undoneX_hours_ r4.2.2.2.2.2.1 r4.2.2.2.2.2.2 o_undone_r).bind fun r12 =>
    some (r6.1, r1.1, r1.2, r12.2.1, r10.1, r10.2.1, r10.2.2.1, (r10.2.2.2.1 + (1 : Int32)), r10.2.2.2.2.1, r4.1, r4.2.1, r4.2.2.1, r4.2.2.2.1, r4.2.2.2.2.1, r10.2.2.2.2.2.1, r10.2.2.2.2.2.2, r4.2.2.2.2.2.1, r4.2.2.2.2.2.2, r8.1, r8.2.1, r8.2.2.1, r8.2.2.2.1, r8.2.2.2.2.1, r8.2.2.2.2.2.1, r8.2.2.2.2.2.2, r12.2.2.1, r12.2.2.2.1, r12.2.2.2.2.1, r12.2.2.2.2.2.1, r12.2.2.2.2.2.2.1, r12.2.2.2.2.2.2.2.1, r12.2.2.2.2.2.2.2.2, (.ref h_c), (.ref h_c), (.ref h_c))
def MX1_nightL (h_c : Nat) (h_o_undone0 : Nat) (h_o_undone1 : Nat) (h_o_undone2 : Nat) (h_o_undone3 : Nat) (h_o_undone4 : Nat) (h_o_undone5 : Nat) (h_o_undone6 : Nat) (h_o_undone7 : Nat) (h_o_undone8 : Nat) (h_o_undone9 : Nat) (h_o_undone10 : Nat) (h_o_undone11 : Nat) (h_o_undone12 : Nat) (h_o_undone13 : Nat) (h_o_undone14 : Nat) (h_o_undone15 : Nat) (c_peopleMany : Int32) (o_town_living : Int32) (o_town_hour : Int32) (o_town_cat : Int32) (o_town_nights : Int32) (o_town_seed : Int32) (o_was_living : Int32) (o_was_hour : Int32) (o_was_cat : Int32) (o_was_nights : Int32) (o_was_seed : Int32) (o_town_has_ : AI) (o_town_hours_ : AI) (o_was_has_ : AI) (o_was_hours_ : AI) (o_next_living : Int32) (o_next_hour : Int32) (o_next_cat : Int32) (o_next_nights : Int32) (o_next_seed : Int32) (o_next_has_ : AI) (o_next_hours_ : AI) (o_undone0_living : Int32) (o_undone0_hour : Int32) (o_undone0_cat : Int32) (o_undone0_nights : Int32) (o_undone0_seed : Int32) (o_undone0_has_ : AI) (o_undone0_hours_ : AI) (np : Nat) (pd : AI) (o_was_city : Value) (o_next_city : Value) (o_undone0_city : Value) : Option (Int32 × Int32 × Int32 × Int32 × Int32 × Int32 × Int32 × Int32 × Int32 × Int32 × Int32 × Int32 × Int32 × AI × AI × AI × AI × Int32 × Int32 × Int32 × Int32 × Int32 × AI × AI × Int32 × Int32 × Int32 × Int32 × Int32 × AI × AI × Value × Value × Value × Option Nat × Option Nat × Option Nat × Option Nat × Option Nat × Option Nat × Option Nat × Option Nat × Option Nat × Option Nat × Option Nat × Option Nat × Option Nat × Option Nat × Option Nat × Option Nat) :=
  (MX1_anew).bind fun r1 =>
  if o_town_nights = (999 : Int32) then
    (MX1_no (3 : Int32)).bind fun r14 =>
    some (r14.1, r14.2, r1.2, o_town_living, o_town_hour, o_town_cat, o_town_nights, o_town_seed, o_was_living, o_was_hour, o_was_cat, o_was_nights, o_was_seed, o_town_has_, o_town_hours_, o_was_has_, o_was_hours_, o_next_living, o_next_hour, o_next_cat, o_next_nights, o_next_seed, o_next_has_, o_next_hours_, o_undone0_living, o_undone0_hour, o_undone0_cat, o_undone0_nights, o_undone0_seed, o_undone0_has_, o_undone0_hours_, (o_was_city), (o_next_city), (o_undone0_city), (some h_o_undone0), (some h_o_undone1), (some h_o_undone2), (some h_o_undone3), (some h_o_undone4), (some h_o_undone5), (some h_o_undone6), (some h_o_undone7), (some h_o_undone8), (some h_o_undone9), (some h_o_undone10), (some h_o_undone11), (some h_o_undone12), (some h_o_undone13), (some h_o_undone14), (some h_o_undone15))
  else
    (MX1_note o_town_living o_town_hour o_town_cat o_town_nights o_town_seed o_was_has_ o_was_hours_ o_town_has_ o_town_hours_).bind fun r4 =>
    (MX4_draws o_town_living o_town_seed c_peopleMany np pd).bind fun r6 =>
    (MX4_become o_town_living o_town_hour o_town_cat o_town_nights r6.2 o_next_has_ o_town_has_ o_next_hours_ o_town_hours_).bind fun r8 =>
    (MX4_dies r6.1 r8.1 r8.2.1 r8.2.2.1 r8.2.2.2.1 r8.2.2.2.2.1 o_town_has_ o_town_hours_ r8.2.2.2.2.2.1 r8.2.2.2.2.2.2 c_peopleMany).bind fun r10 =>
    (MX1_doneL r4.1 r4.2.1 r4.2.2.1 r4.2.2.2.1 r4.2.2.2.2.1 o_undone0_has_ o_undone0_hours_ r4.2.2.2.2.2.1 r4.2.2.2.2.2.2).bind fun r12 =>
    some (r6.1, r1.1, r1.2, r10.1, r10.2.1, r10.2.2.1, (r10.2.2.2.1 + (1 : Int32)), r10.2.2.2.2.1, r4.1, r4.2.1, r4.2.2.1, r4.2.2.2.1, r4.2.2.2.2.1, r10.2.2.2.2.2.1, r10.2.2.2.2.2.2, r4.2.2.2.2.2.1, r4.2.2.2.2.2.2, r8.1, r8.2.1, r8.2.2.1, r8.2.2.2.1, r8.2.2.2.2.1, r8.2.2.2.2.2.1, r8.2.2.2.2.2.2, r12.2.1, r12.2.2.1, r12.2.2.2.1, r12.2.2.2.2.1, r12.2.2.2.2.2.1, r12.2.2.2.2.2.2.1, r12.2.2.2.2.2.2.2, (.ref h_c), (.ref h_c), (.ref h_c), (some h_o_undone1), (some h_o_undone2), (some h_o_undone3), (some h_o_undone4), (some h_o_undone5), (some h_o_undone6), (some h_o_undone7), (some h_o_undone8), (some h_o_undone9), (some h_o_undone10), (some h_o_undone11), (some h_o_undone12), (some h_o_undone13), (some h_o_undone14), (some h_o_undone15), (some h_o_undone0))
def MX7_night (m_acts : Int32) (m_catGets : Int32) (c_people : Int32) (m_v_ : AI) (m_past_ : AI) (m_x_ : AI) (m_heir_ : AI) (m_then_ : AI) (c_dies_ : AI) : Option (Int32 × Int32 × Int32 × Int32 × Int32 × Int32 × AI × AI × AI × AI × AI) :=
  if (m_v_ 45) = (999 : Int32) then
    (MX7_refused (3 : Int32)).bind fun r12 =>
    some (r12.1, (0 : Int32), r12.2.1, r12.2.2, m_acts, m_catGets, m_v_, m_past_, m_x_, m_heir_, m_then_)
  else
    (MX7_remembers m_acts m_v_ m_past_).bind fun r2 =>
    (MX7_works m_v_ m_x_).bind fun r4 =>
    (MX7_aNight true c_people r4 c_dies_ m_heir_ m_then_).bind fun r6 =>
    (MX7_stays r6.2.2.1 m_v_).bind fun r8 =>
    (MX7_good r6.1).bind fun r10 =>
    some (r10.1, (0 : Int32), r10.2.1, r10.2.2, r2.1, r6.2.1, r8, r2.2, r6.2.2.1, r6.2.2.2.1, r6.2.2.2.2)
def MX1_yes (p0 : Int32) : Option (Bool × Int32 × Int32) :=
  (MX1_anew).bind fun r1 =>
  if p0 = 0 then
    some (true, p0, r1.2)
  else
    some (false, p0, r1.2)
def MX1_seed (p0 : Int32) (o_town_seed : Int32) : Option (Bool × Int32 × Int32 × Int32) :=
  (MX1_in p0 (0 : Int32) (65536 : Int32)).bind fun r1 =>
  (MX1_numberWhy true r1).bind fun r3 =>
  (MX1_yes r3).bind fun r5 =>
  if (b2i r5.1) = 0 then
    some (false, r5.2.1, r5.2.2, o_town_seed)
  else
    some (true, r5.2.1, r5.2.2, p0)
def MX7_denied (p0 : Int32) : Option (Bool × Int32 × Int32) :=
  (MX7_refused p0).bind fun r1 =>
  some (false, r1.2.1, r1.2.2)
def MX7_granted  : Option (Bool × Int32 × Int32) :=
  (MX7_good (0 : Int32)).bind fun r1 =>
  some (true, r1.2.1, r1.2.2)
def MX7_seed (p0 : Int32) (m_v_ : AI) : Option (Bool × Int32 × Int32 × Int32 × AI) :=
  (MX7_in p0 (0 : Int32) (65536 : Int32)).bind fun r1 =>
  if (b2i r1) = 0 then
    (MX7_denied (2 : Int32)).bind fun r6 =>
    some (r6.1, (0 : Int32), r6.2.1, r6.2.2, m_v_)
  else
    (MX7_granted).bind fun r4 =>
    some (r4.1, (0 : Int32), r4.2.1, r4.2.2, (upd m_v_ 46 p0))
def MX1_undo (h_o_undoneX : Nat) (h_c : Nat) (o_undoMany : Int32) (o_undoneX_living : Int32) (o_undoneX_hour : Int32) (o_undoneX_cat : Int32) (o_undoneX_nights : Int32) (o_undoneX_seed : Int32) (o_town_living : Int32) (o_town_hour : Int32) (o_town_cat : Int32) (o_town_nights : Int32) (o_town_seed : Int32) (o_town_has_ : AI) (o_town_hours_ : AI) (o_undoneX_has_ : AI) (o_undoneX_hours_ : AI) (o_undoneX_city : Value) (o_town_city : Value) (o_undone_r : Nat → Option Nat) : Option (Bool × Int32 × Int32 × Int32 × Int32 × Int32 × Int32 × Int32 × Int32 × AI × AI × Value) :=
  if o_undoMany = 0 then
    (MX1_yes (6 : Int32)).bind fun r10 =>
    some (false, r10.2.1, r10.2.2, o_undoMany, o_town_living, o_town_hour, o_town_cat, o_town_nights, o_town_seed, o_town_has_, o_town_hours_, (o_town_city))
  else
    (MX1_yes (0 : Int32)).bind fun r2 =>
    gi (o_undoMany - (1 : Int32)) 16 <|
    gq (o_undone_r (Int32.toNatClampNeg (o_undoMany - (1 : Int32)))) h_o_undoneX <|
    gv o_undoneX_city h_c <|
    (MX4_become o_undoneX_living o_undoneX_hour o_undoneX_cat o_undoneX_nights o_undoneX_seed o_town_has_ o_undoneX_has_ o_town_hours_ o_undoneX_hours_).bind fun r8 =>
    some (true, r2.2.1, r2.2.2, (o_undoMany - (1 : Int32)), r8.1, r8.2.1, r8.2.2.1, r8.2.2.2.1, r8.2.2.2.2.1, r8.2.2.2.2.2.1, r8.2.2.2.2.2.2, (.ref h_c))
def BX7_undo_38 (m_past_ : AI) (m_acts_38 : Int32) (x1_38 : Int32) (m_v_38 : AI) : Option ((Int32 × AI) ⊕ AI) :=
  if (47 : Int32) ≤ x1_38 then
    some (.inr m_v_38)
  else
    gi (((47 : Int32) * m_acts_38) + x1_38) 752 <|
    gi x1_38 47 <|
    lt_ (m_past_ (Int32.toNatClampNeg (((47 : Int32) * m_acts_38) + x1_38))) fun y5 =>
    some (.inl ((x1_38 + (1 : Int32)), (upd m_v_38 (Int32.toNatClampNeg x1_38) y5)))
def MX7_undo (m_acts : Int32) (m_past_ : AI) (m_v_ : AI) : Option (Bool × Int32 × Int32 × Int32 × Int32 × AI) :=
  if m_acts = 0 then
    (MX7_denied (6 : Int32)).bind fun r9 =>
    some (r9.1, (0 : Int32), r9.2.1, r9.2.2, m_acts, m_v_)
  else
    (loopN FU (fun s_ => BX7_undo_38 m_past_ (m_acts - (1 : Int32)) s_.1 s_.2) ((0 : Int32), m_v_)).bind fun r6 =>
    (MX7_granted).bind fun r7 =>
    some (r7.1, (0 : Int32), r7.2.1, r7.2.2, (m_acts - (1 : Int32)), r6)
def MX1_image (h_c : Nat) (h_o_imagesX : Nat) (o_imageMany : Int32) (o_imagesX_living : Int32) (o_imagesX_hour : Int32) (o_imagesX_cat : Int32) (o_imagesX_nights : Int32) (o_imagesX_seed : Int32) (o_town_living : Int32) (o_town_hour : Int32) (o_town_cat : Int32) (o_town_nights : Int32) (o_town_seed : Int32) (o_imagesX_has_ : AI) (o_imagesX_hours_ : AI) (o_town_has_ : AI) (o_town_hours_ : AI) (o_imagesX_city : Value) (o_images_r : Nat → Option Nat) : Option (Int32 × Int32 × Int32 × Int32 × Int32 × Int32 × Int32 × Int32 × Int32 × AI × AI × Value) :=
  (MX1_anew).bind fun r1 =>
  if o_imageMany = (3 : Int32) then
    (MX1_no (3 : Int32)).bind fun r8 =>
    some (r8.1, r8.2, r1.2, o_imageMany, o_imagesX_living, o_imagesX_hour, o_imagesX_cat, o_imagesX_nights, o_imagesX_seed, o_imagesX_has_, o_imagesX_hours_, (o_imagesX_city))
  else
    gi o_imageMany 3 <|
    gq (o_images_r (Int32.toNatClampNeg o_imageMany)) h_o_imagesX <|
    (MX4_become o_town_living o_town_hour o_town_cat o_town_nights o_town_seed o_imagesX_has_ o_town_has_ o_imagesX_hours_ o_town_hours_).bind fun r6 =>
    some (((o_imageMany + (1 : Int32)) - (1 : Int32)), r1.1, r1.2, (o_imageMany + (1 : Int32)), r6.1, r6.2.1, r6.2.2.1, r6.2.2.2.1, r6.2.2.2.2.1, r6.2.2.2.2.2.1, r6.2.2.2.2.2.2, (.ref h_c))
def BX7_image_34 (m_images : Int32) (m_v_ : AI) (x1_34 : Int32) (m_kept_34 : AI) : Option ((Int32 × AI) ⊕ AI) :=
  if (47 : Int32) ≤ x1_34 then
    some (.inr m_kept_34)
  else
    gi x1_34 47 <|
    gi (((47 : Int32) * m_images) + x1_34) 141 <|
    some (.inl ((x1_34 + (1 : Int32)), (upd m_kept_34 (Int32.toNatClampNeg (((47 : Int32) * m_images) + x1_34)) (m_v_ (Int32.toNatClampNeg x1_34)))))
def MX7_image (m_images : Int32) (m_v_ : AI) (m_kept_ : AI) : Option (Int32 × Int32 × Int32 × Int32 × Int32 × AI) :=
  if m_images = (3 : Int32) then
    (MX7_refused (3 : Int32)).bind fun r8 =>
    some (r8.1, (0 : Int32), r8.2.1, r8.2.2, m_images, m_kept_)
  else
    (loopN FU (fun s_ => BX7_image_34 m_images m_v_ s_.1 s_.2) ((0 : Int32), m_kept_)).bind fun r5 =>
    (MX7_good ((m_images + (1 : Int32)) - (1 : Int32))).bind fun r6 =>
    some (r6.1, (0 : Int32), r6.2.1, r6.2.2, (m_images + (1 : Int32)), r5)
def MX1_back (h_o_imagesX : Nat) (h_c : Nat) (p0 : Int32) (o_imageMany : Int32) (o_undoMany : Int32) (o_imagesX_living : Int32) (o_imagesX_hour : Int32) (o_imagesX_cat : Int32) (o_imagesX_nights : Int32) (o_imagesX_seed : Int32) (o_town_living : Int32) (o_town_hour : Int32) (o_town_cat : Int32) (o_town_nights : Int32) (o_town_seed : Int32) (o_town_has_ : AI) (o_town_hours_ : AI) (o_imagesX_has_ : AI) (o_imagesX_hours_ : AI) (o_imagesX_city : Value) (o_town_city : Value) (o_images_r : Nat → Option Nat) : Option (Bool × Int32 × Int32 × Int32 × Int32 × Int32 × Int32 × Int32 × Int32 × AI × AI × Value) :=
  (MX1_in p0 (0 : Int32) (o_imageMany - (1 : Int32))).bind fun r1 =>
  if (b2i r1) = 0 then
    (MX1_yes (1 : Int32)).bind fun r4 =>
    some (false, r4.2.1, r4.2.2, o_undoMany, o_town_living, o_town_hour, o_town_cat, o_town_nights, o_town_seed, o_town_has_, o_town_hours_, (o_town_city))
  else
    (MX1_yes (0 : Int32)).bind fun r7 =>
    gi p0 3 <|
    gq (o_images_r (Int32.toNatClampNeg p0)) h_o_imagesX <|
    gv o_imagesX_city h_c <|
    (MX4_become o_imagesX_living o_imagesX_hour o_imagesX_cat o_imagesX_nights o_imagesX_seed o_town_has_ o_imagesX_has_ o_town_hours_ o_imagesX_hours_).bind fun r13 =>
    some (true, r7.2.1, r7.2.2, (0 : Int32), r13.1, r13.2.1, r13.2.2.1, r13.2.2.2.1, r13.2.2.2.2.1, r13.2.2.2.2.2.1, r13.2.2.2.2.2.2, (.ref h_c))
def BX7_back_32 (p0 : Int32) (m_kept_ : AI) (x2_32 : Int32) (m_v_32 : AI) : Option ((Int32 × AI) ⊕ AI) :=
  if (47 : Int32) ≤ x2_32 then
    some (.inr m_v_32)
  else
    gi (((47 : Int32) * p0) + x2_32) 141 <|
    gi x2_32 47 <|
    lt_ (m_kept_ (Int32.toNatClampNeg (((47 : Int32) * p0) + x2_32))) fun y8 =>
    some (.inl ((x2_32 + (1 : Int32)), (upd m_v_32 (Int32.toNatClampNeg x2_32) y8)))
def MX7_back (p0 : Int32) (m_acts : Int32) (m_images : Int32) (m_kept_ : AI) (m_v_ : AI) : Option (Bool × Int32 × Int32 × Int32 × Int32 × AI) :=
  if p0 < 0 then
    (MX7_denied (1 : Int32)).bind fun r2 =>
    some (r2.1, (0 : Int32), r2.2.1, r2.2.2, m_acts, m_v_)
  else
    if p0 < m_images then
      (loopN FU (fun s_ => BX7_back_32 p0 m_kept_ s_.1 s_.2) ((0 : Int32), m_v_)).bind fun r9 =>
      (MX7_granted).bind fun r10 =>
      some (r10.1, (0 : Int32), r10.2.1, r10.2.2, (0 : Int32), r9)
    else
      (MX7_denied (1 : Int32)).bind fun r12 =>
      some (r12.1, (0 : Int32), r12.2.1, r12.2.2, m_acts, m_v_)
def BX7_led_20 (p0 : Int32) (c_people : Int32) (m_x_20 : AI) (x2_20 : Int32) (x3_20 : Int32) : Option ((Int32 × Int32) ⊕ (Int32 ⊕ Unit)) :=
  if c_people ≤ x3_20 then
    some (.inr (.inr ()))
  else
    (MX7_isLiving x3_20 m_x_20).bind fun r4 =>
    if (b2i r4) = 0 then
      some (.inl (x2_20, (x3_20 + (1 : Int32))))
    else
      (MX7_heirOf x3_20 c_people m_x_20).bind fun r7 =>
      if r7 = (-2 : Int32) then
        if x2_20 = p0 then
          some (.inr (.inl x3_20))
        else
          some (.inl ((x2_20 + (1 : Int32)), (x3_20 + (1 : Int32))))
      else
        some (.inl (x2_20, (x3_20 + (1 : Int32))))
def MX7_led (p0 : Int32) (c_people : Int32) (m_v_ : AI) (m_x_ : AI) : Option (Int32 × Int32 × AI) :=
  (MX7_works m_v_ m_x_).bind fun r1 =>
  (loopN FU (fun s_ => BX7_led_20 p0 c_people r1 s_.1 s_.2) ((0 : Int32), (0 : Int32))).bind fun r11 => match r11 with
  | .inl z12 =>
    some (z12, (0 : Int32), r1)
  | .inr z13 =>
    some ((0 : Int32), (1 : Int32), r1)
def MX7_thrown (m_thrown : Int32) : Option Int32 :=
  some m_thrown
def MX1_size (p0 : Int32) (o_taped : Int32) (o_imageMany : Int32) (o_undoMany : Int32) (c_gives : Int32) (c_peopleMany : Int32) (c_nearMany : Int32) (c_askedMany : Int32) (c_heardMany : Int32) (c_wentMany : Int32) (o_town_living : Int32) (o_town_hour : Int32) (o_town_nights : Int32) (o_town_seed : Int32) : Option Int32 :=
  if p0 = (12 : Int32) then
    some o_taped
  else
    if p0 = (0 : Int32) then
      some o_town_hour
    else
      if p0 = (1 : Int32) then
        some c_gives
      else
        if p0 = (2 : Int32) then
          some c_peopleMany
        else
          if p0 = (3 : Int32) then
            some c_nearMany
          else
            if p0 = (4 : Int32) then
              some c_askedMany
            else
              if p0 = (5 : Int32) then
                some c_heardMany
              else
                if p0 = (6 : Int32) then
                  some c_wentMany
                else
                  if p0 = (7 : Int32) then
                    (MX1_ones o_town_living).bind fun r10 =>
                    some r10
                  else
                    if p0 = (8 : Int32) then
                      some o_town_nights
                    else
                      if p0 = (9 : Int32) then
                        some o_town_seed
                      else
                        if p0 = (10 : Int32) then
                          some o_undoMany
                        else
                          if p0 = (11 : Int32) then
                            some o_imageMany
                          else
                            some (-1 : Int32)
def MX7_size (p0 : Int32) (m_taped : Int32) (m_acts : Int32) (m_images : Int32) (c_gives : Int32) (c_people : Int32) (c_nears : Int32) (c_askeds : Int32) (c_heards : Int32) (c_wents : Int32) (m_v_ : AI) : Option (Int32 × Int32) :=
  if p0 = (12 : Int32) then
    some (m_taped, (0 : Int32))
  else
    (MX7_in p0 (0 : Int32) (11 : Int32)).bind fun r2 =>
    if (b2i r2) = 0 then
      some ((-1 : Int32), (0 : Int32))
    else
      if p0 = (0 : Int32) then
        some ((m_v_ 44), (0 : Int32))
      else
        if p0 = (1 : Int32) then
          some (c_gives, (0 : Int32))
        else
          if p0 = (2 : Int32) then
            some (c_people, (0 : Int32))
          else
            if p0 = (3 : Int32) then
              some (c_nears, (0 : Int32))
            else
              if p0 = (4 : Int32) then
                some (c_askeds, (0 : Int32))
              else
                if p0 = (5 : Int32) then
                  some (c_heards, (0 : Int32))
                else
                  if p0 = (6 : Int32) then
                    some (c_wents, (0 : Int32))
                  else
                    if p0 = (7 : Int32) then
                      (MX7_bits (m_v_ 42)).bind fun r13 =>
                      some (r13, (0 : Int32))
                    else
                      if p0 = (8 : Int32) then
                        some ((m_v_ 45), (0 : Int32))
                      else
                        if p0 = (9 : Int32) then
                          some ((m_v_ 46), (0 : Int32))
                        else
                          if p0 = (10 : Int32) then
                            some (m_acts, (0 : Int32))
                          else
                            some (m_images, (0 : Int32))
def MX1_trouble (o_trouble : Int32) : Option Int32 :=
  some o_trouble
def MX7_trouble (m_trouble : Int32) : Option (Int32 × Int32) :=
  some (m_trouble, (0 : Int32))
def MX10_kind  : Option Int32 :=
  some (0 : Int32)
def MX11_mayBeAskedBy  : Option Bool :=
  (MX9_mayBeAskedBy).bind fun r1 =>
  if (b2i r1) = 0 then
    some true
  else
    some false
def MX11_kind  : Option Int32 :=
  (MX10_kind).bind fun r1 =>
  some (r1 + (1 : Int32))
def MX12_mayBeAskedBy (p0 : Int32) (o_near : Int32) : Option Bool :=
  (MX9_mayBeAskedBy).bind fun r1 =>
  if (b2i r1) = 0 then
    some false
  else
    (MX1_has o_near p0).bind fun r4 =>
    if (b2i r4) = 0 then
      some false
    else
      some true
def MX12_kind  : Option Int32 :=
  (MX10_kind).bind fun r1 =>
  some (r1 + (2 : Int32))
def MX13_mayAsk  : Option Bool :=
  (MX9_mayAsk).bind fun r1 =>
  if (b2i r1) = 0 then
    some true
  else
    some false
def MX13_kind  : Option Int32 :=
  some (3 : Int32)
theorem ky0 {r : Bool × Int32 × Int32} (h : MX1_yes 0 = some r) : r.1 = true := by
  have h : some (true, (0 : Int32), (-1 : Int32)) = some r := h
  rw [← Option.some.inj h]
theorem kyn {p : Int32} {r : Bool × Int32 × Int32} (hp : ¬ p = 0) (h : MX1_yes p = some r) : r.1 = false := by
  unfold MX1_yes MX1_anew at h
  rw [Option.bind_some, if_neg hp] at h
  rw [← Option.some.inj h]
