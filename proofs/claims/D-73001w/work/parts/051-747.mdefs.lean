set_option maxRecDepth 100000
def packG (w : Nat) : Nat → Int64
  | 0 => 0
  | k + 1 => 32 * packG w k + Int32.toInt64 (chr8 (kby w k) - 97 + 1)
def MX7_packed (w : Nat) : Option Int64 := some (packG w (klen w))
def MX7_isWord (p0 : Nat) (m_sort : Int32) (m_word : Int64) : Option Bool :=
  if m_sort = (2 : Int32) then
    (MX7_packed p0).bind fun r2 =>
    if (lg_cmp m_word r2) = 0 then
      some true
    else
      some false
  else
    some false
def MX7_readPart (p0 : Nat) (p1 : Int32) (p2 : Int32) (m_size : Int32) (m_spot : Int32) (m_sort : Int32) (m_place : Int32) (m_number : Int32) (m_fault : Int32) (m_wrongAt : Int32) (m_word : Int64) (m_tape_ : AI) : Option (Int32 × Int32 × Int32 × Int32 × Int32 × Int32 × Int32 × Int64) :=
  (MX7_isWord p0 m_sort m_word).bind fun r1 =>
  Option.bind (if (b2i r1) = 0 then
    (MX7_flaw (1 : Int32) m_sort m_place m_fault m_wrongAt).bind fun r6 =>
    some (r6.1, r6.2.1, r6.2.2)
  else
    some (m_sort, m_fault, m_wrongAt)
  ) fun r8 =>
  (MX7_goesOn m_size m_spot r8.1 m_place m_number m_word m_tape_).bind fun r10 =>
  Option.bind (if r10.2.1 = (3 : Int32) then
    (MX7_in r10.2.2.2.1 p1 p2).bind fun r20 =>
    if (b2i r20) = 0 then
      (MX7_flaw (4 : Int32) r10.2.1 r10.2.2.1 r8.2.1 r8.2.2).bind fun r23 =>
      some (r23.1, r23.2.1, r23.2.2)
    else
      some (r10.2.1, r8.2.1, r8.2.2)
  else
    (MX7_flaw (1 : Int32) r10.2.1 r10.2.2.1 r8.2.1 r8.2.2).bind fun r25 =>
    some (r25.1, r25.2.1, r25.2.2)
  ) fun r27 =>
  Option.bind (if r27.1 = (5 : Int32) then
    some p1
  else
    some r10.2.2.2.1
  ) fun r30 =>
  (MX7_goesOn m_size r10.1 r27.1 r10.2.2.1 r10.2.2.2.1 r10.2.2.2.2 m_tape_).bind fun r32 =>
  some (r30, r32.1, r32.2.1, r32.2.2.1, r32.2.2.2.1, r27.2.1, r27.2.2, r32.2.2.2.2)
def MX7_isName (m_sort : Int32) (m_word : Int64) : Option Bool :=
  if m_sort = (2 : Int32) then
    (MX7_isWord 1 m_sort m_word).bind fun r2 =>
    if (b2i r2) = 0 then
      (MX7_isWord 2 m_sort m_word).bind fun r5 =>
      if (b2i r5) = 0 then
        (MX7_isWord 3 m_sort m_word).bind fun r8 =>
        if (b2i r8) = 0 then
          (MX7_isWord 4 m_sort m_word).bind fun r11 =>
          if (b2i r11) = 0 then
            (MX7_isWord 5 m_sort m_word).bind fun r14 =>
            if (b2i r14) = 0 then
              (MX7_isWord 6 m_sort m_word).bind fun r17 =>
              if (b2i r17) = 0 then
                (MX7_isWord 9 m_sort m_word).bind fun r20 =>
                if (b2i r20) = 0 then
                  some true
                else
                  some false
              else
                some false
            else
              some false
          else
            some false
        else
          some false
      else
        some false
    else
      some false
  else
    some false
def MX7_personAtHand (m_sort : Int32) (m_place : Int32) (m_fault : Int32) (m_wrongAt : Int32) (m_word : Int64) (c_people : Int32) (c_name_ : AL) : Option (Int32 × Int32 × Int32 × Int32) :=
  (MX7_isName m_sort m_word).bind fun r1 =>
  Option.bind (if (b2i r1) = 0 then
    (MX7_flaw (1 : Int32) m_sort m_place m_fault m_wrongAt).bind fun r6 =>
    some (r6.1, r6.2.1, r6.2.2)
  else
    some (m_sort, m_fault, m_wrongAt)
  ) fun r8 =>
  (MX14_find m_word c_people c_name_).bind fun r10 =>
  Option.bind (if r10 = (-1 : Int32) then
    (MX7_flaw (2 : Int32) r8.1 m_place r8.2.1 r8.2.2).bind fun r15 =>
    some (r15.1, r15.2.1, r15.2.2)
  else
    some (r8.1, r8.2.1, r8.2.2)
  ) fun r17 =>
  if r17.1 = (5 : Int32) then
    some ((0 : Int32), r17.1, r17.2.1, r17.2.2)
  else
    some (r10, r17.1, r17.2.1, r17.2.2)
def MX7_readCity (m_size : Int32) (m_spot : Int32) (m_sort : Int32) (m_place : Int32) (m_number : Int32) (m_fault : Int32) (m_wrongAt : Int32) (m_word : Int64) (c_hour : Int32) (c_gives : Int32) (m_tape_ : AI) : Option (Int32 × Int32 × Int32 × Int32 × Int32 × Int32 × Int64 × Int32 × Int32) :=
  Option.bind (if c_hour = (-1 : Int32) then
    some (m_sort, m_fault, m_wrongAt)
  else
    (MX7_flaw (3 : Int32) m_sort m_place m_fault m_wrongAt).bind fun r4 =>
    some (r4.1, r4.2.1, r4.2.2)
  ) fun r6 =>
  (MX7_goesOn m_size m_spot r6.1 m_place m_number m_word m_tape_).bind fun r8 =>
  (MX7_readPart 7 (0 : Int32) (99 : Int32) m_size r8.1 r8.2.1 r8.2.2.1 r8.2.2.2.1 r6.2.1 r6.2.2 r8.2.2.2.2 m_tape_).bind fun r10 =>
  (MX7_readPart 8 (0 : Int32) (9 : Int32) m_size r10.2.1 r10.2.2.1 r10.2.2.2.1 r10.2.2.2.2.1 r10.2.2.2.2.2.1 r10.2.2.2.2.2.2.1 r10.2.2.2.2.2.2.2 m_tape_).bind fun r12 =>
  if r12.2.2.1 = (5 : Int32) then
    some (r12.2.1, r12.2.2.1, r12.2.2.2.1, r12.2.2.2.2.1, r12.2.2.2.2.2.1, r12.2.2.2.2.2.2.1, r12.2.2.2.2.2.2.2, c_hour, c_gives)
  else
    some (r12.2.1, r12.2.2.1, r12.2.2.2.1, r12.2.2.2.2.1, r12.2.2.2.2.2.1, r12.2.2.2.2.2.2.1, r12.2.2.2.2.2.2.2, r10.1, r12.1)
def MX7_readPerson (m_size : Int32) (m_spot : Int32) (m_sort : Int32) (m_place : Int32) (m_number : Int32) (m_fault : Int32) (m_wrongAt : Int32) (m_word : Int64) (c_hour : Int32) (c_people : Int32) (m_tape_ : AI) (c_name_ : AL) (c_kind_ : AI) (c_has_ : AI) (c_dies_ : AI) : Option (Int32 × Int32 × Int32 × Int32 × Int32 × Int32 × Int64 × Int32 × AL × AI × AI × AI) :=
  (MX7_lineBegins c_people (6 : Int32) m_size m_spot m_sort m_place m_number m_fault m_wrongAt m_word c_hour m_tape_).bind fun r1 =>
  (MX7_isName r1.2.1 r1.2.2.2.2.2.2).bind fun r3 =>
  Option.bind (if (b2i r3) = 0 then
    (MX7_flaw (1 : Int32) r1.2.1 r1.2.2.1 r1.2.2.2.2.1 r1.2.2.2.2.2.1).bind fun r8 =>
    some (r8.1, r8.2.1, r8.2.2)
  else
    some (r1.2.1, r1.2.2.2.2.1, r1.2.2.2.2.2.1)
  ) fun r10 =>
  (MX14_find r1.2.2.2.2.2.2 c_people c_name_).bind fun r12 =>
  Option.bind (if r12 = (-1 : Int32) then
    some (r10.1, r10.2.1, r10.2.2)
  else
    (MX7_flaw (3 : Int32) r10.1 r1.2.2.1 r10.2.1 r10.2.2).bind fun r17 =>
    some (r17.1, r17.2.1, r17.2.2)
  ) fun r19 =>
  (MX7_goesOn m_size r1.1 r19.1 r1.2.2.1 r1.2.2.2.1 r1.2.2.2.2.2.2 m_tape_).bind fun r21 =>
  (MX7_isWord 10 r21.2.1 r21.2.2.2.2).bind fun r23 =>
  Option.bind (if (b2i r23) = 0 then
    (MX7_isWord 11 r21.2.1 r21.2.2.2.2).bind fun r35 =>
    if (b2i r35) = 0 then
      (MX7_isWord 12 r21.2.1 r21.2.2.2.2).bind fun r38 =>
      if (b2i r38) = 0 then
        (MX7_isWord 13 r21.2.1 r21.2.2.2.2).bind fun r41 =>
        if (b2i r41) = 0 then
          some (-1 : Int32)
        else
          some (3 : Int32)
      else
        some (2 : Int32)
    else
      some (1 : Int32)
  else
    some (0 : Int32)
  ) fun r44 =>
  Option.bind (if r44 = (-1 : Int32) then
    (MX7_flaw (1 : Int32) r21.2.1 r21.2.2.1 r19.2.1 r19.2.2).bind fun r49 =>
    some (r49.1, r49.2.1, r49.2.2)
  else
    some (r21.2.1, r19.2.1, r19.2.2)
  ) fun r51 =>
  (MX7_goesOn m_size r21.1 r51.1 r21.2.2.1 r21.2.2.2.1 r21.2.2.2.2 m_tape_).bind fun r53 =>
  (MX7_readPart 14 (0 : Int32) (99 : Int32) m_size r53.1 r53.2.1 r53.2.2.1 r53.2.2.2.1 r51.2.1 r51.2.2 r53.2.2.2.2 m_tape_).bind fun r55 =>
  (MX7_readPart 15 (0 : Int32) (100 : Int32) m_size r55.2.1 r55.2.2.1 r55.2.2.2.1 r55.2.2.2.2.1 r55.2.2.2.2.2.1 r55.2.2.2.2.2.2.1 r55.2.2.2.2.2.2.2 m_tape_).bind fun r57 =>
  if r57.2.2.1 = (5 : Int32) then
    some (r57.2.1, r57.2.2.1, r57.2.2.2.1, r57.2.2.2.2.1, r57.2.2.2.2.2.1, r57.2.2.2.2.2.2.1, r57.2.2.2.2.2.2.2, c_people, c_name_, c_kind_, c_has_, c_dies_)
  else
    gi c_people 6 <|
    gi c_people 6 <|
    gi c_people 6 <|
    gi c_people 6 <|
    some (r57.2.1, r57.2.2.1, r57.2.2.2.1, r57.2.2.2.2.1, r57.2.2.2.2.2.1, r57.2.2.2.2.2.2.1, r57.2.2.2.2.2.2.2, (c_people + (1 : Int32)), (vp_updL c_name_ (Int32.toNatClampNeg c_people) r1.2.2.2.2.2.2), (upd c_kind_ (Int32.toNatClampNeg c_people) r44), (upd c_has_ (Int32.toNatClampNeg c_people) r55.1), (upd c_dies_ (Int32.toNatClampNeg c_people) r57.1))
def MX7_readNear (m_size : Int32) (m_spot : Int32) (m_sort : Int32) (m_place : Int32) (m_number : Int32) (m_fault : Int32) (m_wrongAt : Int32) (m_word : Int64) (c_hour : Int32) (c_people : Int32) (c_nears : Int32) (m_tape_ : AI) (c_name_ : AL) (c_near_ : AI) : Option (Int32 × Int32 × Int32 × Int32 × Int32 × Int32 × Int64 × Int32 × AI) :=
  (MX7_lineBegins c_nears (9 : Int32) m_size m_spot m_sort m_place m_number m_fault m_wrongAt m_word c_hour m_tape_).bind fun r1 =>
  (MX7_personAtHand r1.2.1 r1.2.2.1 r1.2.2.2.2.1 r1.2.2.2.2.2.1 r1.2.2.2.2.2.2 c_people c_name_).bind fun r3 =>
  (MX7_goesOn m_size r1.1 r3.2.1 r1.2.2.1 r1.2.2.2.1 r1.2.2.2.2.2.2 m_tape_).bind fun r5 =>
  (MX7_personAtHand r5.2.1 r5.2.2.1 r3.2.2.1 r3.2.2.2 r5.2.2.2.2 c_people c_name_).bind fun r7 =>
  Option.bind (if r7.2.1 = (5 : Int32) then
    some (r7.2.1, r7.2.2.1, r7.2.2.2)
  else
    if r3.1 = r7.1 then
      (MX7_flaw (3 : Int32) r7.2.1 r5.2.2.1 r7.2.2.1 r7.2.2.2).bind fun r20 =>
      some (r20.1, r20.2.1, r20.2.2)
    else
      gi r3.1 6 <|
      (MX7_bit (c_near_ (Int32.toNatClampNeg r3.1)) r7.1).bind fun r23 =>
      if (b2i r23) = 0 then
        some (r7.2.1, r7.2.2.1, r7.2.2.2)
      else
        (MX7_flaw (3 : Int32) r7.2.1 r5.2.2.1 r7.2.2.1 r7.2.2.2).bind fun r26 =>
        some (r26.1, r26.2.1, r26.2.2)
  ) fun r28 =>
  (MX7_goesOn m_size r5.1 r28.1 r5.2.2.1 r5.2.2.2.1 r5.2.2.2.2 m_tape_).bind fun r30 =>
  if r30.2.1 = (5 : Int32) then
    some (r30.1, r30.2.1, r30.2.2.1, r30.2.2.2.1, r28.2.1, r28.2.2, r30.2.2.2.2, c_nears, c_near_)
  else
    gi r3.1 6 <|
    gi r3.1 6 <|
    lt_ ((c_near_ (Int32.toNatClampNeg r3.1)) ||| ((1 : Int32) <<< (r7.1 &&& 31))) fun y35 =>
    gi r7.1 6 <|
    gi r7.1 6 <|
    lt_ (((upd c_near_ (Int32.toNatClampNeg r3.1) y35) (Int32.toNatClampNeg r7.1)) ||| ((1 : Int32) <<< (r3.1 &&& 31))) fun y38 =>
    some (r30.1, r30.2.1, r30.2.2.1, r30.2.2.2.1, r28.2.1, r28.2.2, r30.2.2.2.2, (c_nears + (1 : Int32)), (upd (upd c_near_ (Int32.toNatClampNeg r3.1) y35) (Int32.toNatClampNeg r7.1) y38))
def MX7_readPair (m_size : Int32) (m_spot : Int32) (m_sort : Int32) (m_place : Int32) (m_number : Int32) (m_fault : Int32) (m_wrongAt : Int32) (m_word : Int64) (c_people : Int32) (c_name_ : AL) (c_kind_ : AI) (m_tape_ : AI) (c_asked_ : AI) (c_near_ : AI) : Option (Int32 × Int32 × Int32 × Int32 × Int32 × Int32 × Int32 × Int64 × Int32) :=
  (MX7_personAtHand m_sort m_place m_fault m_wrongAt m_word c_people c_name_).bind fun r1 =>
  Option.bind (if r1.2.1 = (5 : Int32) then
    some (r1.2.1, r1.2.2.1, r1.2.2.2)
  else
    gi r1.1 6 <|
    if (c_kind_ (Int32.toNatClampNeg r1.1)) = (3 : Int32) then
      (MX7_flaw (7 : Int32) r1.2.1 m_place r1.2.2.1 r1.2.2.2).bind fun r10 =>
      some (r10.1, r10.2.1, r10.2.2)
    else
      some (r1.2.1, r1.2.2.1, r1.2.2.2)
  ) fun r12 =>
  (MX7_goesOn m_size m_spot r12.1 m_place m_number m_word m_tape_).bind fun r14 =>
  (MX7_personAtHand r14.2.1 r14.2.2.1 r12.2.1 r12.2.2 r14.2.2.2.2 c_people c_name_).bind fun r16 =>
  Option.bind (if r16.2.1 = (5 : Int32) then
    some (r16.2.1, r16.2.2.1, r16.2.2.2)
  else
    if r1.1 = r16.1 then
      (MX7_flaw (3 : Int32) r16.2.1 r14.2.2.1 r16.2.2.1 r16.2.2.2).bind fun r27 =>
      some (r27.1, r27.2.1, r27.2.2)
    else
      gi (((6 : Int32) * r1.1) + r16.1) 36 <|
      if (c_asked_ (Int32.toNatClampNeg (((6 : Int32) * r1.1) + r16.1))) = (-1 : Int32) then
        some (r16.2.1, r16.2.2.1, r16.2.2.2)
      else
        (MX7_flaw (3 : Int32) r16.2.1 r14.2.2.1 r16.2.2.1 r16.2.2.2).bind fun r31 =>
        some (r31.1, r31.2.1, r31.2.2)
  ) fun r33 =>
  Option.bind (if r33.1 = (5 : Int32) then
    some (r33.1, r33.2.1, r33.2.2)
  else
    (MX14_mayAsk r1.1 r16.1 c_kind_ c_near_).bind fun r41 =>
    if (b2i r41) = 0 then
      (MX7_flaw (7 : Int32) r33.1 r14.2.2.1 r33.2.1 r33.2.2).bind fun r44 =>
      some (r44.1, r44.2.1, r44.2.2)
    else
      some (r33.1, r33.2.1, r33.2.2)
  ) fun r46 =>
  (MX7_goesOn m_size r14.1 r46.1 r14.2.2.1 r14.2.2.2.1 r14.2.2.2.2 m_tape_).bind fun r48 =>
  some (r1.1, r48.1, r48.2.1, r48.2.2.1, r48.2.2.2.1, r46.2.1, r46.2.2, r48.2.2.2.2, r16.1)
def MX7_readAsked (m_size : Int32) (m_spot : Int32) (m_sort : Int32) (m_place : Int32) (m_number : Int32) (m_fault : Int32) (m_wrongAt : Int32) (m_word : Int64) (c_hour : Int32) (c_people : Int32) (c_askeds : Int32) (m_tape_ : AI) (c_kind_ : AI) (c_near_ : AI) (c_asked_ : AI) (c_name_ : AL) : Option (Int32 × Int32 × Int32 × Int32 × Int32 × Int32 × Int64 × Int32 × Int32 × AI) :=
  (MX7_lineBegins c_askeds (12 : Int32) m_size m_spot m_sort m_place m_number m_fault m_wrongAt m_word c_hour m_tape_).bind fun r1 =>
  (MX7_readPair m_size r1.1 r1.2.1 r1.2.2.1 r1.2.2.2.1 r1.2.2.2.2.1 r1.2.2.2.2.2.1 r1.2.2.2.2.2.2 c_people c_name_ c_kind_ m_tape_ c_asked_ c_near_).bind fun r3 =>
  (MX7_readPart 16 (0 : Int32) c_hour m_size r3.2.1 r3.2.2.1 r3.2.2.2.1 r3.2.2.2.2.1 r3.2.2.2.2.2.1 r3.2.2.2.2.2.2.1 r3.2.2.2.2.2.2.2.1 m_tape_).bind fun r5 =>
  if r5.2.2.1 = (5 : Int32) then
    some (r5.2.1, r5.2.2.1, r5.2.2.2.1, r5.2.2.2.2.1, r5.2.2.2.2.2.1, r5.2.2.2.2.2.2.1, r5.2.2.2.2.2.2.2, r3.2.2.2.2.2.2.2.2, c_askeds, c_asked_)
  else
    gi (((6 : Int32) * r3.1) + r3.2.2.2.2.2.2.2.2) 36 <|
    some (r5.2.1, r5.2.2.1, r5.2.2.2.1, r5.2.2.2.2.1, r5.2.2.2.2.2.1, r5.2.2.2.2.2.2.1, r5.2.2.2.2.2.2.2, r3.2.2.2.2.2.2.2.2, (c_askeds + (1 : Int32)), (upd c_asked_ (Int32.toNatClampNeg (((6 : Int32) * r3.1) + r3.2.2.2.2.2.2.2.2)) r5.1))
def MX7_readHeard (m_size : Int32) (m_spot : Int32) (m_sort : Int32) (m_place : Int32) (m_number : Int32) (m_fault : Int32) (m_wrongAt : Int32) (m_word : Int64) (c_hour : Int32) (c_people : Int32) (c_heards : Int32) (m_tape_ : AI) (c_kind_ : AI) (c_near_ : AI) (c_asked_ : AI) (c_name_ : AL) (c_by_ : AI) (c_of_ : AI) (c_give_ : AI) : Option (Int32 × Int32 × Int32 × Int32 × Int32 × Int32 × Int64 × Int32 × Int32 × AI × AI × AI × AI) :=
  (MX7_lineBegins c_heards (3 : Int32) m_size m_spot m_sort m_place m_number m_fault m_wrongAt m_word c_hour m_tape_).bind fun r1 =>
  (MX7_readPair m_size r1.1 r1.2.1 r1.2.2.1 r1.2.2.2.1 r1.2.2.2.2.1 r1.2.2.2.2.2.1 r1.2.2.2.2.2.2 c_people c_name_ c_kind_ m_tape_ c_asked_ c_near_).bind fun r3 =>
  (MX7_readPart 16 (0 : Int32) c_hour m_size r3.2.1 r3.2.2.1 r3.2.2.2.1 r3.2.2.2.2.1 r3.2.2.2.2.2.1 r3.2.2.2.2.2.2.1 r3.2.2.2.2.2.2.2.1 m_tape_).bind fun r5 =>
  (MX7_readPart 17 (0 : Int32) (3 : Int32) m_size r5.2.1 r5.2.2.1 r5.2.2.2.1 r5.2.2.2.2.1 r5.2.2.2.2.2.1 r5.2.2.2.2.2.2.1 r5.2.2.2.2.2.2.2 m_tape_).bind fun r7 =>
  if r7.2.2.1 = (5 : Int32) then
    some (r7.2.1, r7.2.2.1, r7.2.2.2.1, r7.2.2.2.2.1, r7.2.2.2.2.2.1, r7.2.2.2.2.2.2.1, r7.2.2.2.2.2.2.2, r3.2.2.2.2.2.2.2.2, c_heards, c_asked_, c_by_, c_of_, c_give_)
  else
    gi (((6 : Int32) * r3.1) + r3.2.2.2.2.2.2.2.2) 36 <|
    gi c_heards 3 <|
    gi c_heards 3 <|
    gi c_heards 3 <|
    some (r7.2.1, r7.2.2.1, r7.2.2.2.1, r7.2.2.2.2.1, r7.2.2.2.2.2.1, r7.2.2.2.2.2.2.1, r7.2.2.2.2.2.2.2, r3.2.2.2.2.2.2.2.2, (c_heards + (1 : Int32)), (upd c_asked_ (Int32.toNatClampNeg (((6 : Int32) * r3.1) + r3.2.2.2.2.2.2.2.2)) r5.1), (upd c_by_ (Int32.toNatClampNeg c_heards) r3.1), (upd c_of_ (Int32.toNatClampNeg c_heards) r3.2.2.2.2.2.2.2.2), (upd c_give_ (Int32.toNatClampNeg c_heards) r7.1))
def MX7_readWent (m_size : Int32) (m_spot : Int32) (m_sort : Int32) (m_place : Int32) (m_number : Int32) (m_fault : Int32) (m_wrongAt : Int32) (m_word : Int64) (c_hour : Int32) (c_people : Int32) (c_wents : Int32) (m_tape_ : AI) (c_name_ : AL) (c_went_ : AI) : Option (Int32 × Int32 × Int32 × Int32 × Int32 × Int32 × Int64 × Int32 × AI) :=
  (MX7_lineBegins (0 : Int32) (1 : Int32) m_size m_spot m_sort m_place m_number m_fault m_wrongAt m_word c_hour m_tape_).bind fun r1 =>
  (MX7_personAtHand r1.2.1 r1.2.2.1 r1.2.2.2.2.1 r1.2.2.2.2.2.1 r1.2.2.2.2.2.2 c_people c_name_).bind fun r3 =>
  Option.bind (if r3.2.1 = (5 : Int32) then
    some (r3.2.1, r3.2.2.1, r3.2.2.2)
  else
    gi r3.1 6 <|
    if (c_went_ (Int32.toNatClampNeg r3.1)) = (-1 : Int32) then
      some (r3.2.1, r3.2.2.1, r3.2.2.2)
    else
      (MX7_flaw (3 : Int32) r3.2.1 r1.2.2.1 r3.2.2.1 r3.2.2.2).bind fun r12 =>
      some (r12.1, r12.2.1, r12.2.2)
  ) fun r14 =>
  (MX7_goesOn m_size r1.1 r14.1 r1.2.2.1 r1.2.2.2.1 r1.2.2.2.2.2.2 m_tape_).bind fun r16 =>
  (MX7_isWord 9 r16.2.1 r16.2.2.2.2).bind fun r18 =>
  Option.bind (if (b2i r18) = 0 then
    (MX7_personAtHand r16.2.1 r16.2.2.1 r14.2.1 r14.2.2 r16.2.2.2.2 c_people c_name_).bind fun r27 =>
    if r27.2.1 = (5 : Int32) then
      some (r27.1, r27.2.1, r27.2.2.1, r27.2.2.2)
    else
      if r27.1 = r3.1 then
        (MX7_flaw (3 : Int32) r27.2.1 r16.2.2.1 r27.2.2.1 r27.2.2.2).bind fun r31 =>
        some (r27.1, r31.1, r31.2.1, r31.2.2)
      else
        some (r27.1, r27.2.1, r27.2.2.1, r27.2.2.2)
  else
    some ((-2 : Int32), r16.2.1, r14.2.1, r14.2.2)
  ) fun r33 =>
  (MX7_goesOn m_size r16.1 r33.2.1 r16.2.2.1 r16.2.2.2.1 r16.2.2.2.2 m_tape_).bind fun r35 =>
  if r35.2.1 = (5 : Int32) then
    some (r35.1, r35.2.1, r35.2.2.1, r35.2.2.2.1, r33.2.2.1, r33.2.2.2, r35.2.2.2.2, c_wents, c_went_)
  else
    gi r3.1 6 <|
    some (r35.1, r35.2.1, r35.2.2.1, r35.2.2.2.1, r33.2.2.1, r33.2.2.2, r35.2.2.2.2, (c_wents + (1 : Int32)), (upd c_went_ (Int32.toNatClampNeg r3.1) r33.1))
def MX7_readLine (m_size : Int32) (m_spot : Int32) (m_sort : Int32) (m_place : Int32) (m_number : Int32) (m_fault : Int32) (m_wrongAt : Int32) (m_word : Int64) (m_askedOf : Int32) (c_hour : Int32) (c_gives : Int32) (c_people : Int32) (c_nears : Int32) (c_askeds : Int32) (c_heards : Int32) (c_wents : Int32) (m_tape_ : AI) (c_went_ : AI) (c_name_ : AL) (c_kind_ : AI) (c_near_ : AI) (c_asked_ : AI) (c_by_ : AI) (c_of_ : AI) (c_give_ : AI) (c_has_ : AI) (c_dies_ : AI) : Option (Int32 × Int32 × Int32 × Int32 × Int32 × Int32 × Int64 × Int32 × Int32 × Int32 × Int32 × Int32 × Int32 × Int32 × Int32 × AI × AL × AI × AI × AI × AI × AI × AI × AI × AI) :=
  (MX7_isWord 1 m_sort m_word).bind fun r1 =>
  if (b2i r1) = 0 then
    (MX7_isWord 2 m_sort m_word).bind fun r4 =>
    if (b2i r4) = 0 then
      (MX7_isWord 3 m_sort m_word).bind fun r7 =>
      if (b2i r7) = 0 then
        (MX7_isWord 4 m_sort m_word).bind fun r10 =>
        if (b2i r10) = 0 then
          (MX7_isWord 5 m_sort m_word).bind fun r13 =>
          if (b2i r13) = 0 then
            (MX7_isWord 6 m_sort m_word).bind fun r16 =>
            if (b2i r16) = 0 then
              (MX7_flaw (1 : Int32) m_sort m_place m_fault m_wrongAt).bind fun r19 =>
              some (m_spot, r19.1, m_place, m_number, r19.2.1, r19.2.2, m_word, m_askedOf, c_hour, c_gives, c_people, c_nears, c_askeds, c_heards, c_wents, c_went_, c_name_, c_kind_, c_near_, c_asked_, c_by_, c_of_, c_give_, c_has_, c_dies_)
            else
              (MX7_readWent m_size m_spot m_sort m_place m_number m_fault m_wrongAt m_word c_hour c_people c_wents m_tape_ c_name_ c_went_).bind fun r21 =>
              some (r21.1, r21.2.1, r21.2.2.1, r21.2.2.2.1, r21.2.2.2.2.1, r21.2.2.2.2.2.1, r21.2.2.2.2.2.2.1, m_askedOf, c_hour, c_gives, c_people, c_nears, c_askeds, c_heards, r21.2.2.2.2.2.2.2.1, r21.2.2.2.2.2.2.2.2, c_name_, c_kind_, c_near_, c_asked_, c_by_, c_of_, c_give_, c_has_, c_dies_)
          else
            (MX7_readHeard m_size m_spot m_sort m_place m_number m_fault m_wrongAt m_word c_hour c_people c_heards m_tape_ c_kind_ c_near_ c_asked_ c_name_ c_by_ c_of_ c_give_).bind fun r23 =>
            some (r23.1, r23.2.1, r23.2.2.1, r23.2.2.2.1, r23.2.2.2.2.1, r23.2.2.2.2.2.1, r23.2.2.2.2.2.2.1, r23.2.2.2.2.2.2.2.1, c_hour, c_gives, c_people, c_nears, c_askeds, r23.2.2.2.2.2.2.2.2.1, c_wents, c_went_, c_name_, c_kind_, c_near_, r23.2.2.2.2.2.2.2.2.2.1, r23.2.2.2.2.2.2.2.2.2.2.1, r23.2.2.2.2.2.2.2.2.2.2.2.1, r23.2.2.2.2.2.2.2.2.2.2.2.2, c_has_, c_dies_)
        else
          (MX7_readAsked m_size m_spot m_sort m_place m_number m_fault m_wrongAt m_word c_hour c_people c_askeds m_tape_ c_kind_ c_near_ c_asked_ c_name_).bind fun r25 =>
          some (r25.1, r25.2.1, r25.2.2.1, r25.2.2.2.1, r25.2.2.2.2.1, r25.2.2.2.2.2.1, r25.2.2.2.2.2.2.1, r25.2.2.2.2.2.2.2.1, c_hour, c_gives, c_people, c_nears, r25.2.2.2.2.2.2.2.2.1, c_heards, c_wents, c_went_, c_name_, c_kind_, c_near_, r25.2.2.2.2.2.2.2.2.2, c_by_, c_of_, c_give_, c_has_, c_dies_)
      else
        (MX7_readNear m_size m_spot m_sort m_place m_number m_fault m_wrongAt m_word c_hour c_people c_nears m_tape_ c_name_ c_near_).bind fun r27 =>
        some (r27.1, r27.2.1, r27.2.2.1, r27.2.2.2.1, r27.2.2.2.2.1, r27.2.2.2.2.2.1, r27.2.2.2.2.2.2.1, m_askedOf, c_hour, c_gives, c_people, r27.2.2.2.2.2.2.2.1, c_askeds, c_heards, c_wents, c_went_, c_name_, c_kind_, r27.2.2.2.2.2.2.2.2, c_asked_, c_by_, c_of_, c_give_, c_has_, c_dies_)
    else
      (MX7_readPerson m_size m_spot m_sort m_place m_number m_fault m_wrongAt m_word c_hour c_people m_tape_ c_name_ c_kind_ c_has_ c_dies_).bind fun r29 =>
      some (r29.1, r29.2.1, r29.2.2.1, r29.2.2.2.1, r29.2.2.2.2.1, r29.2.2.2.2.2.1, r29.2.2.2.2.2.2.1, m_askedOf, c_hour, c_gives, r29.2.2.2.2.2.2.2.1, c_nears, c_askeds, c_heards, c_wents, c_went_, r29.2.2.2.2.2.2.2.2.1, r29.2.2.2.2.2.2.2.2.2.1, c_near_, c_asked_, c_by_, c_of_, c_give_, r29.2.2.2.2.2.2.2.2.2.2.1, r29.2.2.2.2.2.2.2.2.2.2.2)
  else
    (MX7_readCity m_size m_spot m_sort m_place m_number m_fault m_wrongAt m_word c_hour c_gives m_tape_).bind fun r31 =>
    some (r31.1, r31.2.1, r31.2.2.1, r31.2.2.2.1, r31.2.2.2.2.1, r31.2.2.2.2.2.1, r31.2.2.2.2.2.2.1, m_askedOf, r31.2.2.2.2.2.2.2.1, r31.2.2.2.2.2.2.2.2, c_people, c_nears, c_askeds, c_heards, c_wents, c_went_, c_name_, c_kind_, c_near_, c_asked_, c_by_, c_of_, c_give_, c_has_, c_dies_)
def BX7_readAll_2 (m_size : Int32) (m_tape_ : AI) (x1_2 : Bool) (m_spot_2 : Int32) (m_sort_2 : Int32) (m_place_2 : Int32) (m_number_2 : Int32) (m_fault_2 : Int32) (m_wrongAt_2 : Int32) (m_word_2 : Int64) (m_askedOf_2 : Int32) (c_hour_2 : Int32) (c_gives_2 : Int32) (c_people_2 : Int32) (c_nears_2 : Int32) (c_askeds_2 : Int32) (c_heards_2 : Int32) (c_wents_2 : Int32) (c_kind_2 : AI) (c_has_2 : AI) (c_dies_2 : AI) (c_near_2 : AI) (c_went_2 : AI) (c_asked_2 : AI) (c_by_2 : AI) (c_of_2 : AI) (c_give_2 : AI) (c_name_2 : AL) : Option ((Bool × Int32 × Int32 × Int32 × Int32 × Int32 × Int32 × Int64 × Int32 × Int32 × Int32 × Int32 × Int32 × Int32 × Int32 × Int32 × AI × AI × AI × AI × AI × AI × AI × AI × AI × AL) ⊕ (AI × AI × AI × AI × AI × AI × AI × AI × AI × AL × Int32 × Int32 × Int32 × Int32 × Int32 × Int32 × Int64 × Int32 × Int32 × Int32 × Int32 × Int32 × Int32 × Int32 × Int32)) :=
  if (b2i x1_2) = 0 then
    some (.inr (c_kind_2, c_has_2, c_dies_2, c_near_2, c_went_2, c_asked_2, c_by_2, c_of_2, c_give_2, c_name_2, m_spot_2, m_sort_2, m_place_2, m_number_2, m_fault_2, m_wrongAt_2, m_word_2, m_askedOf_2, c_hour_2, c_gives_2, c_people_2, c_nears_2, c_askeds_2, c_heards_2, c_wents_2))
  else
    (MX7_readLine m_size m_spot_2 m_sort_2 m_place_2 m_number_2 m_fault_2 m_wrongAt_2 m_word_2 m_askedOf_2 c_hour_2 c_gives_2 c_people_2 c_nears_2 c_askeds_2 c_heards_2 c_wents_2 m_tape_ c_went_2 c_name_2 c_kind_2 c_near_2 c_asked_2 c_by_2 c_of_2 c_give_2 c_has_2 c_dies_2).bind fun r2 =>
    (MX7_eatsSemicolon m_size r2.1 r2.2.1 r2.2.2.1 r2.2.2.2.1 r2.2.2.2.2.2.2.1 m_tape_).bind fun r4 =>
    some (.inl (r4.1, r4.2.1, r4.2.2.1, r4.2.2.2.1, r4.2.2.2.2.1, r2.2.2.2.2.1, r2.2.2.2.2.2.1, r4.2.2.2.2.2, r2.2.2.2.2.2.2.2.1, r2.2.2.2.2.2.2.2.2.1, r2.2.2.2.2.2.2.2.2.2.1, r2.2.2.2.2.2.2.2.2.2.2.1, r2.2.2.2.2.2.2.2.2.2.2.2.1, r2.2.2.2.2.2.2.2.2.2.2.2.2.1, r2.2.2.2.2.2.2.2.2.2.2.2.2.2.1, r2.2.2.2.2.2.2.2.2.2.2.2.2.2.2.1, r2.2.2.2.2.2.2.2.2.2.2.2.2.2.2.2.2.2.1, r2.2.2.2.2.2.2.2.2.2.2.2.2.2.2.2.2.2.2.2.2.2.2.2.1, r2.2.2.2.2.2.2.2.2.2.2.2.2.2.2.2.2.2.2.2.2.2.2.2.2, r2.2.2.2.2.2.2.2.2.2.2.2.2.2.2.2.2.2.2.1, r2.2.2.2.2.2.2.2.2.2.2.2.2.2.2.2.1, r2.2.2.2.2.2.2.2.2.2.2.2.2.2.2.2.2.2.2.2.1, r2.2.2.2.2.2.2.2.2.2.2.2.2.2.2.2.2.2.2.2.2.1, r2.2.2.2.2.2.2.2.2.2.2.2.2.2.2.2.2.2.2.2.2.2.1, r2.2.2.2.2.2.2.2.2.2.2.2.2.2.2.2.2.2.2.2.2.2.2.1, r2.2.2.2.2.2.2.2.2.2.2.2.2.2.2.2.2.1))
def MX7_readAll (m_size : Int32) (m_spot : Int32) (m_sort : Int32) (m_place : Int32) (m_number : Int32) (m_fault : Int32) (m_wrongAt : Int32) (m_word : Int64) (m_askedOf : Int32) (c_hour : Int32) (c_gives : Int32) (c_people : Int32) (c_nears : Int32) (c_askeds : Int32) (c_heards : Int32) (c_wents : Int32) (m_tape_ : AI) (c_kind_ : AI) (c_has_ : AI) (c_dies_ : AI) (c_near_ : AI) (c_went_ : AI) (c_asked_ : AI) (c_by_ : AI) (c_of_ : AI) (c_give_ : AI) (c_name_ : AL) : Option (Int32 × Int32 × Int32 × Int32 × Int32 × Int32 × Int64 × Int32 × Int32 × Int32 × Int32 × Int32 × Int32 × Int32 × Int32 × AI × AI × AI × AI × AI × AI × AI × AI × AI × AL) :=
  (loopN FU (fun s_ => BX7_readAll_2 m_size m_tape_ s_.1 s_.2.1 s_.2.2.1 s_.2.2.2.1 s_.2.2.2.2.1 s_.2.2.2.2.2.1 s_.2.2.2.2.2.2.1 s_.2.2.2.2.2.2.2.1 s_.2.2.2.2.2.2.2.2.1 s_.2.2.2.2.2.2.2.2.2.1 s_.2.2.2.2.2.2.2.2.2.2.1 s_.2.2.2.2.2.2.2.2.2.2.2.1 s_.2.2.2.2.2.2.2.2.2.2.2.2.1 s_.2.2.2.2.2.2.2.2.2.2.2.2.2.1 s_.2.2.2.2.2.2.2.2.2.2.2.2.2.2.1 s_.2.2.2.2.2.2.2.2.2.2.2.2.2.2.2.1 s_.2.2.2.2.2.2.2.2.2.2.2.2.2.2.2.2.1 s_.2.2.2.2.2.2.2.2.2.2.2.2.2.2.2.2.2.1 s_.2.2.2.2.2.2.2.2.2.2.2.2.2.2.2.2.2.2.1 s_.2.2.2.2.2.2.2.2.2.2.2.2.2.2.2.2.2.2.2.1 s_.2.2.2.2.2.2.2.2.2.2.2.2.2.2.2.2.2.2.2.2.1 s_.2.2.2.2.2.2.2.2.2.2.2.2.2.2.2.2.2.2.2.2.2.1 s_.2.2.2.2.2.2.2.2.2.2.2.2.2.2.2.2.2.2.2.2.2.2.1 s_.2.2.2.2.2.2.2.2.2.2.2.2.2.2.2.2.2.2.2.2.2.2.2.1 s_.2.2.2.2.2.2.2.2.2.2.2.2.2.2.2.2.2.2.2.2.2.2.2.2.1 s_.2.2.2.2.2.2.2.2.2.2.2.2.2.2.2.2.2.2.2.2.2.2.2.2.2) (true, m_spot, m_sort, m_place, m_number, m_fault, m_wrongAt, m_word, m_askedOf, c_hour, c_gives, c_people, c_nears, c_askeds, c_heards, c_wents, c_kind_, c_has_, c_dies_, c_near_, c_went_, c_asked_, c_by_, c_of_, c_give_, c_name_)).bind fun r6 =>
  Option.bind (if r6.2.2.2.2.2.2.2.2.2.2.2.1 = (1 : Int32) then
    some (r6.2.2.2.2.2.2.2.2.2.2.2.1, r6.2.2.2.2.2.2.2.2.2.2.2.2.2.2.1, r6.2.2.2.2.2.2.2.2.2.2.2.2.2.2.2.1)
  else
    (MX7_flaw (1 : Int32) r6.2.2.2.2.2.2.2.2.2.2.2.1 r6.2.2.2.2.2.2.2.2.2.2.2.2.1 r6.2.2.2.2.2.2.2.2.2.2.2.2.2.2.1 r6.2.2.2.2.2.2.2.2.2.2.2.2.2.2.2.1).bind fun r10 =>
    some (r10.1, r10.2.1, r10.2.2)
  ) fun r12 =>
  if r6.2.2.2.2.2.2.2.2.2.2.2.2.2.2.2.2.2.2.2.2.1 = 0 then
    (MX7_flaw (6 : Int32) r12.1 r6.2.2.2.2.2.2.2.2.2.2.2.2.1 r12.2.1 r12.2.2).bind fun r15 =>
    some (r6.2.2.2.2.2.2.2.2.2.2.1, r15.1, r6.2.2.2.2.2.2.2.2.2.2.2.2.1, r6.2.2.2.2.2.2.2.2.2.2.2.2.2.1, r15.2.1, r15.2.2, r6.2.2.2.2.2.2.2.2.2.2.2.2.2.2.2.2.1, r6.2.2.2.2.2.2.2.2.2.2.2.2.2.2.2.2.2.1, r6.2.2.2.2.2.2.2.2.2.2.2.2.2.2.2.2.2.2.1, r6.2.2.2.2.2.2.2.2.2.2.2.2.2.2.2.2.2.2.2.1, r6.2.2.2.2.2.2.2.2.2.2.2.2.2.2.2.2.2.2.2.2.1, r6.2.2.2.2.2.2.2.2.2.2.2.2.2.2.2.2.2.2.2.2.2.1, r6.2.2.2.2.2.2.2.2.2.2.2.2.2.2.2.2.2.2.2.2.2.2.1, r6.2.2.2.2.2.2.2.2.2.2.2.2.2.2.2.2.2.2.2.2.2.2.2.1, r6.2.2.2.2.2.2.2.2.2.2.2.2.2.2.2.2.2.2.2.2.2.2.2.2, r6.1, r6.2.1, r6.2.2.1, r6.2.2.2.1, r6.2.2.2.2.1, r6.2.2.2.2.2.1, r6.2.2.2.2.2.2.1, r6.2.2.2.2.2.2.2.1, r6.2.2.2.2.2.2.2.2.1, r6.2.2.2.2.2.2.2.2.2.1)
  else
    some (r6.2.2.2.2.2.2.2.2.2.2.1, r12.1, r6.2.2.2.2.2.2.2.2.2.2.2.2.1, r6.2.2.2.2.2.2.2.2.2.2.2.2.2.1, r12.2.1, r12.2.2, r6.2.2.2.2.2.2.2.2.2.2.2.2.2.2.2.2.1, r6.2.2.2.2.2.2.2.2.2.2.2.2.2.2.2.2.2.1, r6.2.2.2.2.2.2.2.2.2.2.2.2.2.2.2.2.2.2.1, r6.2.2.2.2.2.2.2.2.2.2.2.2.2.2.2.2.2.2.2.1, r6.2.2.2.2.2.2.2.2.2.2.2.2.2.2.2.2.2.2.2.2.1, r6.2.2.2.2.2.2.2.2.2.2.2.2.2.2.2.2.2.2.2.2.2.1, r6.2.2.2.2.2.2.2.2.2.2.2.2.2.2.2.2.2.2.2.2.2.2.1, r6.2.2.2.2.2.2.2.2.2.2.2.2.2.2.2.2.2.2.2.2.2.2.2.1, r6.2.2.2.2.2.2.2.2.2.2.2.2.2.2.2.2.2.2.2.2.2.2.2.2, r6.1, r6.2.1, r6.2.2.1, r6.2.2.2.1, r6.2.2.2.2.1, r6.2.2.2.2.2.1, r6.2.2.2.2.2.2.1, r6.2.2.2.2.2.2.2.1, r6.2.2.2.2.2.2.2.2.1, r6.2.2.2.2.2.2.2.2.2.1)
def MX7_cityR (p0 : Int32) (m_taped : Int32) : Option (Int32 × Int32 × Int32 × Int32) :=
  if p0 < 0 then
    (MX7_refused (2 : Int32)).bind fun r2 =>
    some (r2.1, (0 : Int32), r2.2.1, r2.2.2)
  else
    if p0 ≤ m_taped then
      none
    else
      (MX7_refused (2 : Int32)).bind fun r5 =>
      some (r5.1, (0 : Int32), r5.2.1, r5.2.2)
def MX7_cityF (p0 : Int32) (m_taped : Int32) (m_place : Int32) (m_number : Int32) (m_wrongAt : Int32) (m_word : Int64) (m_askedOf : Int32) (m_tape_ : AI) : Option (Int32 × Int32 × Int32 × Int32 × Int32 × Int32 × Int32 × Int32 × Int32 × Int32 × Int32 × Int32 × Int64 × Int32 × AI × AI × AI × AI × AI × AI × AI × AI × AI × AL × Int32 × Int32 × Int32 × Int32 × Int32 × Int32 × Int32) :=
  if p0 < 0 then
    none
  else
    if p0 ≤ m_taped then
      (MX14_init).bind fun r4 =>
      (MX7_goesOn p0 (0 : Int32) (0 : Int32) m_place m_number m_word m_tape_).bind fun r16 =>
      (MX7_readAll p0 r16.1 r16.2.1 r16.2.2.1 r16.2.2.2.1 (0 : Int32) m_wrongAt r16.2.2.2.2 m_askedOf r4.1 (0 : Int32) (0 : Int32) (0 : Int32) (0 : Int32) (0 : Int32) (0 : Int32) m_tape_ (fun _ => 0) (fun _ => 0) (fun _ => 0) (fun _ => 0) r4.2.1 r4.2.2 (fun _ => 0) (fun _ => 0) (fun _ => 0) (fun _ => 0)).bind fun r18 =>
      if r18.2.2.2.2.1 ≤ 0 then
        none
      else
        some ((-1 : Int32), (0 : Int32), (4 : Int32), r18.2.2.2.2.2.1, (0 : Int32), p0, r18.1, r18.2.1, r18.2.2.1, r18.2.2.2.1, r18.2.2.2.2.1, r18.2.2.2.2.2.1, r18.2.2.2.2.2.2.1, r18.2.2.2.2.2.2.2.1, r18.2.2.2.2.2.2.2.2.2.2.2.2.2.2.2.1, r18.2.2.2.2.2.2.2.2.2.2.2.2.2.2.2.2.1, r18.2.2.2.2.2.2.2.2.2.2.2.2.2.2.2.2.2.1, r18.2.2.2.2.2.2.2.2.2.2.2.2.2.2.2.2.2.2.1, r18.2.2.2.2.2.2.2.2.2.2.2.2.2.2.2.2.2.2.2.1, r18.2.2.2.2.2.2.2.2.2.2.2.2.2.2.2.2.2.2.2.2.1, r18.2.2.2.2.2.2.2.2.2.2.2.2.2.2.2.2.2.2.2.2.2.1, r18.2.2.2.2.2.2.2.2.2.2.2.2.2.2.2.2.2.2.2.2.2.2.1, r18.2.2.2.2.2.2.2.2.2.2.2.2.2.2.2.2.2.2.2.2.2.2.2.1, r18.2.2.2.2.2.2.2.2.2.2.2.2.2.2.2.2.2.2.2.2.2.2.2.2, r18.2.2.2.2.2.2.2.2.1, r18.2.2.2.2.2.2.2.2.2.1, r18.2.2.2.2.2.2.2.2.2.2.1, r18.2.2.2.2.2.2.2.2.2.2.2.1, r18.2.2.2.2.2.2.2.2.2.2.2.2.1, r18.2.2.2.2.2.2.2.2.2.2.2.2.2.1, r18.2.2.2.2.2.2.2.2.2.2.2.2.2.2.1)
    else
      none
def BX7_cityG_103 (m_spot_103 : Int32) (m_sort_103 : Int32) (m_place_103 : Int32) (m_number_103 : Int32) (m_fault_103 : Int32) (m_wrongAt_103 : Int32) (m_word_103 : Int64) (m_askedOf_103 : Int32) (m_x_103 : AI) (q3_hour_103 : Int32) (q3_gives_103 : Int32) (q3_people_103 : Int32) (q3_nears_103 : Int32) (q3_askeds_103 : Int32) (q3_heards_103 : Int32) (q3_wents_103 : Int32) (q6_103 : AI) (q7_103 : AI) (q8_103 : AI) (q9_103 : AI) (q10_103 : AI) (q11_103 : AI) (q12_103 : AI) (q13_103 : AI) (q14_103 : AI) (q15_103 : AL) (x2_103 : Int32) (m_v_103 : AI) : Option ((Int32 × AI) ⊕ AI) :=
  if (47 : Int32) ≤ x2_103 then
    some (.inr m_v_103)
  else
    gi x2_103 47 <|
    gi x2_103 47 <|
    some (.inl ((x2_103 + (1 : Int32)), (upd m_v_103 (Int32.toNatClampNeg x2_103) (m_x_103 (Int32.toNatClampNeg x2_103)))))
def MX7_cityG (p0 : Int32) (m_taped : Int32) (m_place : Int32) (m_number : Int32) (m_wrongAt : Int32) (m_word : Int64) (m_askedOf : Int32) (m_tape_ : AI) (m_x_ : AI) (m_v_ : AI) : Option (Int32 × Int32 × Int32 × Int32 × Int32 × Int32 × Int32 × Int32 × Int32 × Int32 × Int32 × Int32 × Int64 × Int32 × Int32 × Int32 × AI × AI × AI × AI × AI × AI × AI × AI × AI × AI × AI × AL × Int32 × Int32 × Int32 × Int32 × Int32 × Int32 × Int32) :=
  if p0 < 0 then
    none
  else
    if p0 ≤ m_taped then
      (MX14_init).bind fun r4 =>
      (MX7_goesOn p0 (0 : Int32) (0 : Int32) m_place m_number m_word m_tape_).bind fun r16 =>
      (MX7_readAll p0 r16.1 r16.2.1 r16.2.2.1 r16.2.2.2.1 (0 : Int32) m_wrongAt r16.2.2.2.2 m_askedOf r4.1 (0 : Int32) (0 : Int32) (0 : Int32) (0 : Int32) (0 : Int32) (0 : Int32) m_tape_ (fun _ => 0) (fun _ => 0) (fun _ => 0) (fun _ => 0) r4.2.1 r4.2.2 (fun _ => 0) (fun _ => 0) (fun _ => 0) (fun _ => 0)).bind fun r18 =>
      if r18.2.2.2.2.1 ≤ 0 then
        (MX7_asTold m_x_ r18.2.2.2.2.2.2.2.2.1 r18.2.2.2.2.2.2.2.2.2.2.1 r18.2.2.2.2.2.2.2.2.2.2.2.2.2.2.2.2.1 r18.2.2.2.2.2.2.2.2.2.2.2.2.2.2.2.2.2.2.2.2.1).bind fun r21 =>
        (loopN FU (fun s_ => BX7_cityG_103 r18.1 r18.2.1 r18.2.2.1 r18.2.2.2.1 r18.2.2.2.2.1 r18.2.2.2.2.2.1 r18.2.2.2.2.2.2.1 r18.2.2.2.2.2.2.2.1 r21 r18.2.2.2.2.2.2.2.2.1 r18.2.2.2.2.2.2.2.2.2.1 r18.2.2.2.2.2.2.2.2.2.2.1 r18.2.2.2.2.2.2.2.2.2.2.2.1 r18.2.2.2.2.2.2.2.2.2.2.2.2.1 r18.2.2.2.2.2.2.2.2.2.2.2.2.2.1 r18.2.2.2.2.2.2.2.2.2.2.2.2.2.2.1 r18.2.2.2.2.2.2.2.2.2.2.2.2.2.2.2.1 r18.2.2.2.2.2.2.2.2.2.2.2.2.2.2.2.2.1 r18.2.2.2.2.2.2.2.2.2.2.2.2.2.2.2.2.2.1 r18.2.2.2.2.2.2.2.2.2.2.2.2.2.2.2.2.2.2.1 r18.2.2.2.2.2.2.2.2.2.2.2.2.2.2.2.2.2.2.2.1 r18.2.2.2.2.2.2.2.2.2.2.2.2.2.2.2.2.2.2.2.2.1 r18.2.2.2.2.2.2.2.2.2.2.2.2.2.2.2.2.2.2.2.2.2.1 r18.2.2.2.2.2.2.2.2.2.2.2.2.2.2.2.2.2.2.2.2.2.2.1 r18.2.2.2.2.2.2.2.2.2.2.2.2.2.2.2.2.2.2.2.2.2.2.2.1 r18.2.2.2.2.2.2.2.2.2.2.2.2.2.2.2.2.2.2.2.2.2.2.2.2 s_.1 s_.2) ((0 : Int32), m_v_)).bind fun r26 =>
        (MX7_good r18.2.2.2.2.2.2.2.2.2.2.1).bind fun r27 =>
        some (r27.1, (0 : Int32), r27.2.1, r27.2.2, (0 : Int32), p0, r18.1, r18.2.1, r18.2.2.1, r18.2.2.2.1, r18.2.2.2.2.1, r18.2.2.2.2.2.1, r18.2.2.2.2.2.2.1, r18.2.2.2.2.2.2.2.1, (0 : Int32), (0 : Int32), r21, r26, r18.2.2.2.2.2.2.2.2.2.2.2.2.2.2.2.1, r18.2.2.2.2.2.2.2.2.2.2.2.2.2.2.2.2.1, r18.2.2.2.2.2.2.2.2.2.2.2.2.2.2.2.2.2.1, r18.2.2.2.2.2.2.2.2.2.2.2.2.2.2.2.2.2.2.1, r18.2.2.2.2.2.2.2.2.2.2.2.2.2.2.2.2.2.2.2.1, r18.2.2.2.2.2.2.2.2.2.2.2.2.2.2.2.2.2.2.2.2.1, r18.2.2.2.2.2.2.2.2.2.2.2.2.2.2.2.2.2.2.2.2.2.1, r18.2.2.2.2.2.2.2.2.2.2.2.2.2.2.2.2.2.2.2.2.2.2.1, r18.2.2.2.2.2.2.2.2.2.2.2.2.2.2.2.2.2.2.2.2.2.2.2.1, r18.2.2.2.2.2.2.2.2.2.2.2.2.2.2.2.2.2.2.2.2.2.2.2.2, r18.2.2.2.2.2.2.2.2.1, r18.2.2.2.2.2.2.2.2.2.1, r18.2.2.2.2.2.2.2.2.2.2.1, r18.2.2.2.2.2.2.2.2.2.2.2.1, r18.2.2.2.2.2.2.2.2.2.2.2.2.1, r18.2.2.2.2.2.2.2.2.2.2.2.2.2.1, r18.2.2.2.2.2.2.2.2.2.2.2.2.2.2.1)
      else
        none
    else
      none