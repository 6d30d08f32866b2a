/-! THE MODEL's METHODS, PURE: printed out of the bytecode by wip/D-98610w/gen/model.py -/
set_option maxRecDepth 100000

/-- RingHandModel.thrown()I -/
def X4_thrown (σ : MS) : Option (Int32) :=
  some (m_I σ 0)
def X4_lays_b3 (x1 : Int32) (x2 : Int32) (σ : MS) : Option ((Int32 × MS) ⊕ (MS)) :=
  if x2 < 0 then
  some (.inr σ)
else
  in_ (m_I σ 15) 700 <|
    some (.inl (x2 + (-8), s_I (s_A σ 14 ((m_I σ 15).toNatClampNeg) ((x1 >>> (x2 &&& 31)) &&& 255)) 15 ((m_I σ 15) + 1)))
/-- RingHandModel.lays(I)V -/
def X4_lays (x1 : Int32) (σ : MS) : Option (MS) :=
  ob_ (lp_ (fun a => X4_lays_b3 x1 a.1 a.2) fu_ (24, σ)) fun e3 =>
  some e3
/-- RingHandModel.feed(IIIII)I -/
def X4_feed (x1 : Int32) (x2 : Int32) (x3 : Int32) (x4 : Int32) (x5 : Int32) (σ : MS) : Option (Int32 × MS) :=
  if ((m_I σ 15) + 20) ≤ 700 then
  ob_ (X4_lays x1 (s_I σ 0 0)) fun σ3 =>
    ob_ (X4_lays x2 σ3) fun σ5 =>
    ob_ (X4_lays x3 σ5) fun σ7 =>
    ob_ (X4_lays x4 σ7) fun σ9 =>
    ob_ (X4_lays x5 σ9) fun σ11 =>
    some (m_I σ11 15, σ11)
else
  some ((-1), s_I σ 0 0)
def X4_right_j16 (σ : MS) : Option (Int32 × MS) :=
  if (m_I σ 0) = 0 then
  some (1, σ)
else
  some (0, σ)
/-- RingHandModel.right(ZI)Z -/
def X4_right (x1 : Int32) (x2 : Int32) (σ : MS) : Option (Int32 × MS) :=
  if (m_I σ 0) = 0 then
  if x1 = 0 then
    X4_right_j16 (s_I σ 0 x2)
  else
    X4_right_j16 σ
else
  X4_right_j16 σ
/-- RingHandModel.forgetsText()V -/
def X4_forgetsText (σ : MS) : Option (MS) :=
  in_ 0 6 <|
  in_ 1 6 <|
  in_ 2 6 <|
  in_ 3 6 <|
  in_ 4 6 <|
  some (s_A (s_A (s_A (s_A (s_A (s_I (s_I (s_I (s_I (s_I (s_I (s_I (s_I (s_I σ 28 0) 29 0) 30 0) 31 0) 32 (-1)) 33 (-1)) 34 0) 37 0) 40 0) 48 ((0 : Int32).toNatClampNeg) 3) 48 ((1 : Int32).toNatClampNeg) 2) 48 ((2 : Int32).toNatClampNeg) 20) 48 ((3 : Int32).toNatClampNeg) 0) 48 ((4 : Int32).toNatClampNeg) 0)
/-- RingHandModel.byteAt(I)I -/
def X4_byteAt (x1 : Int32) (σ : MS) : Option (Int32) :=
  if (m_I σ 19) ≤ x1 then
  some 0
else
  in_ x1 700 <|
    some (m_A σ 14 x1.toNatClampNeg)
/-- RingHandModel.isLetter(I)Z -/
def X4_isLetter (x0 : Int32) : Option (Int32) :=
  if x0 < 97 then
  some 0
else
  if 122 < x0 then
    some 0
  else
    some 1
/-- RingHandModel.isDigit(I)Z -/
def X4_isDigit (x0 : Int32) : Option (Int32) :=
  if x0 < 48 then
  some 0
else
  if 57 < x0 then
    some 0
  else
    some 1
def X4_goes_j37 (σ : MS) : Option ((MS) ⊕ (MS)) :=
  some (.inl (s_I σ 20 ((m_I σ 20) + 1)))
def X4_goes_b0 (σ : MS) : Option ((MS) ⊕ (MS)) :=
  if (m_I σ 19) ≤ (m_I σ 20) then
  some (.inr σ)
else
  ob_ (X4_byteAt (m_I σ 20) σ) fun r3 =>
    if r3 = 32 then
    X4_goes_j37 σ
  else
    ob_ (X4_byteAt (m_I σ 20) σ) fun r6 =>
      if r6 = 10 then
      X4_goes_j37 σ
    else
      some (.inr σ)
def X4_goes_j331 (σ : MS) : Option (MS) :=
  some (s_I σ 23 ((m_I σ 20) - (m_I σ 22)))
def X4_goes_j328 (t1 : Int32) (σ : MS) : Option (MS) :=
  X4_goes_j331 (s_I σ 21 t1)
def X4_goes_j323 (σ : MS) : Option (MS) :=
  X4_goes_j328 3 σ
def X4_goes_j237 (σ : MS) : Option ((MS) ⊕ (MS)) :=
  some (.inl (s_I σ 20 ((m_I σ 20) + 1)))
def X4_goes_b187 (σ : MS) : Option ((MS) ⊕ (MS)) :=
  ob_ (X4_byteAt (m_I σ 20) σ) fun r28 =>
  ob_ (X4_isDigit r28) fun r29 =>
  if r29 = 0 then
  some (.inr σ)
else
  if 4 ≤ ((m_I σ 20) - (m_I σ 22)) then
    X4_goes_j237 σ
  else
    ob_ (X4_byteAt (m_I σ 20) σ) fun r34 =>
      X4_goes_j237 (s_I σ 24 (((10 * (m_I σ 24)) + r34) - 48))
def X4_goes_j159 (σ : MS) : Option ((MS) ⊕ (MS)) :=
  some (.inl (s_I σ 20 ((m_I σ 20) + 1)))
def X4_goes_b108 (σ : MS) : Option ((MS) ⊕ (MS)) :=
  ob_ (X4_byteAt (m_I σ 20) σ) fun r37 =>
  ob_ (X4_isLetter r37) fun r38 =>
  if r38 = 0 then
  some (.inr σ)
else
  if 6 ≤ ((m_I σ 20) - (m_I σ 22)) then
    X4_goes_j159 σ
  else
    ob_ (X4_byteAt (m_I σ 20) σ) fun r43 =>
      X4_goes_j159 (s_L σ (((m_L σ) <<< ((5 : Int32).toInt64 &&& 63)) ||| ((r43 - 96).toInt64)))
/-- RingHandModel.goes()V -/
def X4_goes (σ : MS) : Option (MS) :=
  ob_ (lp_ (fun a => X4_goes_b0 a) fu_ σ) fun e8 =>
  ob_ (X4_byteAt (m_I e8 20) (s_I (s_L (s_I e8 22 (m_I e8 20)) 0) 24 0)) fun r10 =>
  if (m_I e8 20) < (m_I e8 19) then
  ob_ (X4_isLetter r10) fun r12 =>
    if r12 = 0 then
    ob_ (X4_isDigit r10) fun r15 =>
      if r15 = 0 then
      if r10 = 59 then
        X4_goes_j323 (s_I (s_I (s_I (s_L (s_I e8 22 (m_I e8 20)) 0) 24 0) 25 r10) 20 ((m_I e8 20) + 1))
      else
        if r10 = 40 then
          X4_goes_j323 (s_I (s_I (s_I (s_L (s_I e8 22 (m_I e8 20)) 0) 24 0) 25 r10) 20 ((m_I e8 20) + 1))
        else
          if r10 = 41 then
            X4_goes_j323 (s_I (s_I (s_I (s_L (s_I e8 22 (m_I e8 20)) 0) 24 0) 25 r10) 20 ((m_I e8 20) + 1))
          else
            if r10 = 43 then
              X4_goes_j323 (s_I (s_I (s_I (s_L (s_I e8 22 (m_I e8 20)) 0) 24 0) 25 r10) 20 ((m_I e8 20) + 1))
            else
              if r10 = 45 then
                X4_goes_j323 (s_I (s_I (s_I (s_L (s_I e8 22 (m_I e8 20)) 0) 24 0) 25 r10) 20 ((m_I e8 20) + 1))
              else
                if r10 = 42 then
                  X4_goes_j323 (s_I (s_I (s_I (s_L (s_I e8 22 (m_I e8 20)) 0) 24 0) 25 r10) 20 ((m_I e8 20) + 1))
                else
                  if r10 = 47 then
                    X4_goes_j323 (s_I (s_I (s_I (s_L (s_I e8 22 (m_I e8 20)) 0) 24 0) 25 r10) 20 ((m_I e8 20) + 1))
                  else
                    if r10 = 60 then
                      X4_goes_j323 (s_I (s_I (s_I (s_L (s_I e8 22 (m_I e8 20)) 0) 24 0) 25 r10) 20 ((m_I e8 20) + 1))
                    else
                      if r10 = 61 then
                        X4_goes_j323 (s_I (s_I (s_I (s_L (s_I e8 22 (m_I e8 20)) 0) 24 0) 25 r10) 20 ((m_I e8 20) + 1))
                      else
                        X4_goes_j328 4 (s_I (s_I (s_I (s_L (s_I e8 22 (m_I e8 20)) 0) 24 0) 25 r10) 20 ((m_I e8 20) + 1))
    else
      ob_ (lp_ (fun a => X4_goes_b187 a) fu_ (s_I (s_I (s_L (s_I e8 22 (m_I e8 20)) 0) 24 0) 25 r10)) fun e35 =>
        X4_goes_j331 (s_I e35 21 2)
  else
    ob_ (lp_ (fun a => X4_goes_b108 a) fu_ (s_I (s_I (s_L (s_I e8 22 (m_I e8 20)) 0) 24 0) 25 r10)) fun e44 =>
      X4_goes_j331 (s_I e44 21 1)
else
  X4_goes_j331 (s_I (s_I (s_I (s_L (s_I e8 22 (m_I e8 20)) 0) 24 0) 25 r10) 21 0)
def X4_spelled_j66 (x5 : Int32) (x6 : Int64) : Option (Int64) :=
  if x5 = 0 then
  some x6
else
  some ((x6 <<< ((5 : Int32).toInt64 &&& 63)) ||| ((x5 - 96).toInt64))
def X4_spelled_j48 (x4 : Int32) (x5 : Int32) (x6 : Int64) : Option (Int64) :=
  if x4 = 0 then
  X4_spelled_j66 x5 x6
else
  X4_spelled_j66 x5 ((x6 <<< ((5 : Int32).toInt64 &&& 63)) ||| ((x4 - 96).toInt64))
def X4_spelled_j32 (x3 : Int32) (x4 : Int32) (x5 : Int32) (x6 : Int64) : Option (Int64) :=
  if x3 = 0 then
  X4_spelled_j48 x4 x5 x6
else
  X4_spelled_j48 x4 x5 ((x6 <<< ((5 : Int32).toInt64 &&& 63)) ||| ((x3 - 96).toInt64))
/-- RingHandModel.spelled(IIIIII)J -/
def X4_spelled (x0 : Int32) (x1 : Int32) (x2 : Int32) (x3 : Int32) (x4 : Int32) (x5 : Int32) : Option (Int64) :=
  if x2 = 0 then
  X4_spelled_j32 x3 x4 x5 (((x0.toInt64 - 96) <<< ((5 : Int32).toInt64 &&& 63)) ||| ((x1 - 96).toInt64))
else
  X4_spelled_j32 x3 x4 x5 (((((x0.toInt64 - 96) <<< ((5 : Int32).toInt64 &&& 63)) ||| ((x1 - 96).toInt64)) <<< ((5 : Int32).toInt64 &&& 63)) ||| ((x2 - 96).toInt64))
/-- RingHandModel.letters(I)J -/
def X4_letters (x0 : Int32) : Option (Int64) :=
  if x0 = 0 then
  ob_ (X4_spelled 115 101 101 110 0 0) fun r2 =>
    some r2
else
  if x0 = 1 then
    ob_ (X4_spelled 119 97 115 0 0 0) fun r5 =>
      some r5
  else
    if x0 = 2 then
      ob_ (X4_spelled 114 105 110 103 0 0) fun r8 =>
        some r8
    else
      if x0 = 3 then
        ob_ (X4_spelled 116 101 110 116 104 0) fun r11 =>
          some r11
      else
        if x0 = 4 then
          ob_ (X4_spelled 109 97 114 107 0 0) fun r14 =>
            some r14
        else
          if x0 = 5 then
            ob_ (X4_spelled 105 110 99 104 0 0) fun r17 =>
              some r17
          else
            if x0 = 6 then
              ob_ (X4_spelled 111 102 102 0 0 0) fun r20 =>
                some r20
            else
              if x0 = 7 then
                ob_ (X4_spelled 104 111 108 101 0 0) fun r23 =>
                  some r23
              else
                if x0 = 8 then
                  ob_ (X4_spelled 102 114 111 109 0 0) fun r26 =>
                    some r26
                else
                  if x0 = 9 then
                    ob_ (X4_spelled 103 111 0 0 0 0) fun r29 =>
                      some r29
                  else
                    if x0 = 10 then
                      ob_ (X4_spelled 115 116 97 121 0 0) fun r32 =>
                        some r32
                    else
                      if x0 = 11 then
                        ob_ (X4_spelled 98 101 104 105 110 100) fun r35 =>
                          some r35
                      else
                        if x0 = 12 then
                          ob_ (X4_spelled 104 105 109 0 0 0) fun r38 =>
                            some r38
                        else
                          if x0 = 13 then
                            ob_ (X4_spelled 104 101 114 0 0 0) fun r41 =>
                              some r41
                          else
                            if x0 = 14 then
                              ob_ (X4_spelled 108 97 103 0 0 0) fun r44 =>
                                some r44
                            else
                              if x0 = 15 then
                                ob_ (X4_spelled 119 114 105 115 116 0) fun r47 =>
                                  some r47
                              else
                                if x0 = 16 then
                                  ob_ (X4_spelled 101 121 101 0 0 0) fun r50 =>
                                    some r50
                                else
                                  if x0 = 17 then
                                    ob_ (X4_spelled 115 104 111 119 115 0) fun r53 =>
                                      some r53
                                  else
                                    if x0 = 18 then
                                      ob_ (X4_spelled 104 97 110 100 0 0) fun r56 =>
                                        some r56
                                    else
                                      if x0 = 19 then
                                        ob_ (X4_spelled 97 110 100 0 0 0) fun r59 =>
                                          some r59
                                      else
                                        if x0 = 20 then
                                          ob_ (X4_spelled 111 114 0 0 0 0) fun r62 =>
                                            some r62
                                        else
                                          ob_ (X4_spelled 110 111 116 0 0 0) fun r64 =>
                                            some r64
def X4_knownWord_b21 (σ : MS) (x1 : Int32) : Option ((Int32) ⊕ (((Int32) ⊕ (Unit)))) :=
  if 22 ≤ x1 then
  some (.inr (.inr ()))
else
  ob_ (X4_letters x1) fun r4 =>
    if (lg_cmp r4 (m_L σ)) = 0 then
    some (.inr (.inl x1))
  else
    some (.inl (x1 + 1))
/-- RingHandModel.knownWord()I -/
def X4_knownWord (σ : MS) : Option (Int32) :=
  if (m_I σ 21) = 1 then
  if (m_I σ 23) ≤ 6 then
    ob_ (lp_ (fun a => X4_knownWord_b21 σ a) fu_ 0) fun e7 =>
      Sum.elim (fun e7a => some e7a) (fun e7b => some (-1)) e7
  else
    some (-1)
else
  some (-1)
/-- RingHandModel.isGood()Z -/
def X4_isGood (σ : MS) : Option (Int32) :=
  if (m_I σ 16) = 0 then
  some 1
else
  some 0
/-- RingHandModel.wrong(I)V -/
def X4_wrong (x1 : Int32) (σ : MS) : Option (MS) :=
  if (m_I σ 16) = 0 then
  some (s_I (s_I σ 16 x1) 17 (m_I σ 22))
else
  some σ
def X4_numberHere_j54 (σ : MS) : Option (Int32 × MS) :=
  ob_ (X4_isGood σ) fun r9 =>
  some (zb_ r9, σ)
def X4_numberHere_j49 (σ : MS) : Option (Int32 × MS) :=
  ob_ (X4_wrong 2 σ) fun σ7 =>
  X4_numberHere_j54 σ7
/-- RingHandModel.numberHere(II)Z -/
def X4_numberHere (x1 : Int32) (x2 : Int32) (σ : MS) : Option (Int32 × MS) :=
  ob_ (X4_isGood σ) fun r2 =>
  if r2 = 0 then
  some (0, σ)
else
  if (m_I σ 21) = 2 then
    if 4 < (m_I σ 23) then
      X4_numberHere_j49 σ
    else
      if (m_I σ 24) < x1 then
        X4_numberHere_j49 σ
      else
        if (m_I σ 24) ≤ x2 then
          X4_numberHere_j54 σ
        else
          X4_numberHere_j49 σ
  else
    ob_ (X4_wrong 1 σ) fun σ13 =>
      X4_numberHere_j54 σ13
def X4_number_j17 (t0 : Int32) (σ : MS) : Option (Int32 × MS) :=
  ob_ (X4_isGood σ) fun r6 =>
  if r6 = 0 then
  some (t0, σ)
else
  ob_ (X4_goes σ) fun σ9 =>
    some (t0, σ9)
/-- RingHandModel.number(II)I -/
def X4_number (x1 : Int32) (x2 : Int32) (σ : MS) : Option (Int32 × MS) :=
  cb_ (X4_numberHere x1 x2 σ) fun r2 σ3 =>
  if r2 = 0 then
  X4_number_j17 0 σ3
else
  X4_number_j17 (m_I σ3 24) σ3
/-- RingHandModel.isSign(I)Z -/
def X4_isSign (x1 : Int32) (σ : MS) : Option (Int32) :=
  if (m_I σ 21) = 3 then
  if (m_I σ 25) = x1 then
    some 1
  else
    some 0
else
  some 0
/-- RingHandModel.need(Z)V -/
def X4_need (x1 : Int32) (σ : MS) : Option (MS) :=
  ob_ (X4_isGood σ) fun r2 =>
  if r2 = 0 then
  some σ
else
  if x1 = 0 then
    ob_ (X4_wrong 1 σ) fun σ6 =>
      some σ6
  else
    ob_ (X4_goes σ) fun σ8 =>
      some σ8
def X4_readsMove_j78 (x2 : Int32) (σ : MS) : Option (MS) :=
  ob_ (X4_isGood σ) fun r17 =>
  if r17 = 0 then
  some σ
else
  in_ (m_I σ 28) 12 <|
    in_ (m_I σ 28) 12 <|
    ob_ (X4_goes (s_I (s_I (s_A (s_A (s_I σ 35 x2) 43 ((m_I σ 28).toNatClampNeg) x2) 44 ((m_I σ 28).toNatClampNeg) (m_I σ 24)) 34 ((m_I σ 34) + (m_I σ 24))) 28 ((m_I σ 28) + 1))) fun σ22 =>
    some σ22
def X4_readsMove_j46 (t0 : Int32) (σ : MS) : Option (MS) :=
  cb_ (X4_numberHere 1 99 σ) fun r12 σ13 =>
  if r12 = 0 then
  some σ13
else
  if ((m_I σ13 34) + (m_I σ13 24)) ≤ 600 then
    X4_readsMove_j78 t0 σ13
  else
    ob_ (X4_wrong 2 σ13) fun σ24 =>
      X4_readsMove_j78 t0 σ24
def X4_readsMove_j14 (x1 : Int32) (σ : MS) : Option (MS) :=
  ob_ (X4_isGood σ) fun r3 =>
  if r3 = 0 then
  some σ
else
  ob_ (X4_goes σ) fun σ6 =>
    if x1 = 0 then
    cb_ (X4_number 12 480 σ6) fun r9 σ10 =>
      X4_readsMove_j46 r9 σ10
  else
    X4_readsMove_j46 (m_I σ6 35) σ6
/-- RingHandModel.readsMove(Z)V -/
def X4_readsMove (x1 : Int32) (σ : MS) : Option (MS) :=
  if (m_I σ 28) = 12 then
  ob_ (X4_wrong 2 σ) fun σ26 =>
    X4_readsMove_j14 x1 σ26
else
  X4_readsMove_j14 x1 σ
def X4_readsChange_j50 (x1 : Int32) (t0 : Int32) (σ : MS) : Option (MS) :=
  cb_ (X4_number t0 600 σ) fun r10 σ11 =>
  ob_ (X4_isGood σ11) fun r13 =>
  if r13 = 0 then
  some σ11
else
  in_ (m_I σ11 29) 6 <|
    in_ (m_I σ11 29) 6 <|
    some (s_I (s_A (s_A σ11 45 ((m_I σ11 29).toNatClampNeg) r10) 46 ((m_I σ11 29).toNatClampNeg) x1) 29 ((m_I σ11 29) + 1))
def X4_readsChange_j14 (x1 : Int32) (σ : MS) : Option (MS) :=
  ob_ (X4_isGood σ) fun r3 =>
  if r3 = 0 then
  some σ
else
  ob_ (X4_goes σ) fun σ6 =>
    if (m_I σ6 29) = 0 then
    X4_readsChange_j50 x1 1 σ6
  else
    in_ ((m_I σ6 29) - 1) 6 <|
      X4_readsChange_j50 x1 ((m_A σ6 45 (((m_I σ6 29) - 1).toNatClampNeg)) + 1) σ6
/-- RingHandModel.readsChange(I)V -/
def X4_readsChange (x1 : Int32) (σ : MS) : Option (MS) :=
  if (m_I σ 29) = 6 then
  ob_ (X4_wrong 2 σ) fun σ18 =>
    X4_readsChange_j14 x1 σ18
else
  X4_readsChange_j14 x1 σ
def X4_readsMark_j74 (x1 : Int32) (σ : MS) : Option ((Int32 × MS) ⊕ (MS)) :=
  some (.inl (x1 + 1, σ))
def X4_readsMark_b41 (x1 : Int32) (σ : MS) : Option ((Int32 × MS) ⊕ (MS)) :=
  if (m_I σ 30) ≤ x1 then
  some (.inr σ)
else
  ob_ (X4_isGood σ) fun r13 =>
    if r13 = 0 then
    some (.inr σ)
  else
    in_ x1 6 <|
      if (m_A σ 47 x1.toNatClampNeg) = (m_I σ 24) then
      ob_ (X4_wrong 4 σ) fun σ18 =>
        X4_readsMark_j74 x1 σ18
    else
      X4_readsMark_j74 x1 σ
def X4_readsMark_j14 (σ : MS) : Option (MS) :=
  ob_ (X4_isGood σ) fun r3 =>
  if r3 = 0 then
  some σ
else
  ob_ (X4_goes σ) fun σ6 =>
    cb_ (X4_numberHere 12 480 σ6) fun r8 σ9 =>
    if r8 = 0 then
    some σ9
  else
    ob_ (lp_ (fun a => X4_readsMark_b41 a.1 a.2) fu_ (0, σ9)) fun e19 =>
      ob_ (X4_isGood e19) fun r21 =>
      if r21 = 0 then
      some e19
    else
      in_ (m_I e19 30) 6 <|
        ob_ (X4_goes (s_I (s_A e19 47 ((m_I e19 30).toNatClampNeg) (m_I e19 24)) 30 ((m_I e19 30) + 1))) fun σ25 =>
        some σ25
/-- RingHandModel.readsMark()V -/
def X4_readsMark (σ : MS) : Option (MS) :=
  if (m_I σ 30) = 6 then
  ob_ (X4_wrong 2 σ) fun σ27 =>
    X4_readsMark_j14 σ27
else
  X4_readsMark_j14 σ
def X4_deeper_j61 (t1 : Int32) (σ : MS) : Option (MS) :=
  ob_ (X4_wrong t1 σ) fun σ4 =>
  some σ4
def X4_deeper_j56 (σ : MS) : Option (MS) :=
  X4_deeper_j61 2 σ
/-- RingHandModel.deeper()V -/
def X4_deeper (σ : MS) : Option (MS) :=
  if 6 ≤ (m_I σ 42) then
  if (m_I σ 21) = 2 then
    X4_deeper_j56 σ
  else
    if (m_I σ 21) = 1 then
      X4_deeper_j56 σ
    else
      ob_ (X4_isSign 40 σ) fun r7 =>
        if r7 = 0 then
        X4_deeper_j61 1 σ
      else
        X4_deeper_j56 σ
else
  in_ ((m_I σ 42) + 1) 9 <|
    some (s_A (s_I σ 42 ((m_I σ 42) + 1)) 52 (((m_I σ 42) + 1).toNatClampNeg) 0)
/-- RingHandModel.waitsFor(I)V -/
def X4_waitsFor (x1 : Int32) (σ : MS) : Option (MS) :=
  in_ (m_I σ 41) 950 <|
  some (s_I (s_A σ 51 ((m_I σ 41).toNatClampNeg) x1) 41 ((m_I σ 41) + 1))
/-- RingHandModel.puts(I)V -/
def X4_puts (x1 : Int32) (σ : MS) : Option (MS) :=
  in_ (m_I σ 40) 4200 <|
  some (s_I (s_A σ 50 ((m_I σ 40).toNatClampNeg) x1) 40 ((m_I σ 40) + 1))
def X4_part_j97 (σ : MS) : Option (MS) :=
  ob_ (X4_isGood σ) fun r9 =>
  if r9 = 0 then
  some σ
else
  ob_ (X4_goes σ) fun σ12 =>
    some σ12
def X4_part_j79 (x1 : Int32) (σ : MS) : Option (MS) :=
  ob_ (X4_puts 2 σ) fun σ19 =>
  ob_ (X4_puts x1 σ19) fun σ21 =>
  X4_part_j97 σ21
def X4_part_j74 (x1 : Int32) (σ : MS) : Option (MS) :=
  ob_ (X4_wrong 3 σ) fun σ17 =>
  X4_part_j79 x1 σ17
def X4_part_j29 (σ : MS) : Option (MS) :=
  ob_ (X4_puts 1 σ) fun σ25 =>
  ob_ (X4_puts (m_I σ25 24) σ25) fun σ27 =>
  X4_part_j97 σ27
/-- RingHandModel.part()V -/
def X4_part (σ : MS) : Option (MS) :=
  ob_ (X4_isGood σ) fun r2 =>
  if r2 = 0 then
  some σ
else
  if (m_I σ 21) = 2 then
    if (m_I σ 23) ≤ 4 then
      X4_part_j29 σ
    else
      ob_ (X4_wrong 2 σ) fun σ29 =>
        X4_part_j29 σ29
  else
    if (m_I σ 21) = 1 then
      ob_ (X4_knownWord σ) fun r14 =>
        if r14 < (m_I σ 38) then
        X4_part_j74 r14 σ
      else
        if r14 ≤ (m_I σ 39) then
          X4_part_j79 r14 σ
        else
          X4_part_j74 r14 σ
    else
      ob_ (X4_wrong 1 σ) fun σ7 =>
        X4_part_j97 σ7
def X4_operand_j50 (x2 : Int32) (x4 : Int32) (σ : MS) : Option ((Int32 × MS) ⊕ (MS)) :=
  ob_ (X4_isGood σ) fun r14 =>
  if r14 = 0 then
  some (.inl (x4 + 1, σ))
else
  ob_ (X4_waitsFor 3 σ) fun σ17 =>
    ob_ (X4_goes σ17) fun σ19 =>
    some (.inl (x4 + 1, σ19))
def X4_operand_b18 (x2 : Int32) (x4 : Int32) (σ : MS) : Option ((Int32 × MS) ⊕ (MS)) :=
  ob_ (X4_isGood σ) fun r6 =>
  if r6 = 0 then
  some (.inr σ)
else
  if x2 = 0 then
    some (.inr σ)
  else
    ob_ (X4_knownWord σ) fun r10 =>
      if r10 = 21 then
      if x4 = 6 then
        ob_ (X4_wrong 2 σ) fun σ21 =>
          X4_operand_j50 x2 x4 σ21
      else
        X4_operand_j50 x2 x4 σ
    else
      some (.inr σ)
def X4_operand_j117 (x2 : Int32) (x3 : Int32) (σ : MS) : Option ((Int32 × Int32 × MS) ⊕ (MS)) :=
  some (.inl (x2, x3, σ))
def X4_operand_j96 (x2 : Int32) (t0 : Int32) (σ : MS) : Option ((Int32 × Int32 × MS) ⊕ (MS)) :=
  if t0 = 0 then
  X4_operand_j117 x2 t0 σ
else
  ob_ (X4_waitsFor 14 σ) fun σ28 =>
    ob_ (X4_goes σ28) fun σ30 =>
    ob_ (X4_deeper σ30) fun σ32 =>
    X4_operand_j117 1 t0 σ32
def X4_operand_j95 (x2 : Int32) (σ : MS) : Option ((Int32 × Int32 × MS) ⊕ (MS)) :=
  X4_operand_j96 x2 0 σ
def X4_operand_b4 (x2 : Int32) (x3 : Int32) (σ : MS) : Option ((Int32 × Int32 × MS) ⊕ (MS)) :=
  if x3 = 0 then
  some (.inr σ)
else
  ob_ (X4_isGood σ) fun r3 =>
    if r3 = 0 then
    some (.inr σ)
  else
    ob_ (lp_ (fun a => X4_operand_b18 x2 a.1 a.2) fu_ (0, σ)) fun e22 =>
      ob_ (X4_isGood e22) fun r24 =>
      if r24 = 0 then
      X4_operand_j95 x2 e22
    else
      ob_ (X4_isSign 40 e22) fun r34 =>
        if r34 = 0 then
        X4_operand_j95 x2 e22
      else
        X4_operand_j96 x2 1 e22
/-- RingHandModel.operand(Z)V -/
def X4_operand (x1 : Int32) (σ : MS) : Option (MS) :=
  ob_ (lp_ (fun a => X4_operand_b4 a.1 a.2.1 a.2.2) fu_ (x1, 1, σ)) fun e36 =>
  ob_ (X4_part e36) fun σ38 =>
  some σ38
/-- RingHandModel.isOpen(I)Z -/
def X4_isOpen (x0 : Int32) : Option (Int32) :=
  if x0 < 14 then
  some 0
else
  some 1
def X4_strength_j39 : Option (Int32) :=
  some 4
def X4_strength_j55 : Option (Int32) :=
  some 5
/-- RingHandModel.strength(I)I -/
def X4_strength (x0 : Int32) : Option (Int32) :=
  if x0 = 5 then
  some 1
else
  if x0 = 4 then
    some 2
  else
    if x0 = 3 then
      some 3
    else
      if x0 = 6 then
        X4_strength_j39
      else
        if x0 = 7 then
          X4_strength_j39
        else
          if x0 = 8 then
            X4_strength_j55
          else
            if x0 = 9 then
              X4_strength_j55
            else
              some 6
def X4_drops_b0 (x1 : Int32) (σ : MS) : Option ((MS) ⊕ (MS)) :=
  if (m_I σ 41) ≤ 0 then
  some (.inr σ)
else
  in_ ((m_I σ 41) - 1) 950 <|
    ob_ (X4_isOpen (m_A σ 51 (((m_I σ 41) - 1).toNatClampNeg))) fun r3 =>
    if r3 = 0 then
    in_ ((m_I σ 41) - 1) 950 <|
      ob_ (X4_strength (m_A σ 51 (((m_I σ 41) - 1).toNatClampNeg))) fun r7 =>
      if r7 < x1 then
      some (.inr σ)
    else
      in_ ((m_I σ 41) - 1) 950 <|
        ob_ (X4_puts (m_A σ 51 (((m_I σ 41) - 1).toNatClampNeg)) (s_I σ 41 ((m_I σ 41) - 1))) fun σ12 =>
        some (.inl σ12)
  else
    some (.inr σ)
/-- RingHandModel.drops(I)V -/
def X4_drops (x1 : Int32) (σ : MS) : Option (MS) :=
  ob_ (lp_ (fun a => X4_drops_b0 x1 a) fu_ σ) fun e13 =>
  some e13
def X4_isOpened_b7 (σ : MS) (x1 : Int32) : Option ((Int32) ⊕ (Int32)) :=
  if x1 < 0 then
  some (.inr x1)
else
  in_ x1 950 <|
    ob_ (X4_isOpen (m_A σ 51 x1.toNatClampNeg)) fun r3 =>
    if r3 = 0 then
    some (.inl (x1 + (-1)))
  else
    some (.inr x1)
/-- RingHandModel.isOpened()Z -/
def X4_isOpened (σ : MS) : Option (Int32) :=
  ob_ (lp_ (fun a => X4_isOpened_b7 σ a) fu_ ((m_I σ 41) - 1)) fun e6 =>
  if e6 < 0 then
  some 0
else
  some 1
/-- RingHandModel.closes()V -/
def X4_closes (σ : MS) : Option (MS) :=
  ob_ (X4_drops 0 σ) fun σ2 =>
  ob_ (X4_goes (s_I (s_I σ2 41 ((m_I σ2 41) - 1)) 42 ((m_I σ2 42) - 1))) fun σ4 =>
  some σ4
def X4_expression_j337 (x3 : Int32) (σ : MS) : Option ((Int32 × MS) ⊕ (MS)) :=
  some (.inl (x3, σ))
def X4_expression_j99 (x3 : Int32) (t1 : Int32) (σ : MS) : Option ((Int32 × MS) ⊕ (MS)) :=
  ob_ (X4_waitsFor t1 σ) fun σ20 =>
  in_ (m_I σ20 42) 9 <|
  ob_ (X4_goes (s_A σ20 52 ((m_I σ20 42).toNatClampNeg) 0)) fun σ23 =>
  ob_ (X4_operand 1 σ23) fun σ25 =>
  X4_expression_j337 x3 σ25
def X4_expression_j83 (x3 : Int32) (x4 : Int32) (t1 : Int32) (σ : MS) : Option ((Int32 × MS) ⊕ (MS)) :=
  ob_ (X4_drops t1 σ) fun σ17 =>
  if x4 = 19 then
  X4_expression_j99 x3 4 σ17
else
  X4_expression_j99 x3 5 σ17
def X4_expression_j70 (x3 : Int32) (x4 : Int32) (σ : MS) : Option ((Int32 × MS) ⊕ (MS)) :=
  if x4 = 19 then
  X4_expression_j83 x3 x4 2 σ
else
  X4_expression_j83 x3 x4 1 σ
def X4_expression_j241 (x3 : Int32) (t1 : Int32) (σ : MS) : Option ((Int32 × MS) ⊕ (MS)) :=
  ob_ (X4_waitsFor t1 σ) fun σ41 =>
  ob_ (X4_goes σ41) fun σ43 =>
  ob_ (X4_operand 0 σ43) fun σ45 =>
  X4_expression_j337 x3 σ45
def X4_expression_j219 (x3 : Int32) (σ : MS) : Option ((Int32 × MS) ⊕ (MS)) :=
  ob_ (X4_drops 5 σ) fun σ36 =>
  ob_ (X4_isSign 43 σ36) fun r38 =>
  if r38 = 0 then
  X4_expression_j241 x3 9 σ36
else
  X4_expression_j241 x3 8 σ36
def X4_expression_j297 (x3 : Int32) (t1 : Int32) (σ : MS) : Option ((Int32 × MS) ⊕ (MS)) :=
  ob_ (X4_waitsFor t1 σ) fun σ58 =>
  ob_ (X4_goes σ58) fun σ60 =>
  ob_ (X4_operand 0 σ60) fun σ62 =>
  X4_expression_j337 x3 σ62
def X4_expression_j274 (x3 : Int32) (σ : MS) : Option ((Int32 × MS) ⊕ (MS)) :=
  ob_ (X4_drops 6 σ) fun σ53 =>
  ob_ (X4_isSign 42 σ53) fun r55 =>
  if r55 = 0 then
  X4_expression_j297 x3 11 σ53
else
  X4_expression_j297 x3 10 σ53
def X4_expression_j335 (σ : MS) : Option ((Int32 × MS) ⊕ (MS)) :=
  X4_expression_j337 0 σ
def X4_expression_j201 (x3 : Int32) (σ : MS) : Option ((Int32 × MS) ⊕ (MS)) :=
  ob_ (X4_isSign 43 σ) fun r33 =>
  if r33 = 0 then
  ob_ (X4_isSign 45 σ) fun r47 =>
    if r47 = 0 then
    ob_ (X4_isSign 42 σ) fun r50 =>
      if r50 = 0 then
      ob_ (X4_isSign 47 σ) fun r64 =>
        if r64 = 0 then
        ob_ (X4_isSign 41 σ) fun r67 =>
          if r67 = 0 then
          X4_expression_j335 σ
        else
          ob_ (X4_isOpened σ) fun r70 =>
            if r70 = 0 then
            X4_expression_j335 σ
          else
            ob_ (X4_closes σ) fun σ73 =>
              X4_expression_j337 x3 σ73
      else
        X4_expression_j274 x3 σ
    else
      X4_expression_j274 x3 σ
  else
    X4_expression_j219 x3 σ
else
  X4_expression_j219 x3 σ
def X4_expression_j176 (x3 : Int32) (t1 : Int32) (σ : MS) : Option ((Int32 × MS) ⊕ (MS)) :=
  ob_ (X4_waitsFor t1 σ) fun σ80 =>
  in_ (m_I σ80 42) 9 <|
  ob_ (X4_goes (s_A σ80 52 ((m_I σ80 42).toNatClampNeg) 1)) fun σ83 =>
  ob_ (X4_operand 0 σ83) fun σ85 =>
  X4_expression_j337 x3 σ85
def X4_expression_j142 (x3 : Int32) (σ : MS) : Option ((Int32 × MS) ⊕ (MS)) :=
  in_ (m_I σ 42) 9 <|
  if (m_A σ 52 ((m_I σ 42).toNatClampNeg)) = 0 then
  ob_ (X4_drops 4 σ) fun σ75 =>
    ob_ (X4_isSign 60 σ75) fun r77 =>
    if r77 = 0 then
    X4_expression_j176 x3 7 σ75
  else
    X4_expression_j176 x3 6 σ75
else
  X4_expression_j201 x3 σ
def X4_expression_b39 (x3 : Int32) (σ : MS) : Option ((Int32 × MS) ⊕ (MS)) :=
  if x3 = 0 then
  some (.inr σ)
else
  ob_ (X4_isGood σ) fun r10 =>
    if r10 = 0 then
    some (.inr σ)
  else
    ob_ (X4_knownWord σ) fun r13 =>
      if r13 = 19 then
      X4_expression_j70 x3 r13 σ
    else
      if r13 = 20 then
        X4_expression_j70 x3 r13 σ
      else
        ob_ (X4_isSign 60 σ) fun r28 =>
          if r28 = 0 then
          ob_ (X4_isSign 61 σ) fun r87 =>
            if r87 = 0 then
            X4_expression_j201 x3 σ
          else
            X4_expression_j142 x3 σ
        else
          X4_expression_j142 x3 σ
def X4_expression_j360 (σ : MS) : Option (MS) :=
  ob_ (X4_drops 0 σ) fun σ94 =>
  ob_ (X4_puts 0 σ94) fun σ96 =>
  some σ96
/-- RingHandModel.expression(II)V -/
def X4_expression (x1 : Int32) (x2 : Int32) (σ : MS) : Option (MS) :=
  ob_ (X4_isGood σ) fun r2 =>
  if r2 = 0 then
  some σ
else
  ob_ (X4_deeper (s_I (s_I (s_I (s_I σ 38 x1) 39 x2) 41 0) 42 0)) fun σ5 =>
    ob_ (X4_operand 1 σ5) fun σ7 =>
    ob_ (lp_ (fun a => X4_expression_b39 a.1 a.2) fu_ (1, σ7)) fun e89 =>
    ob_ (X4_isGood e89) fun r91 =>
    if r91 = 0 then
    X4_expression_j360 e89
  else
    if (m_I e89 42) ≤ 1 then
      X4_expression_j360 e89
    else
      ob_ (X4_wrong 1 e89) fun σ99 =>
        X4_expression_j360 σ99
def X4_once_j40 (σ : MS) : Option (Int32 × MS) :=
  ob_ (X4_isGood σ) fun r6 =>
  some (zb_ r6, σ)
def X4_once_j17 (x1 : Int32) (σ : MS) : Option (Int32 × MS) :=
  ob_ (X4_isGood (s_I σ 37 ((m_I σ 37) ||| (1 <<< (x1 &&& 31))))) fun r3 =>
  if r3 = 0 then
  X4_once_j40 (s_I σ 37 ((m_I σ 37) ||| (1 <<< (x1 &&& 31))))
else
  ob_ (X4_goes (s_I σ 37 ((m_I σ 37) ||| (1 <<< (x1 &&& 31))))) fun σ8 =>
    X4_once_j40 σ8
/-- RingHandModel.once(I)Z -/
def X4_once (x1 : Int32) (σ : MS) : Option (Int32 × MS) :=
  if (((m_I σ 37) >>> (x1 &&& 31)) &&& 1) = 1 then
  ob_ (X4_wrong 5 σ) fun σ10 =>
    X4_once_j17 x1 σ10
else
  X4_once_j17 x1 σ
def X4_readsRule_j108 (t1 : Int32) (t2 : Int32) (σ : MS) : Option (MS) :=
  ob_ (X4_expression t1 t2 σ) fun σ9 =>
  some σ9
def X4_readsRule_j95 (x1 : Int32) (σ : MS) : Option (MS) :=
  if x1 = 2 then
  X4_readsRule_j108 5 5 σ
else
  X4_readsRule_j108 5 7 σ
def X4_readsRule_j19 (σ : MS) : Option (MS) :=
  ob_ (X4_isGood σ) fun r12 =>
  if r12 = 0 then
  some σ
else
  ob_ (X4_goes σ) fun σ15 =>
    in_ (m_I σ15 31) 4 <|
    ob_ (X4_expression 0 4 (s_I (s_A σ15 49 ((m_I σ15 31).toNatClampNeg) (m_I σ15 40)) 31 ((m_I σ15 31) + 1))) fun σ18 =>
    some σ18
/-- RingHandModel.readsRule(I)V -/
def X4_readsRule (x1 : Int32) (σ : MS) : Option (MS) :=
  if x1 = 18 then
  if (m_I σ 31) = 4 then
    ob_ (X4_wrong 2 σ) fun σ20 =>
      X4_readsRule_j19 σ20
  else
    X4_readsRule_j19 σ
else
  cb_ (X4_once x1 σ) fun r3 σ4 =>
    if r3 = 0 then
    some σ4
  else
    if x1 = 2 then
      X4_readsRule_j95 x1 (s_I σ4 32 (m_I σ4 40))
    else
      X4_readsRule_j95 x1 (s_I σ4 33 (m_I σ4 40))
def X4_line_j286 (σ : MS) : Option (MS) :=
  ob_ (X4_isSign 59 σ) fun r8 =>
  ob_ (X4_need r8 σ) fun σ10 =>
  some σ10
def X4_line_j29 (t1 : Int32) (σ : MS) : Option (MS) :=
  ob_ (X4_readsMove t1 σ) fun σ6 =>
  X4_line_j286 σ6
def X4_line_j17 (x1 : Int32) (σ : MS) : Option (MS) :=
  if x1 = 10 then
  X4_line_j29 1 σ
else
  X4_line_j29 0 σ
def X4_line_j59 (t1 : Int32) (σ : MS) : Option (MS) :=
  ob_ (X4_readsChange t1 σ) fun σ15 =>
  X4_line_j286 σ15
def X4_line_j47 (x1 : Int32) (σ : MS) : Option (MS) :=
  if x1 = 12 then
  X4_line_j59 1 σ
else
  X4_line_j59 0 σ
def X4_line_j94 (x1 : Int32) (σ : MS) : Option (MS) :=
  ob_ (X4_readsRule x1 σ) fun σ20 =>
  X4_line_j286 σ20
def X4_line_j277 (t1 : Int32) (t2 : Int32) (σ : MS) : Option (MS) :=
  in_ t1 6 <|
  X4_line_j286 (s_A σ 48 t1.toNatClampNeg t2)
def X4_line_j253 (x2 : Int32) (σ : MS) : Option (MS) :=
  cb_ (X4_number 0 30 σ) fun r38 σ39 =>
  if x2 = 0 then
  X4_line_j277 3 r38 σ39
else
  X4_line_j277 3 (0 - r38) σ39
/-- RingHandModel.line()V -/
def X4_line (σ : MS) : Option (MS) :=
  ob_ (X4_knownWord σ) fun r2 =>
  if r2 = 9 then
  X4_line_j17 r2 σ
else
  if r2 = 10 then
    X4_line_j17 r2 σ
  else
    if r2 = 12 then
      X4_line_j47 r2 σ
    else
      if r2 = 13 then
        X4_line_j47 r2 σ
      else
        if r2 = 4 then
          ob_ (X4_readsMark σ) fun σ77 =>
            X4_line_j286 σ77
        else
          if r2 = 2 then
            X4_line_j94 r2 σ
          else
            if r2 = 17 then
              X4_line_j94 r2 σ
            else
              if r2 = 18 then
                X4_line_j94 r2 σ
              else
                if r2 = 11 then
                  cb_ (X4_once r2 σ) fun r69 σ70 =>
                    if r69 = 0 then
                    X4_line_j286 σ70
                  else
                    cb_ (X4_number 0 200 σ70) fun r73 σ74 =>
                      in_ 4 6 <|
                      X4_line_j286 (s_A σ74 48 ((4 : Int32).toNatClampNeg) r73)
                else
                  if r2 = 7 then
                    cb_ (X4_once r2 σ) fun r61 σ62 =>
                      if r61 = 0 then
                      X4_line_j286 σ62
                    else
                      cb_ (X4_number 1 60 σ62) fun r65 σ66 =>
                        in_ 0 6 <|
                        X4_line_j286 (s_A σ66 48 ((0 : Int32).toNatClampNeg) r65)
                  else
                    if r2 = 14 then
                      cb_ (X4_once r2 σ) fun r53 σ54 =>
                        if r53 = 0 then
                        X4_line_j286 σ54
                      else
                        cb_ (X4_number 0 24 σ54) fun r57 σ58 =>
                          in_ 1 6 <|
                          X4_line_j286 (s_A σ58 48 ((1 : Int32).toNatClampNeg) r57)
                    else
                      if r2 = 15 then
                        cb_ (X4_once r2 σ) fun r45 σ46 =>
                          if r45 = 0 then
                          X4_line_j286 σ46
                        else
                          cb_ (X4_number 1 90 σ46) fun r49 σ50 =>
                            in_ 2 6 <|
                            X4_line_j286 (s_A σ50 48 ((2 : Int32).toNatClampNeg) r49)
                      else
                        if r2 = 16 then
                          cb_ (X4_once r2 σ) fun r31 σ32 =>
                            if r31 = 0 then
                            some σ32
                          else
                            ob_ (X4_isSign 45 σ32) fun r35 =>
                              if r35 = 0 then
                              X4_line_j253 r35 σ32
                            else
                              ob_ (X4_goes σ32) fun σ43 =>
                                X4_line_j253 r35 σ43
                        else
                          ob_ (X4_wrong 1 σ) fun σ29 =>
                            X4_line_j286 σ29
def X4_copies_b2 (a1 : Nat) (a2 : Nat) (x3 : Int32) (σ : MS) : Option ((Int32 × MS) ⊕ (MS)) :=
  gd_ (m_ok a1) <|
  if (Int32.ofNat (m_len a1)) ≤ x3 then
  some (.inr σ)
else
  gd_ (m_ok a1) <| in_ x3 (m_len a1) <|
    gd_ (m_ok a2) <| in_ x3 (m_len a2) <|
    some (.inl (x3 + 1, s_A σ a2 x3.toNatClampNeg (m_A σ a1 x3.toNatClampNeg)))
/-- RingHandModel.copies([I[I)V -/
def X4_copies (a1 : Nat) (a2 : Nat) (σ : MS) : Option (MS) :=
  ob_ (lp_ (fun a => X4_copies_b2 a1 a2 a.1 a.2) fu_ (0, σ)) fun e7 =>
  some e7
def X4_scene_b115 (σ : MS) : Option ((MS) ⊕ (MS)) :=
  ob_ (X4_isGood σ) fun r14 =>
  if r14 = 0 then
  some (.inr σ)
else
  if (m_I σ 21) = 0 then
    some (.inr σ)
  else
    ob_ (X4_line σ) fun σ18 =>
      some (.inl σ18)
def X4_scene_b288 (x2 : Int32) (σ : MS) : Option ((Int32 × MS) ⊕ (MS)) :=
  if 5 ≤ x2 then
  some (.inr σ)
else
  in_ x2 6 <|
    in_ x2 12 <|
    some (.inl (x2 + 1, s_A σ 53 x2.toNatClampNeg (m_A σ 48 x2.toNatClampNeg)))
def X4_scene_b331 (x2 : Int32) (σ : MS) : Option ((Int32 × MS) ⊕ (MS)) :=
  if 6 ≤ x2 then
  some (.inr σ)
else
  in_ x2 6 <|
    in_ (6 + x2) 12 <|
    some (.inl (x2 + 1, s_A σ 53 ((6 + x2).toNatClampNeg) (m_A σ 47 x2.toNatClampNeg)))
def X4_scene_j328 (t1 : Int32) (t2 : Int32) (σ : MS) : Option (Int32 × MS) :=
  in_ t1 12 <|
  ob_ (lp_ (fun a => X4_scene_b331 a.1 a.2) fu_ (0, s_A σ 53 t1.toNatClampNeg t2)) fun e44 =>
  some (0, s_I (s_I (s_I (s_I (s_I e44 56 0) 74 0) 76 0) 68 (-1)) 78 0)
def X4_scene_j107 (σ : MS) : Option (Int32 × MS) :=
  ob_ (lp_ (fun a => X4_scene_b115 a) fu_ (s_I σ 35 (m_I σ 27))) fun e19 =>
  ob_ (X4_isGood e19) fun r21 =>
  if r21 = 0 then
  in_ 0 3 <|
    in_ 0 3 <|
    some (m_I e19 16, s_A e19 18 ((0 : Int32).toNatClampNeg) ((m_A e19 18 ((0 : Int32).toNatClampNeg)) + 1))
else
  ob_ (X4_copies 43 8 (s_I (s_I (s_I (s_I (s_I (s_I (s_I e19 1 (m_I e19 27)) 2 (m_I e19 28)) 3 (m_I e19 29)) 4 (m_I e19 30)) 5 (m_I e19 31)) 6 (m_I e19 32)) 7 (m_I e19 33))) fun σ24 =>
    ob_ (X4_copies 44 9 σ24) fun σ26 =>
    ob_ (X4_copies 45 10 σ26) fun σ28 =>
    ob_ (X4_copies 46 11 σ28) fun σ30 =>
    ob_ (X4_copies 49 12 σ30) fun σ32 =>
    ob_ (X4_copies 50 13 σ32) fun σ34 =>
    ob_ (lp_ (fun a => X4_scene_b288 a.1 a.2) fu_ (0, σ34)) fun e38 =>
    if (m_I e38 5) ≤ 0 then
    X4_scene_j328 5 (-1) e38
  else
    X4_scene_j328 5 0 e38
def X4_scene_j23 (x1 : Int32) (t1 : Int32) (σ : MS) : Option (Int32 × MS) :=
  cb_ (X4_right t1 1 σ) fun r3 σ4 =>
  if r3 = 0 then
  some (0, σ4)
else
  ob_ (X4_forgetsText (s_I (s_I (s_I (s_I (s_I σ4 15 0) 17 (-1)) 16 0) 19 x1) 20 0)) fun σ7 =>
    ob_ (X4_goes σ7) fun σ9 =>
    ob_ (X4_knownWord (s_I σ9 27 120)) fun r11 =>
    if r11 = 8 then
    ob_ (X4_goes (s_I σ9 27 120)) fun σ48 =>
      cb_ (X4_number 12 480 σ48) fun r50 σ51 =>
      ob_ (X4_isSign 59 (s_I σ51 27 r50)) fun r53 =>
      ob_ (X4_need r53 (s_I σ51 27 r50)) fun σ55 =>
      X4_scene_j107 σ55
  else
    X4_scene_j107 (s_I σ9 27 120)
def X4_scene_j22 (x1 : Int32) (σ : MS) : Option (Int32 × MS) :=
  X4_scene_j23 x1 0 σ
/-- RingHandModel.scene(I)I -/
def X4_scene (x1 : Int32) (σ : MS) : Option (Int32 × MS) :=
  if x1 < 0 then
  X4_scene_j22 x1 (s_I σ 0 0)
else
  if (m_I σ 15) < x1 then
    X4_scene_j22 x1 (s_I σ 0 0)
  else
    X4_scene_j23 x1 1 (s_I σ 0 0)
/-- RingHandModel.fault()I -/
def X4_fault (σ : MS) : Option (Int32 × MS) :=
  some (m_I σ 17, s_I σ 0 0)
/-- RingHandModel.undo()I -/
def X4_undo (σ : MS) : Option (Int32 × MS) :=
  if (m_I σ 56) = 0 then
  some ((-1), s_I σ 0 0)
else
  in_ (2 * ((m_I σ 56) - 1)) 80 <|
    in_ ((2 * ((m_I σ 56) - 1)) + 1) 80 <|
    in_ (m_A σ 55 ((2 * ((m_I σ 56) - 1)).toNatClampNeg)) 12 <|
    some ((m_I σ 56) - 1, s_A (s_I (s_I σ 0 0) 56 ((m_I σ 56) - 1)) 53 ((m_A σ 55 ((2 * ((m_I σ 56) - 1)).toNatClampNeg)).toNatClampNeg) (m_A σ 55 (((2 * ((m_I σ 56) - 1)) + 1).toNatClampNeg)))
/-- RingHandModel.within(III)Z -/
def X4_within (x0 : Int32) (x1 : Int32) (x2 : Int32) : Option (Int32) :=
  if x0 < x1 then
  some 0
else
  if x2 < x0 then
    some 0
  else
    some 1
def X4_last_b4 (σ : MS) (x1 : Int32) (x2 : Int32) : Option ((Int32 × Int32) ⊕ (Int32)) :=
  if (m_I σ 2) ≤ x2 then
  some (.inr x1)
else
  in_ x2 12 <|
    some (.inl (x1 + (m_A σ 9 x2.toNatClampNeg), x2 + 1))
/-- RingHandModel.last()I -/
def X4_last (σ : MS) : Option (Int32) :=
  ob_ (lp_ (fun a => X4_last_b4 σ a.1 a.2) fu_ (0, 0)) fun e3 =>
  some e3
/-- RingHandModel.count(I)I -/
def X4_count (x1 : Int32) (σ : MS) : Option (Int32 × MS) :=
  ob_ (X4_within x1 0 17) fun r1 =>
  cb_ (X4_right r1 1 (s_I σ 0 0)) fun r4 σ5 =>
  if r4 = 0 then
  some (0, σ5)
else
  if x1 = 0 then
    ob_ (X4_last σ5) fun r9 =>
      some (r9, σ5)
  else
    if x1 = 1 then
      some (m_I σ5 2, σ5)
    else
      if x1 = 2 then
        some (m_I σ5 3, σ5)
      else
        if x1 = 3 then
          some (m_I σ5 4, σ5)
        else
          if x1 = 4 then
            some (m_I σ5 5, σ5)
          else
            if x1 = 5 then
              in_ 5 12 <|
                some (m_A σ5 53 ((5 : Int32).toNatClampNeg), σ5)
            else
              if x1 = 6 then
                in_ 0 12 <|
                  some (m_A σ5 53 ((0 : Int32).toNatClampNeg), σ5)
              else
                if x1 = 7 then
                  in_ 1 12 <|
                    some (m_A σ5 53 ((1 : Int32).toNatClampNeg), σ5)
                else
                  if x1 = 8 then
                    in_ 2 12 <|
                      some (m_A σ5 53 ((2 : Int32).toNatClampNeg), σ5)
                  else
                    if x1 = 9 then
                      in_ 3 12 <|
                        some (m_A σ5 53 ((3 : Int32).toNatClampNeg), σ5)
                    else
                      if x1 = 10 then
                        in_ 4 12 <|
                          some (m_A σ5 53 ((4 : Int32).toNatClampNeg), σ5)
                      else
                        if x1 = 11 then
                          some (m_I σ5 56, σ5)
                        else
                          if x1 = 12 then
                            some (m_I σ5 74, σ5)
                          else
                            if x1 = 13 then
                              some (m_I σ5 76, σ5)
                            else
                              if x1 = 14 then
                                some (m_I σ5 15, σ5)
                              else
                                in_ (x1 - 15) 3 <|
                                  some (m_A σ5 18 ((x1 - 15).toNatClampNeg), σ5)
def X4_mark_j23 (x1 : Int32) (t1 : Int32) (σ : MS) : Option (Int32 × MS) :=
  cb_ (X4_right t1 1 σ) fun r3 σ4 =>
  if r3 = 0 then
  some (0, σ4)
else
  in_ (6 + x1) 12 <|
    some (m_A σ4 53 ((6 + x1).toNatClampNeg), σ4)
def X4_mark_j22 (x1 : Int32) (σ : MS) : Option (Int32 × MS) :=
  X4_mark_j23 x1 0 σ
/-- RingHandModel.mark(I)I -/
def X4_mark (x1 : Int32) (σ : MS) : Option (Int32 × MS) :=
  if x1 < 0 then
  X4_mark_j22 x1 (s_I σ 0 0)
else
  if (m_I σ 4) ≤ x1 then
    X4_mark_j22 x1 (s_I σ 0 0)
  else
    X4_mark_j23 x1 1 (s_I σ 0 0)
def X4_isTenth_j18 (t1 : Int32) (σ : MS) : Option (Int32 × MS) :=
  cb_ (X4_right t1 1 σ) fun r3 σ4 =>
  some (zb_ r3, σ4)
def X4_isTenth_j17 (σ : MS) : Option (Int32 × MS) :=
  X4_isTenth_j18 0 σ
/-- RingHandModel.isTenth(I)Z -/
def X4_isTenth (x1 : Int32) (σ : MS) : Option (Int32 × MS) :=
  if x1 < 0 then
  X4_isTenth_j17 σ
else
  ob_ (X4_last σ) fun r6 =>
    if r6 < x1 then
    X4_isTenth_j17 σ
  else
    X4_isTenth_j18 1 σ
/-- RingHandModel.isWhat(II)Z -/
def X4_isWhat (x1 : Int32) (x2 : Int32) (σ : MS) : Option (Int32 × MS) :=
  ob_ (X4_within x1 0 x2) fun r1 =>
  cb_ (X4_right r1 1 σ) fun r4 σ5 =>
  some (zb_ r4, σ5)
def X4_herIn_b10 (σ : MS) (x2 : Int32) (x3 : Int32) (x4 : Int32) : Option ((Int32 × Int32 × Int32) ⊕ (((Int32 × Int32 × Int32) ⊕ (Int32)))) :=
  if (m_I σ 2) ≤ x4 then
  some (.inr (.inr x2))
else
  in_ x4 12 <|
    if (m_A σ 9 x4.toNatClampNeg) < x3 then
    in_ x4 12 <|
      in_ x4 12 <|
      some (.inl (m_A σ 8 x4.toNatClampNeg, x3 - (m_A σ 9 x4.toNatClampNeg), x4 + 1))
  else
    some (.inr (.inl (x2, x3, x4)))
/-- RingHandModel.herIn(I)I -/
def X4_herIn (x1 : Int32) (σ : MS) : Option (Int32) :=
  ob_ (lp_ (fun a => X4_herIn_b10 σ a.1 a.2.1 a.2.2) fu_ (m_I σ 1, x1, 0)) fun e6 =>
  Sum.elim (fun e6a => in_ e6a.2.2 12 <|
  in_ e6a.2.2 12 <|
  dv_ (m_A σ 9 e6a.2.2.toNatClampNeg) <|
  some (e6a.1 + ((((m_A σ 8 e6a.2.2.toNatClampNeg) - e6a.1) * e6a.2.1) / (m_A σ 9 e6a.2.2.toNatClampNeg)))) (fun e6b => some e6b) e6
def X4_inchesOf_j19 (x2 : Int32) (t1 : Int32) (σ : MS) : Option (Int32) :=
  ob_ (X4_herIn t1 σ) fun r3 =>
  if x2 = 0 then
  some r3
else
  in_ 4 12 <|
    if (r3 + (m_A σ 53 ((4 : Int32).toNatClampNeg))) ≤ 480 then
    in_ 4 12 <|
      some (r3 + (m_A σ 53 ((4 : Int32).toNatClampNeg)))
  else
    some 480
/-- RingHandModel.inchesOf(II)I -/
def X4_inchesOf (x1 : Int32) (x2 : Int32) (σ : MS) : Option (Int32) :=
  if (m_I σ 59) ≤ x1 then
  X4_inchesOf_j19 x2 (x1 - (m_I σ 59)) σ
else
  X4_inchesOf_j19 x2 0 σ
/-- RingHandModel.inches(II)I -/
def X4_inches (x1 : Int32) (x2 : Int32) (σ : MS) : Option (Int32 × MS) :=
  cb_ (X4_isTenth x1 (s_I σ 0 0)) fun r2 σ3 =>
  if r2 = 0 then
  some (0, σ3)
else
  cb_ (X4_isWhat x2 1 σ3) fun r6 σ7 =>
    if r6 = 0 then
    some (0, σ7)
  else
    ob_ (X4_inchesOf x1 x2 σ7) fun r10 =>
      some (r10, σ7)
def X4_works_j66 : Option (Int32) :=
  some 1
/-- RingHandModel.works(III)I -/
def X4_works (x0 : Int32) (x1 : Int32) (x2 : Int32) : Option (Int32) :=
  if x0 = 4 then
  if x1 = 0 then
    some 0
  else
    if x2 = 0 then
      some 0
    else
      some 1
else
  if x0 = 5 then
    if x1 = 0 then
      if x2 = 0 then
        some 0
      else
        X4_works_j66
    else
      X4_works_j66
  else
    if x0 = 6 then
      if x2 ≤ x1 then
        some 0
      else
        some 1
    else
      if x0 = 7 then
        if x1 = x2 then
          some 1
        else
          some 0
      else
        if x0 = 8 then
          some (x1 + x2)
        else
          if x0 = 9 then
            some (x1 - x2)
          else
            if x0 = 10 then
              some (x1 * x2)
            else
              if x2 = 0 then
                some 0
              else
                dv_ x2 <|
                  some (x1 / x2)
def X4_reckons_j140 (x2 : Int32) (x3 : Int32) (σ : MS) : Option ((Int32 × Int32 × MS) ⊕ (MS)) :=
  some (.inl (x2, x3, σ))
def X4_reckons_j67 (x2 : Int32) (x3 : Int32) (t1 : Int32) (t2 : Int32) (σ : MS) : Option ((Int32 × Int32 × MS) ⊕ (MS)) :=
  in_ t1 950 <|
  X4_reckons_j140 (x2 + 1) (x3 + 1) (s_A σ 58 t1.toNatClampNeg t2)
def X4_reckons_j36 (x2 : Int32) (x3 : Int32) (x4 : Int32) (σ : MS) : Option ((Int32 × Int32 × MS) ⊕ (MS)) :=
  if x4 = 1 then
  in_ x3 4200 <|
    X4_reckons_j67 x2 x3 x2 (m_A σ 13 x3.toNatClampNeg) σ
else
  in_ x3 4200 <|
    in_ (m_A σ 13 x3.toNatClampNeg) 8 <|
    X4_reckons_j67 x2 x3 x2 (m_A σ 57 ((m_A σ 13 x3.toNatClampNeg).toNatClampNeg)) σ
def X4_reckons_j106 (x2 : Int32) (x3 : Int32) (t1 : Int32) (t2 : Int32) (σ : MS) : Option ((Int32 × Int32 × MS) ⊕ (MS)) :=
  in_ t1 950 <|
  X4_reckons_j140 x2 x3 (s_A σ 58 t1.toNatClampNeg t2)
def X4_reckons_b4 (x2 : Int32) (x3 : Int32) (σ : MS) : Option ((Int32 × Int32 × MS) ⊕ (MS)) :=
  in_ x3 4200 <|
  if (m_A σ 13 x3.toNatClampNeg) = 0 then
  some (.inr σ)
else
  in_ x3 4200 <|
    if (m_A σ 13 x3.toNatClampNeg) = 1 then
    X4_reckons_j36 x2 (x3 + 1) (m_A σ 13 x3.toNatClampNeg) σ
  else
    if (m_A σ 13 x3.toNatClampNeg) = 2 then
      X4_reckons_j36 x2 (x3 + 1) (m_A σ 13 x3.toNatClampNeg) σ
    else
      if (m_A σ 13 x3.toNatClampNeg) = 3 then
        in_ (x2 - 1) 950 <|
          if (m_A σ 58 ((x2 - 1).toNatClampNeg)) = 0 then
          X4_reckons_j106 x2 (x3 + 1) (x2 - 1) 1 σ
        else
          X4_reckons_j106 x2 (x3 + 1) (x2 - 1) 0 σ
      else
        in_ ((x2 + (-1)) - 1) 950 <|
          in_ (x2 + (-1)) 950 <|
          ob_ (X4_works (m_A σ 13 x3.toNatClampNeg) (m_A σ 58 (((x2 + (-1)) - 1).toNatClampNeg)) (m_A σ 58 ((x2 + (-1)).toNatClampNeg))) fun r14 =>
          in_ ((x2 + (-1)) - 1) 950 <|
          X4_reckons_j140 (x2 + (-1)) (x3 + 1) (s_A σ 58 (((x2 + (-1)) - 1).toNatClampNeg) r14)
/-- RingHandModel.reckons(I)I -/
def X4_reckons (x1 : Int32) (σ : MS) : Option (Int32 × MS) :=
  ob_ (lp_ (fun a => X4_reckons_b4 a.1 a.2.1 a.2.2) fu_ (0, x1, σ)) fun e20 =>
  in_ 0 950 <|
  some (m_A e20 58 ((0 : Int32).toNatClampNeg), e20)
/-- RingHandModel.bounded(III)I -/
def X4_bounded (x0 : Int32) (x1 : Int32) (x2 : Int32) : Option (Int32) :=
  if x1 ≤ x0 then
  if x0 ≤ x2 then
    some x0
  else
    some x2
else
  some x1
/-- RingHandModel.turnOf(I)I -/
def X4_turnOf (x1 : Int32) (σ : MS) : Option (Int32 × MS) :=
  if (m_I σ 6) = (-1) then
  dv_ x1 <|
    some (4320 / x1, σ)
else
  in_ 5 8 <|
    cb_ (X4_reckons (m_I σ 6) (s_A σ 57 ((5 : Int32).toNatClampNeg) x1)) fun r4 σ5 =>
    ob_ (X4_bounded r4 0 999) fun r6 =>
    some (r6, σ5)
/-- RingHandModel.turn(I)I -/
def X4_turn (x1 : Int32) (σ : MS) : Option (Int32 × MS) :=
  ob_ (X4_within x1 12 480) fun r1 =>
  cb_ (X4_right r1 1 (s_I σ 0 0)) fun r4 σ5 =>
  if r4 = 0 then
  some (0, σ5)
else
  cb_ (X4_turnOf x1 σ5) fun r8 σ9 =>
    some (r8, σ9)
def X4_whoseBy_j35 (x1 : Int32) (x2 : Int32) (x3 : Int32) (x4 : Int32) (σ : MS) : Option ((Int32 × Int32) ⊕ (Int32)) :=
  some (.inl (x3, x4 + 1))
def X4_whoseBy_b5 (x1 : Int32) (x2 : Int32) (σ : MS) (x3 : Int32) (x4 : Int32) : Option ((Int32 × Int32) ⊕ (Int32)) :=
  if (m_I σ 3) ≤ x4 then
  some (.inr x3)
else
  in_ x4 6 <|
    if x1 < ((m_A σ 10 x4.toNatClampNeg) + x2) then
    X4_whoseBy_j35 x1 x2 x3 x4 σ
  else
    in_ x4 6 <|
      X4_whoseBy_j35 x1 x2 (m_A σ 11 x4.toNatClampNeg) x4 σ
/-- RingHandModel.whoseBy(II)I -/
def X4_whoseBy (x1 : Int32) (x2 : Int32) (σ : MS) : Option (Int32) :=
  ob_ (lp_ (fun a => X4_whoseBy_b5 x1 x2 σ a.1 a.2) fu_ (0, 0)) fun e5 =>
  some e5
def X4_sawAt_j23 (x1 : Int32) (t1 : Int32) (σ : MS) : Option (Int32) :=
  ob_ (X4_whoseBy x1 (m_I σ 60) σ) fun r5 =>
  ob_ (X4_inchesOf t1 r5 σ) fun r7 =>
  some r7
/-- RingHandModel.sawAt(I)I -/
def X4_sawAt (x1 : Int32) (σ : MS) : Option (Int32) :=
  in_ 1 12 <|
  if (m_A σ 53 ((1 : Int32).toNatClampNeg)) ≤ x1 then
  in_ 1 12 <|
    X4_sawAt_j23 x1 (x1 - (m_A σ 53 ((1 : Int32).toNatClampNeg))) σ
else
  X4_sawAt_j23 x1 0 σ
/-- RingHandModel.off(II)I -/
def X4_off (x0 : Int32) (x1 : Int32) : Option (Int32) :=
  if x1 ≤ x0 then
  some (x0 - x1)
else
  some (x1 - x0)
def X4_isByMark_b2 (x1 : Int32) (σ : MS) (x2 : Int32) : Option ((Int32) ⊕ (((Unit) ⊕ (Unit)))) :=
  if (m_I σ 4) ≤ x2 then
  some (.inr (.inr ()))
else
  in_ (6 + x2) 12 <|
    ob_ (X4_off x1 (m_A σ 53 ((6 + x2).toNatClampNeg))) fun r3 =>
    if 6 < r3 then
    some (.inl (x2 + 1))
  else
    some (.inr (.inl ()))
/-- RingHandModel.isByMark(I)Z -/
def X4_isByMark (x1 : Int32) (σ : MS) : Option (Int32) :=
  ob_ (lp_ (fun a => X4_isByMark_b2 x1 σ a) fu_ 0) fun e6 =>
  Sum.elim (fun e6a => some 1) (fun e6b => some 0) e6
/-- RingHandModel.judged(I)I -/
def X4_judged (x1 : Int32) (σ : MS) : Option (Int32) :=
  ob_ (X4_isByMark x1 σ) fun r2 =>
  if r2 = 0 then
  in_ 3 12 <|
    dv_ 100 <|
    ob_ (X4_bounded (x1 + ((x1 * (m_A σ 53 ((3 : Int32).toNatClampNeg))) / 100)) 12 480) fun r6 =>
    some r6
else
  some x1
/-- RingHandModel.whoseIn(I)I -/
def X4_whoseIn (x1 : Int32) (σ : MS) : Option (Int32) :=
  ob_ (X4_whoseBy x1 0 σ) fun r2 =>
  some r2
def X4_shouldBe_j111 (t1 : Int32) (t2 : Int32) (σ : MS) : Option (Int32 × MS) :=
  in_ t1 8 <|
  in_ 5 12 <|
  in_ (m_A σ 53 ((5 : Int32).toNatClampNeg)) 4 <|
  cb_ (X4_reckons (m_A σ 12 ((m_A σ 53 ((5 : Int32).toNatClampNeg)).toNatClampNeg)) (s_A σ 57 t1.toNatClampNeg t2)) fun r23 σ24 =>
  ob_ (X4_bounded r23 0 999) fun r25 =>
  some (r25, σ24)
/-- RingHandModel.shouldBe(I)I -/
def X4_shouldBe (x1 : Int32) (σ : MS) : Option (Int32 × MS) :=
  in_ x1 601 <|
  in_ x1 601 <|
  in_ (x1 - 1) 601 <|
  ob_ (X4_bounded ((m_A σ 61 x1.toNatClampNeg) + ((m_I σ 64) * ((m_A σ 61 x1.toNatClampNeg) - (m_A σ 61 ((x1 - 1).toNatClampNeg))))) 0 999) fun r4 =>
  in_ 5 12 <|
  if (m_A σ 53 ((5 : Int32).toNatClampNeg)) = (-1) then
  some (r4, σ)
else
  in_ 0 8 <|
    in_ (x1 - 1) 601 <|
    in_ 1 8 <|
    in_ (x1 - 1) 601 <|
    in_ 2 8 <|
    in_ 3 8 <|
    ob_ (X4_sawAt x1 (s_A (s_A (s_A (s_A σ 57 ((0 : Int32).toNatClampNeg) r4) 57 ((1 : Int32).toNatClampNeg) (m_A σ 61 ((x1 - 1).toNatClampNeg))) 57 ((2 : Int32).toNatClampNeg) (m_A σ 62 ((x1 - 1).toNatClampNeg))) 57 ((3 : Int32).toNatClampNeg) x1)) fun r15 =>
    ob_ (X4_isByMark r15 (s_A (s_A (s_A (s_A σ 57 ((0 : Int32).toNatClampNeg) r4) 57 ((1 : Int32).toNatClampNeg) (m_A σ 61 ((x1 - 1).toNatClampNeg))) 57 ((2 : Int32).toNatClampNeg) (m_A σ 62 ((x1 - 1).toNatClampNeg))) 57 ((3 : Int32).toNatClampNeg) x1)) fun r17 =>
    if r17 = 0 then
    X4_shouldBe_j111 4 0 (s_A (s_A (s_A (s_A σ 57 ((0 : Int32).toNatClampNeg) r4) 57 ((1 : Int32).toNatClampNeg) (m_A σ 61 ((x1 - 1).toNatClampNeg))) 57 ((2 : Int32).toNatClampNeg) (m_A σ 62 ((x1 - 1).toNatClampNeg))) 57 ((3 : Int32).toNatClampNeg) x1)
  else
    X4_shouldBe_j111 4 1 (s_A (s_A (s_A (s_A σ 57 ((0 : Int32).toNatClampNeg) r4) 57 ((1 : Int32).toNatClampNeg) (m_A σ 61 ((x1 - 1).toNatClampNeg))) 57 ((2 : Int32).toNatClampNeg) (m_A σ 62 ((x1 - 1).toNatClampNeg))) 57 ((3 : Int32).toNatClampNeg) x1)
def X4_goesThrough_j110 (x1 : Int32) (x2 : Int32) (x3 : Int32) (σ : MS) : Option ((Int32 × MS) ⊕ (MS)) :=
  in_ x2 601 <|
  in_ x2 601 <|
  some (.inl (x2 + 1, s_A σ 63 x2.toNatClampNeg (x3 - (m_A σ 62 x2.toNatClampNeg))))
def X4_goesThrough_b7 (x1 : Int32) (x2 : Int32) (σ : MS) : Option ((Int32 × MS) ⊕ (MS)) :=
  if x1 < x2 then
  some (.inr σ)
else
  ob_ (X4_sawAt x2 σ) fun r5 =>
    ob_ (X4_judged r5 σ) fun r7 =>
    cb_ (X4_turnOf r7 σ) fun r9 σ10 =>
    in_ x2 601 <|
    ob_ (X4_whoseIn x2 (s_A σ10 61 x2.toNatClampNeg r9)) fun r13 =>
    ob_ (X4_inchesOf x2 r13 (s_A σ10 61 x2.toNatClampNeg r9)) fun r15 =>
    cb_ (X4_turnOf r15 (s_A σ10 61 x2.toNatClampNeg r9)) fun r17 σ18 =>
    if x2 = 0 then
    in_ 0 601 <|
      X4_goesThrough_j110 x1 x2 r17 (s_A σ18 62 ((0 : Int32).toNatClampNeg) r17)
  else
    cb_ (X4_shouldBe x2 σ18) fun r21 σ22 =>
      in_ 2 12 <|
      in_ (x2 - 1) 601 <|
      in_ (x2 - 1) 601 <|
      ob_ (X4_bounded (r21 - (m_A σ22 62 ((x2 - 1).toNatClampNeg))) (0 - (m_A σ22 53 ((2 : Int32).toNatClampNeg))) (m_A σ22 53 ((2 : Int32).toNatClampNeg))) fun r26 =>
      in_ x2 601 <|
      X4_goesThrough_j110 x1 x2 r17 (s_A σ22 62 x2.toNatClampNeg ((m_A σ22 62 ((x2 - 1).toNatClampNeg)) + r26))
/-- RingHandModel.goesThrough()V -/
def X4_goesThrough (σ : MS) : Option (MS) :=
  ob_ (X4_last σ) fun r2 =>
  ob_ (lp_ (fun a => X4_goesThrough_b7 r2 a.1 a.2) fu_ (0, σ)) fun e32 =>
  some e32
/-- RingHandModel.isSharp(I)Z -/
def X4_isSharp (x1 : Int32) (σ : MS) : Option (Int32) :=
  in_ x1 601 <|
  ob_ (X4_off (m_A σ 63 x1.toNatClampNeg) 0) fun r2 =>
  in_ 0 12 <|
  if (m_A σ 53 ((0 : Int32).toNatClampNeg)) < r2 then
  some 0
else
  some 1
/-- RingHandModel.isShown(I)Z -/
def X4_isShown (x1 : Int32) (σ : MS) : Option (Int32 × MS) :=
  ob_ (X4_isSharp x1 σ) fun r2 =>
  if r2 = 0 then
  if (m_I σ 7) = (-1) then
    some (1, σ)
  else
    in_ x1 601 <|
      ob_ (X4_off (m_A σ 63 x1.toNatClampNeg) 0) fun r6 =>
      in_ 6 8 <|
      in_ 0 12 <|
      in_ 7 8 <|
      ob_ (X4_whoseIn x1 (s_A (s_A σ 57 ((6 : Int32).toNatClampNeg) r6) 57 ((7 : Int32).toNatClampNeg) (m_A σ 53 ((0 : Int32).toNatClampNeg)))) fun r12 =>
      ob_ (X4_inchesOf x1 r12 (s_A (s_A σ 57 ((6 : Int32).toNatClampNeg) r6) 57 ((7 : Int32).toNatClampNeg) (m_A σ 53 ((0 : Int32).toNatClampNeg)))) fun r14 =>
      in_ 5 8 <|
      cb_ (X4_reckons (m_I σ 7) (s_A (s_A (s_A σ 57 ((6 : Int32).toNatClampNeg) r6) 57 ((7 : Int32).toNatClampNeg) (m_A σ 53 ((0 : Int32).toNatClampNeg))) 57 ((5 : Int32).toNatClampNeg) r14)) fun r17 σ18 =>
      if r17 ≤ 0 then
      some (0, σ18)
    else
      some (1, σ18)
else
  some (0, σ)
/-- RingHandModel.tenth(II)I -/
def X4_tenth (x1 : Int32) (x2 : Int32) (σ : MS) : Option (Int32 × MS) :=
  cb_ (X4_isTenth x1 (s_I σ 0 0)) fun r2 σ3 =>
  if r2 = 0 then
  some (0, σ3)
else
  cb_ (X4_isWhat x2 5 σ3) fun r6 σ7 =>
    if r6 = 0 then
    some (0, σ7)
  else
    ob_ (X4_goesThrough σ7) fun σ10 =>
      if x2 = 0 then
      ob_ (X4_whoseIn x1 σ10) fun r13 =>
        some (r13, σ10)
    else
      if x2 = 1 then
        in_ x1 601 <|
          some (m_A σ10 61 x1.toNatClampNeg, σ10)
      else
        if x2 = 2 then
          in_ x1 601 <|
            some (m_A σ10 62 x1.toNatClampNeg, σ10)
        else
          if x2 = 3 then
            in_ x1 601 <|
              some (m_A σ10 63 x1.toNatClampNeg, σ10)
          else
            if x2 = 4 then
              ob_ (X4_isSharp x1 σ10) fun r22 =>
                if r22 = 0 then
                some (0, σ10)
              else
                some (1, σ10)
            else
              cb_ (X4_isShown x1 σ10) fun r25 σ26 =>
                if r25 = 0 then
                some (0, σ26)
              else
                some (1, σ26)
def X4_sharpMany_j26 (x2 : Int32) (t0 : Int32) (t1 : Int32) (σ : MS) : Option ((Int32 × Int32) ⊕ (Int32)) :=
  some (.inl (t0 + t1, x2 + 1))
def X4_sharpMany_b4 (σ : MS) (x1 : Int32) (x2 : Int32) : Option ((Int32 × Int32) ⊕ (Int32)) :=
  ob_ (X4_last σ) fun r2 =>
  if r2 < x2 then
  some (.inr x1)
else
  ob_ (X4_isSharp x2 σ) fun r5 =>
    if r5 = 0 then
    X4_sharpMany_j26 x2 x1 0 σ
  else
    X4_sharpMany_j26 x2 x1 1 σ
/-- RingHandModel.sharpMany()I -/
def X4_sharpMany (σ : MS) : Option (Int32) :=
  ob_ (lp_ (fun a => X4_sharpMany_b4 σ a.1 a.2) fu_ (0, 0)) fun e7 =>
  some e7
def X4_mostOff_j40 (x2 : Int32) (t0 : Int32) (σ : MS) : Option ((Int32 × Int32) ⊕ (Int32)) :=
  some (.inl (t0, x2 + 1))
def X4_mostOff_b4 (σ : MS) (x1 : Int32) (x2 : Int32) : Option ((Int32 × Int32) ⊕ (Int32)) :=
  ob_ (X4_last σ) fun r2 =>
  if r2 < x2 then
  some (.inr x1)
else
  in_ x2 601 <|
    ob_ (X4_off (m_A σ 63 x2.toNatClampNeg) 0) fun r5 =>
    if r5 ≤ x1 then
    X4_mostOff_j40 x2 x1 σ
  else
    in_ x2 601 <|
      ob_ (X4_off (m_A σ 63 x2.toNatClampNeg) 0) fun r9 =>
      X4_mostOff_j40 x2 r9 σ
/-- RingHandModel.mostOff()I -/
def X4_mostOff (σ : MS) : Option (Int32) :=
  ob_ (lp_ (fun a => X4_mostOff_b4 σ a.1 a.2) fu_ (0, 0)) fun e11 =>
  some e11
def X4_longestSoft_j40 (x2 : Int32) (x3 : Int32) (t0 : Int32) (σ : MS) : Option ((Int32 × Int32 × Int32) ⊕ (Int32)) :=
  some (.inl (t0, x2, x3 + 1))
def X4_longestSoft_j29 (x1 : Int32) (x3 : Int32) (t0 : Int32) (σ : MS) : Option ((Int32 × Int32 × Int32) ⊕ (Int32)) :=
  if t0 ≤ x1 then
  X4_longestSoft_j40 t0 x3 x1 σ
else
  X4_longestSoft_j40 t0 x3 t0 σ
def X4_longestSoft_b6 (σ : MS) (x1 : Int32) (x2 : Int32) (x3 : Int32) : Option ((Int32 × Int32 × Int32) ⊕ (Int32)) :=
  ob_ (X4_last σ) fun r2 =>
  if r2 < x3 then
  some (.inr x1)
else
  ob_ (X4_isSharp x3 σ) fun r5 =>
    if r5 = 0 then
    X4_longestSoft_j29 x1 x3 (x2 + 1) σ
  else
    X4_longestSoft_j29 x1 x3 0 σ
/-- RingHandModel.longestSoft()I -/
def X4_longestSoft (σ : MS) : Option (Int32) :=
  ob_ (lp_ (fun a => X4_longestSoft_b6 σ a.1 a.2.1 a.2.2) fu_ (0, 0, 0)) fun e8 =>
  some e8
def X4_firstSoft_b2 (σ : MS) (x1 : Int32) : Option ((Int32) ⊕ (((Int32) ⊕ (Unit)))) :=
  ob_ (X4_last σ) fun r2 =>
  if r2 < x1 then
  some (.inr (.inr ()))
else
  ob_ (X4_isSharp x1 σ) fun r5 =>
    if r5 = 0 then
    some (.inr (.inl x1))
  else
    some (.inl (x1 + 1))
/-- RingHandModel.firstSoft()I -/
def X4_firstSoft (σ : MS) : Option (Int32) :=
  ob_ (lp_ (fun a => X4_firstSoft_b2 σ a) fu_ 0) fun e7 =>
  Sum.elim (fun e7a => some e7a) (fun e7b => some (-1)) e7
def X4_swings_j72 (x1 : Int32) (x2 : Int32) (x3 : Int32) (σ : MS) : Option ((Int32 × Int32 × Int32) ⊕ (Int32)) :=
  some (.inl (x1, x2, x3 + 1))
def X4_swings_j67 (x3 : Int32) (x4 : Int32) (t0 : Int32) (t1 : Int32) (σ : MS) : Option ((Int32 × Int32 × Int32) ⊕ (Int32)) :=
  X4_swings_j72 (t0 + t1) x4 x3 σ
def X4_swings_j66 (x3 : Int32) (x4 : Int32) (t0 : Int32) (σ : MS) : Option ((Int32 × Int32 × Int32) ⊕ (Int32)) :=
  X4_swings_j67 x3 x4 t0 0 σ
def X4_swings_j41 (x1 : Int32) (x2 : Int32) (x3 : Int32) (t0 : Int32) (σ : MS) : Option ((Int32 × Int32 × Int32) ⊕ (Int32)) :=
  if t0 = 0 then
  X4_swings_j72 x1 x2 x3 σ
else
  if x2 = 0 then
    X4_swings_j66 x3 t0 x1 σ
  else
    if t0 = x2 then
      X4_swings_j66 x3 t0 x1 σ
    else
      X4_swings_j67 x3 t0 x1 1 σ
def X4_swings_b6 (σ : MS) (x1 : Int32) (x2 : Int32) (x3 : Int32) : Option ((Int32 × Int32 × Int32) ⊕ (Int32)) :=
  ob_ (X4_last σ) fun r2 =>
  if r2 < x3 then
  some (.inr x1)
else
  in_ x3 601 <|
    if (m_A σ 63 x3.toNatClampNeg) ≤ 0 then
    in_ x3 601 <|
      if 0 ≤ (m_A σ 63 x3.toNatClampNeg) then
      X4_swings_j41 x1 x2 x3 0 σ
    else
      X4_swings_j41 x1 x2 x3 (-1) σ
  else
    X4_swings_j41 x1 x2 x3 1 σ
/-- RingHandModel.swings()I -/
def X4_swings (σ : MS) : Option (Int32) :=
  ob_ (lp_ (fun a => X4_swings_b6 σ a.1 a.2.1 a.2.2) fu_ (0, 0, 0)) fun e11 =>
  some e11
def X4_all_j134 (x1 : Int32) (x2 : Int32) (x3 : Int32) (σ : MS) : Option ((Int32 × Int32 × MS) ⊕ (Int32 × MS)) :=
  some (.inl (x2, x3 + 1, σ))
def X4_all_j132 (x1 : Int32) (x3 : Int32) (t0 : Int32) (t1 : Int32) (σ : MS) : Option ((Int32 × Int32 × MS) ⊕ (Int32 × MS)) :=
  X4_all_j134 x1 (t0 + t1) x3 σ
def X4_all_j101 (x1 : Int32) (x3 : Int32) (t0 : Int32) (t1 : Int32) (σ : MS) : Option ((Int32 × Int32 × MS) ⊕ (Int32 × MS)) :=
  X4_all_j134 x1 (t0 + t1) x3 σ
def X4_all_b74 (x1 : Int32) (x2 : Int32) (x3 : Int32) (σ : MS) : Option ((Int32 × Int32 × MS) ⊕ (Int32 × MS)) :=
  ob_ (X4_last σ) fun r13 =>
  if r13 < x3 then
  some (.inr (x2, σ))
else
  if x1 = 5 then
    cb_ (X4_isShown x3 σ) fun r22 σ23 =>
      if r22 = 0 then
      X4_all_j101 x1 x3 x2 0 σ23
    else
      X4_all_j101 x1 x3 x2 1 σ23
  else
    if x3 = 0 then
      X4_all_j132 x1 x3 x2 0 σ
    else
      in_ x3 601 <|
        in_ (x3 - 1) 601 <|
        ob_ (X4_off (m_A σ 62 x3.toNatClampNeg) (m_A σ 62 ((x3 - 1).toNatClampNeg))) fun r19 =>
        X4_all_j132 x1 x3 x2 r19 σ
/-- RingHandModel.all(I)I -/
def X4_all (x1 : Int32) (σ : MS) : Option (Int32 × MS) :=
  cb_ (X4_isWhat x1 6 (s_I σ 0 0)) fun r2 σ3 =>
  if r2 = 0 then
  some (0, σ3)
else
  ob_ (X4_goesThrough σ3) fun σ6 =>
    if x1 = 0 then
    ob_ (X4_sharpMany σ6) fun r35 =>
      some (r35, σ6)
  else
    if x1 = 1 then
      ob_ (X4_mostOff σ6) fun r33 =>
        some (r33, σ6)
    else
      if x1 = 2 then
        ob_ (X4_longestSoft σ6) fun r31 =>
          some (r31, σ6)
      else
        if x1 = 3 then
          ob_ (X4_firstSoft σ6) fun r29 =>
            some (r29, σ6)
        else
          if x1 = 4 then
            ob_ (X4_swings σ6) fun r27 =>
              some (r27, σ6)
          else
            ob_ (lp_ (fun a => X4_all_b74 x1 a.1 a.2.1 a.2.2) fu_ (0, 0, σ6)) fun e25 =>
              some (e25.1, e25.2)
def X4_becomes_j47 (x1 : Int32) (x2 : Int32) (σ : MS) : Option (Int32 × MS) :=
  in_ x1 12 <|
  in_ (2 * (m_I σ 56)) 80 <|
  in_ ((2 * (m_I σ 56)) + 1) 80 <|
  in_ x1 12 <|
  some (m_A σ 53 x1.toNatClampNeg, s_A (s_I (s_A (s_A σ 55 ((2 * (m_I σ 56)).toNatClampNeg) x1) 55 (((2 * (m_I σ 56)) + 1).toNatClampNeg) (m_A σ 53 x1.toNatClampNeg)) 56 ((m_I σ 56) + 1)) 53 x1.toNatClampNeg x2)
def X4_becomes_b11 (x1 : Int32) (x2 : Int32) (x3 : Int32) (σ : MS) : Option ((Int32 × MS) ⊕ (MS)) :=
  if 80 ≤ x3 then
  some (.inr σ)
else
  in_ x3 80 <|
    in_ (x3 - 2) 80 <|
    some (.inl (x3 + 1, s_A σ 55 ((x3 - 2).toNatClampNeg) (m_A σ 55 x3.toNatClampNeg)))
/-- RingHandModel.becomes(II)I -/
def X4_becomes (x1 : Int32) (x2 : Int32) (σ : MS) : Option (Int32 × MS) :=
  if (m_I σ 56) = 40 then
  ob_ (lp_ (fun a => X4_becomes_b11 x1 x2 a.1 a.2) fu_ (2, σ)) fun e9 =>
    X4_becomes_j47 x1 x2 (s_I e9 56 ((m_I e9 56) - 1))
else
  X4_becomes_j47 x1 x2 σ
/-- RingHandModel.refuses(II)I -/
def X4_refuses (x1 : Int32) (x2 : Int32) (σ : MS) : Option (Int32 × MS) :=
  in_ x1 3 <|
  in_ x1 3 <|
  some (x2, s_A σ 18 x1.toNatClampNeg ((m_A σ 18 x1.toNatClampNeg) + 1))
/-- RingHandModel.hole(I)I -/
def X4_hole (x1 : Int32) (σ : MS) : Option (Int32 × MS) :=
  ob_ (X4_within x1 1 60) fun r1 =>
  if r1 = 0 then
  cb_ (X4_refuses 1 (-1) (s_I σ 0 0)) fun r5 σ6 =>
    some (r5, σ6)
else
  cb_ (X4_becomes 0 x1 (s_I σ 0 0)) fun r8 σ9 =>
    some (r8, σ9)
/-- RingHandModel.lag(I)I -/
def X4_lag (x1 : Int32) (σ : MS) : Option (Int32 × MS) :=
  ob_ (X4_within x1 0 24) fun r1 =>
  if r1 = 0 then
  cb_ (X4_refuses 1 (-1) (s_I σ 0 0)) fun r5 σ6 =>
    some (r5, σ6)
else
  cb_ (X4_becomes 1 x1 (s_I σ 0 0)) fun r8 σ9 =>
    some (r8, σ9)
/-- RingHandModel.wrist(I)I -/
def X4_wrist (x1 : Int32) (σ : MS) : Option (Int32 × MS) :=
  ob_ (X4_within x1 1 90) fun r1 =>
  if r1 = 0 then
  cb_ (X4_refuses 1 (-1) (s_I σ 0 0)) fun r5 σ6 =>
    some (r5, σ6)
else
  cb_ (X4_becomes 2 x1 (s_I σ 0 0)) fun r8 σ9 =>
    some (r8, σ9)
/-- RingHandModel.eye(I)I -/
def X4_eye (x1 : Int32) (σ : MS) : Option (Int32 × MS) :=
  ob_ (X4_within x1 (-30) 30) fun r1 =>
  if r1 = 0 then
  cb_ (X4_refuses 1 (-99) (s_I σ 0 0)) fun r5 σ6 =>
    some (r5, σ6)
else
  cb_ (X4_becomes 3 x1 (s_I σ 0 0)) fun r8 σ9 =>
    some (r8, σ9)
def X4_hand_j18 (σ : MS) : Option (Int32 × MS) :=
  cb_ (X4_refuses 1 0 σ) fun r3 σ4 =>
  if r3 ≤ 0 then
  some (0, σ4)
else
  some (1, σ4)
/-- RingHandModel.hand(I)Z -/
def X4_hand (x1 : Int32) (σ : MS) : Option (Int32 × MS) :=
  if x1 < (-1) then
  X4_hand_j18 (s_I σ 0 0)
else
  if x1 < (m_I σ 5) then
    cb_ (X4_becomes 5 x1 (s_I σ 0 0)) fun r8 σ9 =>
      some (1, σ9)
  else
    X4_hand_j18 (s_I σ 0 0)
/-- RingHandModel.behind(I)I -/
def X4_behind (x1 : Int32) (σ : MS) : Option (Int32 × MS) :=
  ob_ (X4_within x1 0 200) fun r1 =>
  if r1 = 0 then
  cb_ (X4_refuses 1 (-1) (s_I σ 0 0)) fun r5 σ6 =>
    some (r5, σ6)
else
  cb_ (X4_becomes 4 x1 (s_I σ 0 0)) fun r8 σ9 =>
    some (r8, σ9)
def X4_chalk_j69 (x1 : Int32) (x2 : Int32) (x4 : Int32) (t0 : Int32) (σ : MS) : Option ((Int32 × Int32) ⊕ (Int32)) :=
  some (.inl (t0, x4 + 1))
def X4_chalk_j64 (x1 : Int32) (x2 : Int32) (x4 : Int32) (σ : MS) : Option ((Int32 × Int32) ⊕ (Int32)) :=
  X4_chalk_j69 x1 x2 x4 1 σ
def X4_chalk_b37 (x1 : Int32) (x2 : Int32) (σ : MS) (x3 : Int32) (x4 : Int32) : Option ((Int32 × Int32) ⊕ (Int32)) :=
  if (m_I σ 4) ≤ x4 then
  some (.inr x3)
else
  if x3 = 0 then
    in_ (6 + x4) 12 <|
      if (m_A σ 53 ((6 + x4).toNatClampNeg)) = x2 then
      X4_chalk_j64 x1 x2 x4 σ
    else
      X4_chalk_j69 x1 x2 x4 0 σ
  else
    X4_chalk_j64 x1 x2 x4 σ
def X4_chalk_j92 (σ : MS) : Option (Int32 × MS) :=
  cb_ (X4_refuses 1 (-1) σ) fun r13 σ14 =>
  some (r13, σ14)
def X4_chalk_j23 (x1 : Int32) (x2 : Int32) (t1 : Int32) (σ : MS) : Option (Int32 × MS) :=
  cb_ (X4_right t1 1 σ) fun r3 σ4 =>
  if r3 = 0 then
  some (0, σ4)
else
  ob_ (lp_ (fun a => X4_chalk_b37 x1 x2 σ4 a.1 a.2) fu_ (0, 0)) fun e10 =>
    if e10 = 0 then
    ob_ (X4_within x2 12 480) fun r15 =>
      if r15 = 0 then
      X4_chalk_j92 σ4
    else
      cb_ (X4_becomes (6 + x1) x2 σ4) fun r19 σ20 =>
        some (r19, σ20)
  else
    X4_chalk_j92 σ4
def X4_chalk_j22 (x1 : Int32) (x2 : Int32) (σ : MS) : Option (Int32 × MS) :=
  X4_chalk_j23 x1 x2 0 σ
/-- RingHandModel.chalk(II)I -/
def X4_chalk (x1 : Int32) (x2 : Int32) (σ : MS) : Option (Int32 × MS) :=
  if x1 < 0 then
  X4_chalk_j22 x1 x2 (s_I σ 0 0)
else
  if (m_I σ 4) ≤ x1 then
    X4_chalk_j22 x1 x2 (s_I σ 0 0)
  else
    X4_chalk_j23 x1 x2 1 (s_I σ 0 0)
/-- RingHandModel.takesSharp()I -/
def X4_takesSharp (σ : MS) : Option (Int32 × MS) :=
  ob_ (X4_goesThrough σ) fun σ2 =>
  ob_ (X4_sharpMany σ2) fun r4 =>
  some (r4, σ2)
def X4_best_j104 (x1 : Int32) (x2 : Int32) (x3 : Int32) (x4 : Int32) (x5 : Int32) (x6 : Int32) (x7 : Int32) (σ : MS) : Option ((Int32 × Int32 × Int32 × Int32 × Int32 × MS) ⊕ (Int32 × Int32 × Int32 × Int32 × MS)) :=
  some (.inl (x3, x4, x5, x6, x7 + 1, σ))
def X4_best_j94 (x1 : Int32) (x2 : Int32) (x3 : Int32) (x4 : Int32) (x7 : Int32) (σ : MS) : Option ((Int32 × Int32 × Int32 × Int32 × Int32 × MS) ⊕ (Int32 × Int32 × Int32 × Int32 × MS)) :=
  ob_ (X4_mostOff σ) fun r14 =>
  X4_best_j104 x1 x2 x3 x4 x7 r14 x7 σ
def X4_best_j79 (x1 : Int32) (x2 : Int32) (x3 : Int32) (x4 : Int32) (x5 : Int32) (x6 : Int32) (x7 : Int32) (σ : MS) : Option ((Int32 × Int32 × Int32 × Int32 × Int32 × MS) ⊕ (Int32 × Int32 × Int32 × Int32 × MS)) :=
  if x5 = (-1) then
  X4_best_j94 x1 x2 x3 x4 x7 σ
else
  ob_ (X4_mostOff σ) fun r16 =>
    if x6 ≤ r16 then
    X4_best_j104 x1 x2 x3 x4 x5 x6 x7 σ
  else
    X4_best_j94 x1 x2 x3 x4 x7 σ
def X4_best_j72 (x1 : Int32) (x2 : Int32) (x5 : Int32) (x6 : Int32) (x7 : Int32) (x8 : Int32) (σ : MS) : Option ((Int32 × Int32 × Int32 × Int32 × Int32 × MS) ⊕ (Int32 × Int32 × Int32 × Int32 × MS)) :=
  X4_best_j79 x1 x2 x7 x8 x5 x6 x7 σ
def X4_best_b37 (x1 : Int32) (x2 : Int32) (x3 : Int32) (x4 : Int32) (x5 : Int32) (x6 : Int32) (x7 : Int32) (σ : MS) : Option ((Int32 × Int32 × Int32 × Int32 × Int32 × MS) ⊕ (Int32 × Int32 × Int32 × Int32 × MS)) :=
  if (m_I σ 5) ≤ x7 then
  some (.inr (x3, x4, x5, x6, σ))
else
  in_ 5 12 <|
    cb_ (X4_takesSharp (s_A σ 53 ((5 : Int32).toNatClampNeg) x7)) fun r9 σ10 =>
    if x3 = (-1) then
    X4_best_j72 x1 x2 x5 x6 x7 r9 σ10
  else
    if r9 ≤ x4 then
      X4_best_j79 x1 x2 x3 x4 x5 x6 x7 σ10
    else
      X4_best_j72 x1 x2 x5 x6 x7 r9 σ10
/-- RingHandModel.best(I)I -/
def X4_best (x1 : Int32) (σ : MS) : Option (Int32 × MS) :=
  cb_ (X4_isWhat x1 3 (s_I σ 0 0)) fun r2 σ3 =>
  if r2 = 0 then
  some (0, σ3)
else
  in_ 5 12 <|
    ob_ (lp_ (fun a => X4_best_b37 x1 (m_A σ3 53 ((5 : Int32).toNatClampNeg)) a.1 a.2.1 a.2.2.1 a.2.2.2.1 a.2.2.2.2.1 a.2.2.2.2.2) fu_ ((-1), (-1), (-1), (-1), 0, σ3)) fun e19 =>
    in_ 5 12 <|
    if x1 = 0 then
    some (e19.1, s_A e19.2.2.2.2 53 ((5 : Int32).toNatClampNeg) (m_A σ3 53 ((5 : Int32).toNatClampNeg)))
  else
    if x1 = 1 then
      some (e19.2.1, s_A e19.2.2.2.2 53 ((5 : Int32).toNatClampNeg) (m_A σ3 53 ((5 : Int32).toNatClampNeg)))
    else
      if x1 = 2 then
        some (e19.2.2.1, s_A e19.2.2.2.2 53 ((5 : Int32).toNatClampNeg) (m_A σ3 53 ((5 : Int32).toNatClampNeg)))
      else
        some (e19.2.2.2.1, s_A e19.2.2.2.2 53 ((5 : Int32).toNatClampNeg) (m_A σ3 53 ((5 : Int32).toNatClampNeg)))
def X4_foretell_j80 (x1 : Int32) (x2 : Int32) (x3 : Int32) (x4 : Int32) (σ : MS) : Option ((Int32 × Int32 × Int32 × MS) ⊕ (Int32 × Int32 × MS)) :=
  some (.inl (x2, x3, x4 + 1, σ))
def X4_foretell_j54 (x1 : Int32) (x2 : Int32) (x3 : Int32) (x4 : Int32) (t1 : Int32) (σ : MS) : Option ((Int32 × Int32 × Int32 × MS) ⊕ (Int32 × Int32 × MS)) :=
  cb_ (X4_takesSharp (s_I σ 64 t1)) fun r10 σ11 =>
  if x3 < r10 then
  X4_foretell_j80 x1 (m_I σ11 64) r10 x4 σ11
else
  X4_foretell_j80 x1 x2 x3 x4 σ11
def X4_foretell_b23 (x1 : Int32) (x2 : Int32) (x3 : Int32) (x4 : Int32) (σ : MS) : Option ((Int32 × Int32 × Int32 × MS) ⊕ (Int32 × Int32 × MS)) :=
  if 48 < x4 then
  some (.inr (x2, x3, σ))
else
  dv_ 2 <|
    if (x4 - x4 / 2 * 2) = 1 then
    dv_ 2 <|
      X4_foretell_j54 x1 x2 x3 x4 (0 - ((x4 + 1) / 2)) σ
  else
    dv_ 2 <|
      X4_foretell_j54 x1 x2 x3 x4 (x4 / 2) σ
/-- RingHandModel.foretell(I)I -/
def X4_foretell (x1 : Int32) (σ : MS) : Option (Int32 × MS) :=
  cb_ (X4_isWhat x1 1 (s_I σ 0 0)) fun r2 σ3 =>
  if r2 = 0 then
  some (0, σ3)
else
  ob_ (lp_ (fun a => X4_foretell_b23 x1 a.1 a.2.1 a.2.2.1 a.2.2.2) fu_ (0, (-1), 0, σ3)) fun e14 =>
    if x1 = 0 then
    some (e14.1, s_I e14.2.2 64 0)
  else
    some (e14.2.1, s_I e14.2.2 64 0)
def X4_findsRun_j106 (x1 : Int32) (x2 : Int32) (σ : MS) : Option ((Int32 × MS) ⊕ (MS)) :=
  some (.inl (x2 + 1, σ))
def X4_findsRun_j102 (x1 : Int32) (x2 : Int32) (t1 : Int32) (t2 : Int32) (σ : MS) : Option ((Int32 × MS) ⊕ (MS)) :=
  X4_findsRun_j106 x1 x2 (s_I σ 67 (t1 + t2))
def X4_findsRun_j82 (x1 : Int32) (x2 : Int32) (σ : MS) : Option ((Int32 × MS) ⊕ (MS)) :=
  if ((m_I σ 65) - 1) = x1 then
  X4_findsRun_j102 x1 x2 (m_I σ 67) 1 σ
else
  X4_findsRun_j102 x1 x2 (m_I σ 67) 0 σ
def X4_findsRun_j79 (x1 : Int32) (x2 : Int32) (t1 : Int32) (σ : MS) : Option ((Int32 × MS) ⊕ (MS)) :=
  X4_findsRun_j82 x1 x2 (s_I σ 66 t1)
def X4_findsRun_j50 (x1 : Int32) (x2 : Int32) (σ : MS) : Option ((Int32 × MS) ⊕ (MS)) :=
  if (((m_I σ 65) + 1) - 1) = x1 then
  X4_findsRun_j79 x1 x2 x2 (s_I σ 65 ((m_I σ 65) + 1))
else
  X4_findsRun_j79 x1 x2 (m_I σ 66) (s_I σ 65 ((m_I σ 65) + 1))
def X4_findsRun_b17 (x1 : Int32) (x2 : Int32) (σ : MS) : Option ((Int32 × MS) ⊕ (MS)) :=
  ob_ (X4_last σ) fun r2 =>
  if r2 < x2 then
  some (.inr σ)
else
  ob_ (X4_isSharp x2 σ) fun r5 =>
    if r5 = 0 then
    if x2 = 0 then
      X4_findsRun_j50 x1 x2 σ
    else
      ob_ (X4_isSharp (x2 - 1) σ) fun r11 =>
        if r11 = 0 then
        X4_findsRun_j82 x1 x2 σ
      else
        X4_findsRun_j50 x1 x2 σ
  else
    X4_findsRun_j106 x1 x2 σ
/-- RingHandModel.findsRun(I)V -/
def X4_findsRun (x1 : Int32) (σ : MS) : Option (MS) :=
  ob_ (lp_ (fun a => X4_findsRun_b17 x1 a.1 a.2) fu_ (0, s_I (s_I (s_I σ 65 0) 66 (-1)) 67 0)) fun e13 =>
  some e13
def X4_runs_j44 (x1 : Int32) (x2 : Int32) (t1 : Int32) (σ : MS) : Option (Int32 × MS) :=
  cb_ (X4_right t1 1 σ) fun r11 σ12 =>
  if r11 = 0 then
  some (0, σ12)
else
  if x1 = (-1) then
    some (m_I σ12 65, σ12)
  else
    if x2 = 0 then
      some (m_I σ12 66, σ12)
    else
      some (m_I σ12 67, σ12)
def X4_runs_j43 (x1 : Int32) (x2 : Int32) (σ : MS) : Option (Int32 × MS) :=
  X4_runs_j44 x1 x2 0 σ
/-- RingHandModel.runs(II)I -/
def X4_runs (x1 : Int32) (x2 : Int32) (σ : MS) : Option (Int32 × MS) :=
  cb_ (X4_isWhat x2 1 (s_I σ 0 0)) fun r2 σ3 =>
  if r2 = 0 then
  some (0, σ3)
else
  ob_ (X4_goesThrough σ3) fun σ6 =>
    ob_ (X4_findsRun x1 σ6) fun σ8 =>
    if x1 < (-1) then
    X4_runs_j43 x1 x2 σ8
  else
    if (m_I σ8 65) ≤ x1 then
      X4_runs_j43 x1 x2 σ8
    else
      X4_runs_j44 x1 x2 1 σ8
/-- RingHandModel.sharpWith(II)I -/
def X4_sharpWith (x1 : Int32) (x2 : Int32) (σ : MS) : Option (Int32 × MS) :=
  in_ x1 12 <|
  in_ x1 12 <|
  cb_ (X4_takesSharp (s_A σ 53 x1.toNatClampNeg x2)) fun r4 σ5 =>
  in_ x1 12 <|
  some (r4, s_A σ5 53 x1.toNatClampNeg (m_A σ 53 x1.toNatClampNeg))
def X4_cure_j68 (x1 : Int32) (x2 : Int32) (x3 : Int32) (σ : MS) : Option ((Int32 × Int32 × Int32 × MS) ⊕ (Int32 × MS)) :=
  some (.inl (x1, x2, x3 + 1, σ))
def X4_cure_j49 (x1 : Int32) (x2 : Int32) (x3 : Int32) (t1 : Int32) (t2 : Int32) (σ : MS) : Option ((Int32 × Int32 × Int32 × MS) ⊕ (Int32 × MS)) :=
  cb_ (X4_sharpWith t1 t2 σ) fun r9 σ10 =>
  if x2 < r9 then
  X4_cure_j68 x3 r9 x3 σ10
else
  X4_cure_j68 x1 x2 x3 σ10
def X4_cure_j38 (x1 : Int32) (x2 : Int32) (x3 : Int32) (t1 : Int32) (σ : MS) : Option ((Int32 × Int32 × Int32 × MS) ⊕ (Int32 × MS)) :=
  if x3 = 2 then
  X4_cure_j49 x1 x2 x3 t1 90 σ
else
  X4_cure_j49 x1 x2 x3 t1 0 σ
def X4_cure_b14 (x1 : Int32) (x2 : Int32) (x3 : Int32) (σ : MS) : Option ((Int32 × Int32 × Int32 × MS) ⊕ (Int32 × MS)) :=
  if 3 ≤ x3 then
  some (.inr (x1, σ))
else
  if x3 = 0 then
    X4_cure_j38 x1 x2 x3 3 σ
  else
    if x3 = 1 then
      X4_cure_j38 x1 x2 x3 1 σ
    else
      X4_cure_j38 x1 x2 x3 2 σ
/-- RingHandModel.cure()I -/
def X4_cure (σ : MS) : Option (Int32 × MS) :=
  cb_ (X4_takesSharp (s_I σ 0 0)) fun r2 σ3 =>
  ob_ (lp_ (fun a => X4_cure_b14 a.1 a.2.1 a.2.2.1 a.2.2.2) fu_ ((-1), r2, 0, σ3)) fun e12 =>
  some (e12.1, e12.2)
def X4_wrists_j39 (x1 : Int32) (x2 : Int32) (x3 : Int32) (σ : MS) : Option ((Int32 × Int32 × Int32 × MS) ⊕ (Int32 × MS)) :=
  some (.inl (x1, x2, x3 + 1, σ))
def X4_wrists_b11 (x1 : Int32) (x2 : Int32) (x3 : Int32) (σ : MS) : Option ((Int32 × Int32 × Int32 × MS) ⊕ (Int32 × MS)) :=
  if 90 < x3 then
  some (.inr (x1, σ))
else
  cb_ (X4_sharpWith 2 x3 σ) fun r3 σ4 =>
    if x2 < r3 then
    X4_wrists_j39 x3 r3 x3 σ4
  else
    X4_wrists_j39 x1 x2 x3 σ4
/-- RingHandModel.wrists()I -/
def X4_wrists (σ : MS) : Option (Int32 × MS) :=
  ob_ (lp_ (fun a => X4_wrists_b11 a.1 a.2.1 a.2.2.1 a.2.2.2) fu_ (0, (-1), 1, s_I σ 0 0)) fun e6 =>
  some (e6.1, e6.2)
def X4_learn_j66 (x1 : Int32) (x2 : Int32) (x3 : Int32) (x4 : Int32) (σ : MS) : Option ((Int32 × Int32 × Int32 × MS) ⊕ (Int32 × MS)) :=
  some (.inl (x2, x3, x4 + 1, σ))
def X4_learn_j46 (x1 : Int32) (x2 : Int32) (x3 : Int32) (x4 : Int32) (t1 : Int32) (t2 : Int32) (σ : MS) : Option ((Int32 × Int32 × Int32 × MS) ⊕ (Int32 × MS)) :=
  cb_ (X4_sharpWith t1 t2 σ) fun r7 σ8 =>
  if x3 < r7 then
  X4_learn_j66 x1 x4 r7 x4 σ8
else
  X4_learn_j66 x1 x2 x3 x4 σ8
def X4_learn_b19 (x1 : Int32) (x2 : Int32) (x3 : Int32) (x4 : Int32) (σ : MS) : Option ((Int32 × Int32 × Int32 × MS) ⊕ (Int32 × MS)) :=
  ob_ (X4_off x1 0) fun r2 =>
  if r2 < x4 then
  some (.inr (x2, σ))
else
  if x1 ≤ 0 then
    X4_learn_j46 x1 x2 x3 x4 3 (x1 + x4) σ
  else
    X4_learn_j46 x1 x2 x3 x4 3 (x1 - x4) σ
/-- RingHandModel.learn()I -/
def X4_learn (σ : MS) : Option (Int32 × MS) :=
  in_ 3 12 <|
  ob_ (lp_ (fun a => X4_learn_b19 (m_A σ 53 ((3 : Int32).toNatClampNeg)) a.1 a.2.1 a.2.2.1 a.2.2.2) fu_ (0, (-1), 0, s_I σ 0 0)) fun e10 =>
  some (e10.1, e10.2)
def X4_shift_j80 (x1 : Int32) (x2 : Int32) (x3 : Int32) (x4 : Int32) (σ : MS) : Option ((Int32 × Int32 × Int32 × MS) ⊕ (Int32 × Int32 × MS)) :=
  some (.inl (x2, x3, x4 + 1, σ))
def X4_shift_j54 (x1 : Int32) (x2 : Int32) (x3 : Int32) (x4 : Int32) (t1 : Int32) (σ : MS) : Option ((Int32 × Int32 × Int32 × MS) ⊕ (Int32 × Int32 × MS)) :=
  cb_ (X4_takesSharp (s_I σ 60 t1)) fun r10 σ11 =>
  if x3 < r10 then
  X4_shift_j80 x1 (m_I σ11 60) r10 x4 σ11
else
  X4_shift_j80 x1 x2 x3 x4 σ11
def X4_shift_b23 (x1 : Int32) (x2 : Int32) (x3 : Int32) (x4 : Int32) (σ : MS) : Option ((Int32 × Int32 × Int32 × MS) ⊕ (Int32 × Int32 × MS)) :=
  if 48 < x4 then
  some (.inr (x2, x3, σ))
else
  dv_ 2 <|
    if (x4 - x4 / 2 * 2) = 1 then
    dv_ 2 <|
      X4_shift_j54 x1 x2 x3 x4 (0 - ((x4 + 1) / 2)) σ
  else
    dv_ 2 <|
      X4_shift_j54 x1 x2 x3 x4 (x4 / 2) σ
/-- RingHandModel.shift(I)I -/
def X4_shift (x1 : Int32) (σ : MS) : Option (Int32 × MS) :=
  cb_ (X4_isWhat x1 1 (s_I σ 0 0)) fun r2 σ3 =>
  if r2 = 0 then
  some (0, σ3)
else
  ob_ (lp_ (fun a => X4_shift_b23 x1 a.1 a.2.1 a.2.2.1 a.2.2.2) fu_ (0, (-1), 0, σ3)) fun e14 =>
    if x1 = 0 then
    some (e14.1, s_I e14.2.2 60 0)
  else
    some (e14.2.1, s_I e14.2.2 60 0)
def X4_slip_j62 (x1 : Int32) (x2 : Int32) (x3 : Int32) (σ : MS) : Option ((Int32 × Int32 × MS) ⊕ (Int32 × Int32 × MS)) :=
  some (.inl (x2, x3, s_I σ 59 ((m_I σ 59) + 1)))
def X4_slip_j54 (x1 : Int32) (x4 : Int32) (σ : MS) : Option ((Int32 × Int32 × MS) ⊕ (Int32 × Int32 × MS)) :=
  X4_slip_j62 x1 (m_I σ 59) x4 σ
def X4_slip_b25 (x1 : Int32) (x2 : Int32) (x3 : Int32) (σ : MS) : Option ((Int32 × Int32 × MS) ⊕ (Int32 × Int32 × MS)) :=
  if 30 < (m_I σ 59) then
  some (.inr (x2, x3, σ))
else
  cb_ (X4_takesSharp σ) fun r7 σ8 =>
    if x2 = (-1) then
    X4_slip_j54 x1 r7 σ8
  else
    if r7 < x3 then
      X4_slip_j54 x1 r7 σ8
    else
      X4_slip_j62 x1 x2 x3 σ8
/-- RingHandModel.slip(I)I -/
def X4_slip (x1 : Int32) (σ : MS) : Option (Int32 × MS) :=
  cb_ (X4_isWhat x1 1 (s_I σ 0 0)) fun r2 σ3 =>
  if r2 = 0 then
  some (0, σ3)
else
  ob_ (lp_ (fun a => X4_slip_b25 x1 a.1 a.2.1 a.2.2) fu_ ((-1), 0, s_I σ3 59 0)) fun e11 =>
    if x1 = 0 then
    some (e11.1, s_I e11.2.2 59 0)
  else
    some (e11.2.1, s_I e11.2.2 59 0)
def X4_isAsSeen_j41 (x1 : Int32) (t0 : Int32) (t1 : Int32) (σ : MS) : Option ((Int32) ⊕ (((Unit) ⊕ (Unit)))) :=
  if t0 = t1 then
  some (.inl (x1 + 1))
else
  some (.inr (.inl ()))
def X4_isAsSeen_b2 (σ : MS) (x1 : Int32) : Option ((Int32) ⊕ (((Unit) ⊕ (Unit)))) :=
  if (m_I σ 74) ≤ x1 then
  some (.inr (.inr ()))
else
  in_ (2 * x1) 16 <|
    ob_ (X4_isSharp (m_A σ 75 ((2 * x1).toNatClampNeg)) σ) fun r4 =>
    in_ ((2 * x1) + 1) 16 <|
    if (m_A σ 75 (((2 * x1) + 1).toNatClampNeg)) = 1 then
    X4_isAsSeen_j41 x1 r4 1 σ
  else
    X4_isAsSeen_j41 x1 r4 0 σ
/-- RingHandModel.isAsSeen()Z -/
def X4_isAsSeen (σ : MS) : Option (Int32) :=
  ob_ (lp_ (fun a => X4_isAsSeen_b2 σ a) fu_ 0) fun e8 =>
  Sum.elim (fun e8a => some 0) (fun e8b => some 1) e8
def X4_lags_j76 (x1 : Int32) (x2 : Int32) (x3 : Int32) (x4 : Int32) (x5 : Int32) (σ : MS) : Option ((Int32 × Int32 × Int32 × MS) ⊕ (Int32 × Int32 × MS)) :=
  some (.inl (x3, x4, x5 + 1, σ))
def X4_lags_j71 (x1 : Int32) (x2 : Int32) (x5 : Int32) (t0 : Int32) (σ : MS) : Option ((Int32 × Int32 × Int32 × MS) ⊕ (Int32 × Int32 × MS)) :=
  X4_lags_j76 x1 x2 t0 x5 x5 σ
def X4_lags_b31 (x1 : Int32) (x2 : Int32) (x3 : Int32) (x4 : Int32) (x5 : Int32) (σ : MS) : Option ((Int32 × Int32 × Int32 × MS) ⊕ (Int32 × Int32 × MS)) :=
  if 24 < x5 then
  some (.inr (x3, x4, σ))
else
  in_ 1 12 <|
    ob_ (X4_goesThrough (s_A σ 53 ((1 : Int32).toNatClampNeg) x5)) fun σ9 =>
    ob_ (X4_isAsSeen σ9) fun r11 =>
    if r11 = 0 then
    X4_lags_j76 x1 x2 x3 x4 x5 σ9
  else
    if x3 = (-1) then
      X4_lags_j71 x1 x2 x5 x5 σ9
    else
      X4_lags_j71 x1 x2 x5 x3 σ9
/-- RingHandModel.lags(I)I -/
def X4_lags (x1 : Int32) (σ : MS) : Option (Int32 × MS) :=
  cb_ (X4_isWhat x1 1 (s_I σ 0 0)) fun r2 σ3 =>
  if r2 = 0 then
  some (0, σ3)
else
  in_ 1 12 <|
    ob_ (lp_ (fun a => X4_lags_b31 x1 (m_A σ3 53 ((1 : Int32).toNatClampNeg)) a.1 a.2.1 a.2.2.1 a.2.2.2) fu_ ((-1), (-1), 0, σ3)) fun e14 =>
    in_ 1 12 <|
    if x1 = 0 then
    some (e14.1, s_A e14.2.2 53 ((1 : Int32).toNatClampNeg) (m_A σ3 53 ((1 : Int32).toNatClampNeg)))
  else
    some (e14.2.1, s_A e14.2.2 53 ((1 : Int32).toNatClampNeg) (m_A σ3 53 ((1 : Int32).toNatClampNeg)))
def X4_depth_j87 (x1 : Int32) (x2 : Int32) (x3 : Int32) (x4 : Int32) (x5 : Int32) (σ : MS) : Option ((Int32 × Int32 × Int32 × MS) ⊕ (Int32 × Int32 × MS)) :=
  some (.inl (x3, x4, x5 + 1, σ))
def X4_depth_j82 (x1 : Int32) (x2 : Int32) (x5 : Int32) (t0 : Int32) (σ : MS) : Option ((Int32 × Int32 × Int32 × MS) ⊕ (Int32 × Int32 × MS)) :=
  X4_depth_j87 x1 x2 t0 x5 x5 σ
def X4_depth_b41 (x1 : Int32) (x2 : Int32) (x3 : Int32) (x4 : Int32) (x5 : Int32) (σ : MS) : Option ((Int32 × Int32 × Int32 × MS) ⊕ (Int32 × Int32 × MS)) :=
  if 480 < x5 then
  some (.inr (x3, x4, σ))
else
  cb_ (X4_turnOf x5 σ) fun r13 σ14 =>
    ob_ (X4_off r13 x1) fun r15 =>
    in_ 0 12 <|
    if r15 ≤ (m_A σ14 53 ((0 : Int32).toNatClampNeg)) then
    if x3 = (-1) then
      X4_depth_j82 x1 x2 x5 x5 σ14
    else
      X4_depth_j82 x1 x2 x5 x3 σ14
  else
    X4_depth_j87 x1 x2 x3 x4 x5 σ14
/-- RingHandModel.depth(II)I -/
def X4_depth (x1 : Int32) (x2 : Int32) (σ : MS) : Option (Int32 × MS) :=
  cb_ (X4_isWhat x2 1 (s_I σ 0 0)) fun r2 σ3 =>
  if r2 = 0 then
  some (0, σ3)
else
  ob_ (X4_within x1 0 999) fun r5 =>
    cb_ (X4_right r5 2 σ3) fun r8 σ9 =>
    if r8 = 0 then
    some (0, σ9)
  else
    ob_ (lp_ (fun a => X4_depth_b41 x1 x2 a.1 a.2.1 a.2.2.1 a.2.2.2) fu_ ((-1), (-1), 12, σ9)) fun e20 =>
      if x2 = 0 then
      some (e20.1, e20.2.2)
    else
      some (e20.2.1, e20.2.2)
def X4_shots_j71 (x1 : Int32) (x3 : Int32) (x4 : Int32) (t0 : Int32) (t1 : Int32) (σ : MS) : Option ((Int32 × Int32 × Int32) ⊕ (Int32)) :=
  some (.inl (t0 + t1, x3, x4 + 1))
def X4_shots_j59 (x1 : Int32) (x2 : Int32) (x4 : Int32) (t0 : Int32) (σ : MS) : Option ((Int32 × Int32 × Int32) ⊕ (Int32)) :=
  if t0 < x1 then
  X4_shots_j71 x1 t0 x4 x2 0 σ
else
  X4_shots_j71 x1 t0 x4 x2 1 σ
def X4_shots_b34 (x1 : Int32) (σ : MS) (x2 : Int32) (x3 : Int32) (x4 : Int32) : Option ((Int32 × Int32 × Int32) ⊕ (Int32)) :=
  ob_ (X4_last σ) fun r10 =>
  if r10 < x4 then
  some (.inr x2)
else
  ob_ (X4_isSharp x4 σ) fun r13 =>
    if r13 = 0 then
    X4_shots_j59 x1 x2 x4 0 σ
  else
    X4_shots_j59 x1 x2 x4 (x3 + 1) σ
/-- RingHandModel.shots(I)I -/
def X4_shots (x1 : Int32) (σ : MS) : Option (Int32 × MS) :=
  ob_ (X4_within x1 1 601) fun r1 =>
  cb_ (X4_right r1 1 (s_I σ 0 0)) fun r4 σ5 =>
  if r4 = 0 then
  some (0, σ5)
else
  ob_ (X4_goesThrough σ5) fun σ8 =>
    ob_ (lp_ (fun a => X4_shots_b34 x1 σ8 a.1 a.2.1 a.2.2) fu_ (0, 0, 0)) fun e16 =>
    some (e16, σ8)
def X4_quickest_j92 (x1 : Int32) (x2 : Int32) (x3 : Int32) (x4 : Int32) (σ : MS) : Option ((Int32 × Int32 × Int32 × MS) ⊕ (Int32 × Int32 × MS)) :=
  some (.inl (x2, x3, x4 + 1, σ))
def X4_quickest_j86 (x1 : Int32) (x4 : Int32) (x5 : Int32) (σ : MS) : Option ((Int32 × Int32 × Int32 × MS) ⊕ (Int32 × Int32 × MS)) :=
  X4_quickest_j92 x1 x5 x4 x4 σ
def X4_quickest_b23 (x1 : Int32) (x2 : Int32) (x3 : Int32) (x4 : Int32) (σ : MS) : Option ((Int32 × Int32 × Int32 × MS) ⊕ (Int32 × Int32 × MS)) :=
  ob_ (X4_last σ) fun r6 =>
  if r6 < x4 then
  some (.inr (x2, x3, σ))
else
  ob_ (X4_whoseIn x4 σ) fun r9 =>
    ob_ (X4_inchesOf x4 r9 σ) fun r11 =>
    cb_ (X4_turnOf r11 σ) fun r13 σ14 =>
    ob_ (X4_whoseIn (x4 - 1) σ14) fun r16 =>
    ob_ (X4_inchesOf (x4 - 1) r16 σ14) fun r18 =>
    cb_ (X4_turnOf r18 σ14) fun r20 σ21 =>
    ob_ (X4_off r13 r20) fun r22 =>
    if x3 ≤ 0 then
    X4_quickest_j86 x1 x4 r22 σ21
  else
    if x2 < r22 then
      X4_quickest_j86 x1 x4 r22 σ21
    else
      X4_quickest_j92 x1 x2 x3 x4 σ21
/-- RingHandModel.quickest(I)I -/
def X4_quickest (x1 : Int32) (σ : MS) : Option (Int32 × MS) :=
  cb_ (X4_isWhat x1 1 (s_I σ 0 0)) fun r2 σ3 =>
  if r2 = 0 then
  some (0, σ3)
else
  ob_ (lp_ (fun a => X4_quickest_b23 x1 a.1 a.2.1 a.2.2.1 a.2.2.2) fu_ (0, 0, 1, σ3)) fun e26 =>
    if x1 = 0 then
    some (e26.1, e26.2.2)
  else
    some (e26.2.1, e26.2.2)
def X4_holes_j67 (x1 : Int32) (x2 : Int32) (x4 : Int32) (t0 : Int32) (σ : MS) : Option ((Int32 × Int32 × MS) ⊕ (Int32 × MS)) :=
  some (.inl (t0, x4 + (-1), σ))
def X4_holes_b40 (x1 : Int32) (x2 : Int32) (x3 : Int32) (x4 : Int32) (σ : MS) : Option ((Int32 × Int32 × MS) ⊕ (Int32 × MS)) :=
  if x4 ≤ 0 then
  some (.inr (x3, σ))
else
  in_ 0 12 <|
    ob_ (X4_sharpMany (s_A σ 53 ((0 : Int32).toNatClampNeg) x4)) fun r13 =>
    if r13 < x1 then
    X4_holes_j67 x1 x2 x4 x3 (s_A σ 53 ((0 : Int32).toNatClampNeg) x4)
  else
    X4_holes_j67 x1 x2 x4 x4 (s_A σ 53 ((0 : Int32).toNatClampNeg) x4)
/-- RingHandModel.holes(I)I -/
def X4_holes (x1 : Int32) (σ : MS) : Option (Int32 × MS) :=
  ob_ (X4_within x1 0 601) fun r1 =>
  cb_ (X4_right r1 1 (s_I σ 0 0)) fun r4 σ5 =>
  if r4 = 0 then
  some (0, σ5)
else
  ob_ (X4_goesThrough σ5) fun σ8 =>
    in_ 0 12 <|
    ob_ (lp_ (fun a => X4_holes_b40 x1 (m_A σ8 53 ((0 : Int32).toNatClampNeg)) a.1 a.2.1 a.2.2) fu_ ((-1), 60, σ8)) fun e15 =>
    in_ 0 12 <|
    some (e15.1, s_A e15.2 53 ((0 : Int32).toNatClampNeg) (m_A σ8 53 ((0 : Int32).toNatClampNeg)))
def X4_light_j155 (x1 : Int32) (x2 : Int32) (x3 : Int32) (x4 : Int32) (x5 : Int64) (x7 : Int64) (x9 : Int32) (σ : MS) : Option ((Int32 × Int64 × Int64 × Int32 × MS) ⊕ (Int32 × MS)) :=
  some (.inl (x4, x5, x7, x9 + 1, σ))
def X4_light_j143 (x1 : Int32) (x2 : Int32) (x3 : Int32) (x9 : Int32) (x10 : Int64) (x12 : Int64) (σ : MS) : Option ((Int32 × Int64 × Int64 × Int32 × MS) ⊕ (Int32 × MS)) :=
  X4_light_j155 x1 x2 x3 x9 x12 x10 x9 σ
def X4_light_b63 (x1 : Int32) (x2 : Int32) (x3 : Int32) (x4 : Int32) (x5 : Int64) (x7 : Int64) (x9 : Int32) (σ : MS) : Option ((Int32 × Int64 × Int64 × Int32 × MS) ⊕ (Int32 × MS)) :=
  if (60 - x3) < x9 then
  some (.inr (x4, σ))
else
  in_ 0 12 <|
    ob_ (X4_sharpMany (s_A σ 53 ((0 : Int32).toNatClampNeg) (x3 + x9))) fun r14 =>
    if (lg_cmp r14.toInt64 0) = 0 then
    X4_light_j155 x1 x2 x3 x4 x5 x7 x9 (s_A σ 53 ((0 : Int32).toNatClampNeg) (x3 + x9))
  else
    ob_ (X4_last (s_A σ 53 ((0 : Int32).toNatClampNeg) (x3 + x9))) fun r17 =>
      if x4 = (-1) then
      X4_light_j143 x1 x2 x3 x9 r14.toInt64 ((((x9 * x1).toInt64) * r14.toInt64) + (x2.toInt64 * (r17.toInt64 + 1))) (s_A σ 53 ((0 : Int32).toNatClampNeg) (x3 + x9))
    else
      if (lg_cmp (((((x9 * x1).toInt64) * r14.toInt64) + (x2.toInt64 * (r17.toInt64 + 1))) * x7) (x5 * r14.toInt64)) < 0 then
        X4_light_j143 x1 x2 x3 x9 r14.toInt64 ((((x9 * x1).toInt64) * r14.toInt64) + (x2.toInt64 * (r17.toInt64 + 1))) (s_A σ 53 ((0 : Int32).toNatClampNeg) (x3 + x9))
      else
        X4_light_j155 x1 x2 x3 x4 x5 x7 x9 (s_A σ 53 ((0 : Int32).toNatClampNeg) (x3 + x9))
def X4_light_j31 (x1 : Int32) (x2 : Int32) (t1 : Int32) (σ : MS) : Option (Int32 × MS) :=
  cb_ (X4_right t1 1 σ) fun r5 σ6 =>
  if r5 = 0 then
  some (0, σ6)
else
  ob_ (X4_goesThrough σ6) fun σ9 =>
    in_ 0 12 <|
    ob_ (lp_ (fun a => X4_light_b63 x1 x2 (m_A σ9 53 ((0 : Int32).toNatClampNeg)) a.1 a.2.1 a.2.2.1 a.2.2.2.1 a.2.2.2.2) fu_ ((-1), 0, 1, 0, σ9)) fun e20 =>
    in_ 0 12 <|
    some (e20.1, s_A e20.2 53 ((0 : Int32).toNatClampNeg) (m_A σ9 53 ((0 : Int32).toNatClampNeg)))
def X4_light_j30 (x1 : Int32) (x2 : Int32) (σ : MS) : Option (Int32 × MS) :=
  X4_light_j31 x1 x2 0 σ
/-- RingHandModel.light(II)I -/
def X4_light (x1 : Int32) (x2 : Int32) (σ : MS) : Option (Int32 × MS) :=
  ob_ (X4_within x1 0 99) fun r1 =>
  if r1 = 0 then
  X4_light_j30 x1 x2 (s_I σ 0 0)
else
  ob_ (X4_within x2 1 99) fun r22 =>
    if r22 = 0 then
    X4_light_j30 x1 x2 (s_I σ 0 0)
  else
    X4_light_j31 x1 x2 1 (s_I σ 0 0)
def X4_both_j51 (x2 : Int32) (t0 : Int32) (σ : MS) : Option ((Int32 × Int32 × MS) ⊕ (Int32 × MS)) :=
  some (.inl (t0, x2 + 1, σ))
def X4_both_b9 (x1 : Int32) (x2 : Int32) (σ : MS) : Option ((Int32 × Int32 × MS) ⊕ (Int32 × MS)) :=
  ob_ (X4_last σ) fun r2 =>
  if r2 < x2 then
  some (.inr (x1, σ))
else
  ob_ (X4_inchesOf x2 0 σ) fun r5 =>
    cb_ (X4_turnOf r5 σ) fun r7 σ8 =>
    ob_ (X4_inchesOf x2 1 σ8) fun r10 =>
    cb_ (X4_turnOf r10 σ8) fun r12 σ13 =>
    ob_ (X4_off r7 r12) fun r14 =>
    if r14 ≤ x1 then
    X4_both_j51 x2 x1 σ13
  else
    X4_both_j51 x2 r14 σ13
/-- RingHandModel.both()I -/
def X4_both (σ : MS) : Option (Int32 × MS) :=
  ob_ (lp_ (fun a => X4_both_b9 a.1 a.2.1 a.2.2) fu_ (0, 0, s_I σ 0 0)) fun e17 =>
  dv_ 2 <|
  some ((e17.1 + 1) / 2, e17.2)
def X4_addsSpot_j31 (x1 : Int32) (x3 : Int32) (t0 : Int32) (σ : MS) : Option ((Int32 × Int32) ⊕ (Int32)) :=
  some (.inl (t0, x3 + 1))
def X4_addsSpot_j26 (x1 : Int32) (x3 : Int32) (σ : MS) : Option ((Int32 × Int32) ⊕ (Int32)) :=
  X4_addsSpot_j31 x1 x3 1 σ
def X4_addsSpot_b4 (x1 : Int32) (σ : MS) (x2 : Int32) (x3 : Int32) : Option ((Int32 × Int32) ⊕ (Int32)) :=
  if (m_I σ 69) ≤ x3 then
  some (.inr x2)
else
  if x2 = 0 then
    in_ x3 13 <|
      if (m_A σ 71 x3.toNatClampNeg) = x1 then
      X4_addsSpot_j26 x1 x3 σ
    else
      X4_addsSpot_j31 x1 x3 0 σ
  else
    X4_addsSpot_j26 x1 x3 σ
/-- RingHandModel.addsSpot(I)V -/
def X4_addsSpot (x1 : Int32) (σ : MS) : Option (MS) :=
  ob_ (lp_ (fun a => X4_addsSpot_b4 x1 σ a.1 a.2) fu_ (0, 0)) fun e5 =>
  if e5 = 0 then
  in_ (m_I σ 69) 13 <|
    some (s_I (s_A σ 71 ((m_I σ 69).toNatClampNeg) x1) 69 ((m_I σ 69) + 1))
else
  some σ
def X4_nextNumbers_b4 (x1 : Int32) (σ : MS) (x2 : Int32) : Option ((Int32) ⊕ (Int32)) :=
  if x2 < 0 then
  some (.inr x2)
else
  in_ x2 3 <|
    if (m_A σ 72 x2.toNatClampNeg) = (((m_I σ 69) - x1) + x2) then
    some (.inl (x2 + (-1)))
  else
    some (.inr x2)
def X4_nextNumbers_b51 (x1 : Int32) (x3 : Int32) (σ : MS) : Option ((Int32 × MS) ⊕ (MS)) :=
  if x1 ≤ x3 then
  some (.inr σ)
else
  in_ (x3 - 1) 3 <|
    in_ x3 3 <|
    some (.inl (x3 + 1, s_A σ 72 x3.toNatClampNeg ((m_A σ 72 ((x3 - 1).toNatClampNeg)) + 1)))
/-- RingHandModel.nextNumbers(I)Z -/
def X4_nextNumbers (x1 : Int32) (σ : MS) : Option (Int32 × MS) :=
  ob_ (lp_ (fun a => X4_nextNumbers_b4 x1 σ a) fu_ (x1 - 1)) fun e4 =>
  if 0 ≤ e4 then
  in_ e4 3 <|
    in_ e4 3 <|
    ob_ (lp_ (fun a => X4_nextNumbers_b51 x1 a.1 a.2) fu_ (e4 + 1, s_A σ 72 e4.toNatClampNeg ((m_A σ 72 e4.toNatClampNeg) + 1))) fun e11 =>
    some (1, e11)
else
  some (0, σ)
def X4_marks_b36 (x1 : Int32) (x2 : Int32) (σ : MS) : Option ((Int32 × MS) ⊕ (MS)) :=
  if (m_I σ 2) ≤ x2 then
  some (.inr σ)
else
  in_ x2 12 <|
    ob_ (X4_addsSpot (m_A σ 8 x2.toNatClampNeg) σ) fun σ12 =>
    some (.inl (x2 + 1, σ12))
def X4_marks_b94 (x1 : Int32) (x2 : Int32) (x3 : Int32) (σ : MS) : Option ((Int32 × MS) ⊕ (MS)) :=
  if x1 ≤ x3 then
  some (.inr σ)
else
  in_ x3 3 <|
    some (.inl (x3 + 1, s_A σ 72 x3.toNatClampNeg x3))
def X4_marks_b125 (x1 : Int32) (x2 : Int32) (x3 : Int32) (x5 : Int32) (σ : MS) : Option ((Int32 × MS) ⊕ (MS)) :=
  if x1 ≤ x5 then
  some (.inr σ)
else
  in_ x5 3 <|
    in_ (m_A σ 72 x5.toNatClampNeg) 13 <|
    in_ (6 + x5) 12 <|
    some (.inl (x5 + 1, s_A σ 53 ((6 + x5).toNatClampNeg) (m_A σ 71 ((m_A σ 72 x5.toNatClampNeg).toNatClampNeg))))
def X4_marks_j208 (x1 : Int32) (x2 : Int32) (x3 : Int32) (σ : MS) : Option ((Int32 × Int32 × MS) ⊕ (Int32 × MS)) :=
  cb_ (X4_nextNumbers x1 σ) fun r31 σ32 =>
  some (.inl (x3, r31, σ32))
def X4_marks_b177 (x1 : Int32) (x2 : Int32) (x3 : Int32) (x6 : Int32) (σ : MS) : Option ((Int32 × MS) ⊕ (MS)) :=
  if x1 ≤ x6 then
  some (.inr σ)
else
  in_ x6 3 <|
    in_ (m_A σ 72 x6.toNatClampNeg) 13 <|
    in_ x6 3 <|
    some (.inl (x6 + 1, s_A σ 70 x6.toNatClampNeg (m_A σ 71 ((m_A σ 72 x6.toNatClampNeg).toNatClampNeg))))
def X4_marks_b117 (x1 : Int32) (x2 : Int32) (x3 : Int32) (x4 : Int32) (σ : MS) : Option ((Int32 × Int32 × MS) ⊕ (Int32 × MS)) :=
  if x4 = 0 then
  some (.inr (x3, σ))
else
  ob_ (lp_ (fun a => X4_marks_b125 x1 x2 x3 a.1 a.2) fu_ (0, σ)) fun e25 =>
    cb_ (X4_takesSharp e25) fun r27 σ28 =>
    if r27 ≤ x3 then
    X4_marks_j208 x1 x2 x3 σ28
  else
    ob_ (lp_ (fun a => X4_marks_b177 x1 x2 r27 a.1 a.2) fu_ (0, σ28)) fun e37 =>
      X4_marks_j208 x1 x2 r27 e37
/-- RingHandModel.marks(I)I -/
def X4_marks (x1 : Int32) (σ : MS) : Option (Int32 × MS) :=
  ob_ (X4_within x1 0 3) fun r1 =>
  cb_ (X4_right r1 1 (s_I σ 0 0)) fun r4 σ5 =>
  if r4 = 0 then
  some (0, σ5)
else
  ob_ (X4_addsSpot (m_I σ5 1) (s_I σ5 69 0)) fun σ8 =>
    ob_ (lp_ (fun a => X4_marks_b36 x1 a.1 a.2) fu_ (0, σ8)) fun e13 =>
    if x1 ≤ (m_I e13 69) then
    ob_ (X4_copies 53 54 e13) fun σ16 =>
      ob_ (lp_ (fun a => X4_marks_b94 x1 (m_I σ16 4) a.1 a.2) fu_ (0, s_I σ16 4 x1)) fun e19 =>
      ob_ (lp_ (fun a => X4_marks_b117 x1 (m_I σ16 4) a.1 a.2.1 a.2.2) fu_ ((-1), 1, e19)) fun e38 =>
      ob_ (X4_copies 54 53 (s_I e38.2 4 (m_I σ16 4))) fun σ40 =>
      some (e38.1, s_I σ40 68 x1)
  else
    some ((-1), e13)
def X4_kept_j31 (x1 : Int32) (t1 : Int32) (σ : MS) : Option (Int32 × MS) :=
  cb_ (X4_right t1 1 σ) fun r3 σ4 =>
  if r3 = 0 then
  some (0, σ4)
else
  in_ x1 3 <|
    some (m_A σ4 70 x1.toNatClampNeg, σ4)
def X4_kept_j30 (x1 : Int32) (σ : MS) : Option (Int32 × MS) :=
  X4_kept_j31 x1 0 σ
/-- RingHandModel.kept(I)I -/
def X4_kept (x1 : Int32) (σ : MS) : Option (Int32 × MS) :=
  if (m_I σ 68) = (-1) then
  X4_kept_j30 x1 (s_I σ 0 0)
else
  if x1 < 0 then
    X4_kept_j30 x1 (s_I σ 0 0)
  else
    if (m_I σ 68) ≤ x1 then
      X4_kept_j30 x1 (s_I σ 0 0)
    else
      X4_kept_j31 x1 1 (s_I σ 0 0)
/-- RingHandModel.draw(I)I -/
def X4_draw (x1 : Int32) (σ : MS) : Option (Int32 × MS) :=
  dv_ x1 <|
  some ((((((m_I σ 73) * 1103515245) + 12345) >>> ((16 : Int32) &&& 31)) &&& 32767) - (((((m_I σ 73) * 1103515245) + 12345) >>> ((16 : Int32) &&& 31)) &&& 32767) / x1 * x1, s_I σ 73 (((m_I σ 73) * 1103515245) + 12345))
def X4_takes_j143 (x2 : Int32) (x3 : Int32) (x4 : Int32) (x5 : Int32) (x6 : Int32) (x7 : Int32) (x9 : Int32) (t0 : Int32) (σ : MS) : Option ((Int32 × Int32 × Int32 × Int32 × MS) ⊕ (Int32 × Int32 × Int32 × MS)) :=
  some (.inl (x6, x7, t0, x9 + 1, σ))
def X4_takes_j136 (x2 : Int32) (x3 : Int32) (x4 : Int32) (x5 : Int32) (x6 : Int32) (x7 : Int32) (x9 : Int32) (x10 : Int32) (σ : MS) : Option ((Int32 × Int32 × Int32 × Int32 × MS) ⊕ (Int32 × Int32 × Int32 × MS)) :=
  X4_takes_j143 x2 x3 x4 x5 x6 x7 x9 x10 σ
def X4_takes_j114 (x2 : Int32) (x3 : Int32) (x4 : Int32) (x5 : Int32) (x7 : Int32) (x8 : Int32) (x9 : Int32) (x10 : Int32) (t0 : Int32) (t1 : Int32) (σ : MS) : Option ((Int32 × Int32 × Int32 × Int32 × MS) ⊕ (Int32 × Int32 × Int32 × MS)) :=
  if x9 = 0 then
  X4_takes_j136 x2 x3 x4 x5 (t0 + t1) (x7 + x10) x9 x10 σ
else
  if x8 ≤ x10 then
    X4_takes_j143 x2 x3 x4 x5 (t0 + t1) (x7 + x10) x9 x8 σ
  else
    X4_takes_j136 x2 x3 x4 x5 (t0 + t1) (x7 + x10) x9 x10 σ
def X4_takes_b79 (x2 : Int32) (x3 : Int32) (x4 : Int32) (x5 : Int32) (x6 : Int32) (x7 : Int32) (x8 : Int32) (x9 : Int32) (σ : MS) : Option ((Int32 × Int32 × Int32 × Int32 × MS) ⊕ (Int32 × Int32 × Int32 × MS)) :=
  if x2 ≤ x9 then
  some (.inr (x6, x7, x8, σ))
else
  cb_ (X4_draw x3 σ) fun r14 σ15 =>
    cb_ (X4_takesSharp (s_I σ15 59 r14)) fun r17 σ18 =>
    if r17 < x4 then
    X4_takes_j114 x2 x3 x4 x5 x7 x8 x9 r17 x6 0 σ18
  else
    X4_takes_j114 x2 x3 x4 x5 x7 x8 x9 r17 x6 1 σ18
def X4_takes_j53 (x1 : Int32) (x2 : Int32) (x3 : Int32) (x4 : Int32) (x5 : Int32) (t1 : Int32) (σ : MS) : Option (Int32 × MS) :=
  cb_ (X4_right t1 2 σ) fun r9 σ10 =>
  if r9 = 0 then
  some (0, σ10)
else
  ob_ (lp_ (fun a => X4_takes_b79 x2 x3 x4 x5 a.1 a.2.1 a.2.2.1 a.2.2.2.1 a.2.2.2.2) fu_ (0, 0, 0, 0, s_I σ10 73 x1)) fun e22 =>
    if x5 = 0 then
    some (e22.1, s_I e22.2.2.2 59 0)
  else
    if x5 = 1 then
      some (e22.2.1, s_I e22.2.2.2 59 0)
    else
      some (e22.2.2.1, s_I e22.2.2.2 59 0)
def X4_takes_j52 (x1 : Int32) (x2 : Int32) (x3 : Int32) (x4 : Int32) (x5 : Int32) (σ : MS) : Option (Int32 × MS) :=
  X4_takes_j53 x1 x2 x3 x4 x5 0 σ
/-- RingHandModel.takes(IIIII)I -/
def X4_takes (x1 : Int32) (x2 : Int32) (x3 : Int32) (x4 : Int32) (x5 : Int32) (σ : MS) : Option (Int32 × MS) :=
  cb_ (X4_isWhat x5 2 (s_I σ 0 0)) fun r2 σ3 =>
  if r2 = 0 then
  some (0, σ3)
else
  ob_ (X4_within x2 0 40) fun r5 =>
    if r5 = 0 then
    X4_takes_j52 x1 x2 x3 x4 x5 σ3
  else
    ob_ (X4_within x3 1 30) fun r25 =>
      if r25 = 0 then
      X4_takes_j52 x1 x2 x3 x4 x5 σ3
    else
      ob_ (X4_within x4 0 601) fun r28 =>
        if r28 = 0 then
        X4_takes_j52 x1 x2 x3 x4 x5 σ3
      else
        X4_takes_j53 x1 x2 x3 x4 x5 1 σ3
def X4_see_j64 (t1 : Int32) (t2 : Int32) (σ : MS) : Option (Int32 × MS) :=
  in_ t1 16 <|
  some ((m_I σ 74) + 1, s_I (s_A σ 75 t1.toNatClampNeg t2) 74 ((m_I σ 74) + 1))
/-- RingHandModel.see(IZ)I -/
def X4_see (x1 : Int32) (x2 : Int32) (σ : MS) : Option (Int32 × MS) :=
  cb_ (X4_isTenth x1 (s_I σ 0 0)) fun r2 σ3 =>
  if r2 = 0 then
  some (0, σ3)
else
  if (m_I σ3 74) = 8 then
    cb_ (X4_refuses 2 (-1) σ3) fun r10 σ11 =>
      some (r10, σ11)
  else
    in_ (2 * (m_I σ3 74)) 16 <|
      if x2 = 0 then
      X4_see_j64 ((2 * (m_I σ3 74)) + 1) 0 (s_A σ3 75 ((2 * (m_I σ3 74)).toNatClampNeg) x1)
    else
      X4_see_j64 ((2 * (m_I σ3 74)) + 1) 1 (s_A σ3 75 ((2 * (m_I σ3 74)).toNatClampNeg) x1)
def X4_fits_j99 (x1 : Int32) (x2 : Int32) (x3 : Int32) (x4 : Int32) (x5 : Int32) (σ : MS) : Option ((Int32 × Int32 × MS) ⊕ (Int32 × Int32 × MS)) :=
  some (.inl (x3, x4, s_I σ 59 ((m_I σ 59) + 1)))
def X4_fits_b53 (x1 : Int32) (x2 : Int32) (x5 : Int32) (x3 : Int32) (x4 : Int32) (σ : MS) : Option ((Int32 × Int32 × MS) ⊕ (Int32 × Int32 × MS)) :=
  if 20 < (m_I σ 59) then
  some (.inr (x3, x4, σ))
else
  ob_ (X4_goesThrough σ) fun σ10 =>
    ob_ (X4_isAsSeen σ10) fun r12 =>
    if r12 = 0 then
    X4_fits_j99 x1 x2 x3 x4 x5 σ10
  else
    if x4 = (-1) then
      X4_fits_j99 x1 x2 (x3 + 1) ((100 * (x5 + 1)) + (m_I σ10 59)) x5 σ10
    else
      X4_fits_j99 x1 x2 (x3 + 1) x4 x5 σ10
def X4_fits_b31 (x1 : Int32) (x2 : Int32) (x3 : Int32) (x4 : Int32) (x5 : Int32) (σ : MS) : Option ((Int32 × Int32 × Int32 × MS) ⊕ (Int32 × Int32 × MS)) :=
  if (m_I σ 5) ≤ x5 then
  some (.inr (x3, x4, σ))
else
  in_ 5 12 <|
    ob_ (lp_ (fun a => X4_fits_b53 x1 x2 x5 a.1 a.2.1 a.2.2) fu_ (x3, x4, s_I (s_A σ 53 ((5 : Int32).toNatClampNeg) x5) 59 0)) fun e15 =>
    some (.inl (e15.1, e15.2.1, x5 + 1, e15.2.2))
/-- RingHandModel.fits(I)I -/
def X4_fits (x1 : Int32) (σ : MS) : Option (Int32 × MS) :=
  cb_ (X4_isWhat x1 1 (s_I σ 0 0)) fun r2 σ3 =>
  if r2 = 0 then
  some (0, σ3)
else
  in_ 5 12 <|
    ob_ (lp_ (fun a => X4_fits_b31 x1 (m_A σ3 53 ((5 : Int32).toNatClampNeg)) a.1 a.2.1 a.2.2.1 a.2.2.2) fu_ (0, (-1), (-1), σ3)) fun e16 =>
    in_ 5 12 <|
    if x1 = 0 then
    some (e16.1, s_A (s_I e16.2.2 59 0) 53 ((5 : Int32).toNatClampNeg) (m_A σ3 53 ((5 : Int32).toNatClampNeg)))
  else
    some (e16.2.1, s_A (s_I e16.2.2 59 0) 53 ((5 : Int32).toNatClampNeg) (m_A σ3 53 ((5 : Int32).toNatClampNeg)))
def X4_book_j26 (σ : MS) : Option (Int32 × MS) :=
  cb_ (X4_refuses 2 (-1) σ) fun r3 σ4 =>
  some (r3, σ4)
/-- RingHandModel.book(I)I -/
def X4_book (x1 : Int32) (σ : MS) : Option (Int32 × MS) :=
  if (m_I σ 76) = 16 then
  X4_book_j26 (s_I σ 0 0)
else
  ob_ (X4_within x1 12 480) fun r5 =>
    if r5 = 0 then
    X4_book_j26 (s_I σ 0 0)
  else
    in_ (m_I σ 76) 16 <|
      some ((m_I σ 76) + 1, s_I (s_A (s_I σ 0 0) 77 ((m_I σ 76).toNatClampNeg) x1) 76 ((m_I σ 76) + 1))
def X4_portion_b5 (x0 : Int32) (x1 : Int32) (x2 : Int32) (x3 : Int32) (x4 : Int32) : Option ((Int32 × Int32) ⊕ (Int32)) :=
  if x4 = 0 then
  some (.inr x3)
else
  dv_ x4 <|
    some (.inl (x4, x3 - x3 / x4 * x4))
/-- RingHandModel.portion(III)I -/
def X4_portion (x0 : Int32) (x1 : Int32) (x2 : Int32) : Option (Int32) :=
  ob_ (lp_ (fun a => X4_portion_b5 x0 x1 x2 a.1 a.2) fu_ (x1, x0)) fun e3 =>
  if x2 = 0 then
  dv_ e3 <|
    some (x0 / e3)
else
  dv_ e3 <|
    some (x1 / e3)
def X4_next_j47 (x1 : Int32) (x2 : Int32) (x4 : Int32) (t0 : Int32) (t1 : Int32) (σ : MS) : Option ((Int32 × Int32) ⊕ (Int32)) :=
  some (.inl (t0 + t1, x4 + 1))
def X4_next_b21 (x1 : Int32) (x2 : Int32) (σ : MS) (x3 : Int32) (x4 : Int32) : Option ((Int32 × Int32) ⊕ (Int32)) :=
  if (m_I σ 76) ≤ x4 then
  some (.inr x3)
else
  in_ x4 16 <|
    if x1 < (m_A σ 77 x4.toNatClampNeg) then
    X4_next_j47 x1 x2 x4 x3 0 σ
  else
    X4_next_j47 x1 x2 x4 x3 1 σ
def X4_next_j71 (x2 : Int32) (t0 : Int32) (t1 : Int32) (σ : MS) : Option (Int32 × MS) :=
  ob_ (X4_portion t0 t1 x2) fun r10 =>
  some (r10, σ)
/-- RingHandModel.next(II)I -/
def X4_next (x1 : Int32) (x2 : Int32) (σ : MS) : Option (Int32 × MS) :=
  cb_ (X4_isWhat x2 1 (s_I σ 0 0)) fun r2 σ3 =>
  if r2 = 0 then
  some (0, σ3)
else
  ob_ (lp_ (fun a => X4_next_b21 x1 x2 σ3 a.1 a.2) fu_ (0, 0)) fun e8 =>
    if (m_I σ3 76) = 0 then
    X4_next_j71 x2 e8 1 σ3
  else
    X4_next_j71 x2 e8 (m_I σ3 76) σ3
def X4_middle_j102 (x1 : Int32) (x2 : Int32) (x3 : Int32) (x5 : Int32) (t0 : Int32) (σ : MS) : Option ((Int32 × Int32 × Int32 × Int32) ⊕ (Int32 × Int32 × Int32)) :=
  some (.inl (x2, x3, t0, x5 + 1))
def X4_middle_j90 (x1 : Int32) (x2 : Int32) (x3 : Int32) (x5 : Int32) (σ : MS) : Option ((Int32 × Int32 × Int32 × Int32) ⊕ (Int32 × Int32 × Int32)) :=
  in_ x5 16 <|
  X4_middle_j102 x1 x2 x3 x5 (m_A σ 77 x5.toNatClampNeg) σ
def X4_middle_j72 (x1 : Int32) (x2 : Int32) (x4 : Int32) (x5 : Int32) (t0 : Int32) (σ : MS) : Option ((Int32 × Int32 × Int32 × Int32) ⊕ (Int32 × Int32 × Int32)) :=
  if x5 = 0 then
  X4_middle_j90 x1 x2 t0 x5 σ
else
  in_ x5 16 <|
    if x4 ≤ (m_A σ 77 x5.toNatClampNeg) then
    X4_middle_j102 x1 x2 t0 x5 x4 σ
  else
    X4_middle_j90 x1 x2 t0 x5 σ
def X4_middle_j61 (x1 : Int32) (x2 : Int32) (x4 : Int32) (x5 : Int32) (σ : MS) : Option ((Int32 × Int32 × Int32 × Int32) ⊕ (Int32 × Int32 × Int32)) :=
  in_ x5 16 <|
  X4_middle_j72 x1 x2 x4 x5 (m_A σ 77 x5.toNatClampNeg) σ
def X4_middle_b26 (x1 : Int32) (σ : MS) (x2 : Int32) (x3 : Int32) (x4 : Int32) (x5 : Int32) : Option ((Int32 × Int32 × Int32 × Int32) ⊕ (Int32 × Int32 × Int32)) :=
  if (m_I σ 76) ≤ x5 then
  some (.inr (x2, x3, x4))
else
  in_ x5 16 <|
    if x5 = 0 then
    X4_middle_j61 x1 (x2 + (m_A σ 77 x5.toNatClampNeg)) x4 x5 σ
  else
    in_ x5 16 <|
      if (m_A σ 77 x5.toNatClampNeg) ≤ x3 then
      X4_middle_j72 x1 (x2 + (m_A σ 77 x5.toNatClampNeg)) x4 x5 x3 σ
    else
      X4_middle_j61 x1 (x2 + (m_A σ 77 x5.toNatClampNeg)) x4 x5 σ
def X4_middle_j138 (x1 : Int32) (t0 : Int32) (t1 : Int32) (σ : MS) : Option (Int32 × MS) :=
  ob_ (X4_portion t0 t1 x1) fun r18 =>
  some (r18, σ)
/-- RingHandModel.middle(I)I -/
def X4_middle (x1 : Int32) (σ : MS) : Option (Int32 × MS) :=
  cb_ (X4_isWhat x1 2 (s_I σ 0 0)) fun r2 σ3 =>
  if r2 = 0 then
  some (0, σ3)
else
  ob_ (lp_ (fun a => X4_middle_b26 x1 σ3 a.1 a.2.1 a.2.2.1 a.2.2.2) fu_ (0, 0, 0, 0)) fun e15 =>
    if x1 = 2 then
    some (e15.2.1 - e15.2.2, σ3)
  else
    if (m_I σ3 76) = 0 then
      X4_middle_j138 x1 e15.1 1 σ3
    else
      X4_middle_j138 x1 e15.1 (m_I σ3 76) σ3
/-- RingHandModel.forget()V -/
def X4_forget (σ : MS) : Option (MS) :=
  some (s_I (s_I (s_I σ 0 0) 74 0) 76 0)
/-- RingHandModel.image()V -/
def X4_image (σ : MS) : Option (MS) :=
  ob_ (X4_copies 53 82 (s_I (s_I (s_I (s_I (s_I σ 0 0) 78 1) 79 (m_I σ 56)) 80 (m_I σ 74)) 81 (m_I σ 76))) fun σ2 =>
  ob_ (X4_copies 55 83 σ2) fun σ4 =>
  ob_ (X4_copies 75 84 σ4) fun σ6 =>
  ob_ (X4_copies 77 85 σ6) fun σ8 =>
  some σ8
/-- RingHandModel.restore()Z -/
def X4_restore (σ : MS) : Option (Int32 × MS) :=
  if (m_I σ 78) = 0 then
  some (0, s_I σ 0 0)
else
  ob_ (X4_copies 82 53 (s_I (s_I (s_I (s_I σ 0 0) 56 (m_I σ 79)) 74 (m_I σ 80)) 76 (m_I σ 81))) fun σ3 =>
    ob_ (X4_copies 83 55 σ3) fun σ5 =>
    ob_ (X4_copies 84 75 σ5) fun σ7 =>
    ob_ (X4_copies 85 77 σ7) fun σ9 =>
    some (1, σ9)
