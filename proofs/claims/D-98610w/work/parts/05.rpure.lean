/-! PURE, printed out of the bytecode by wip/D-98610w/gen/comp.py -/
set_option maxRecDepth 100000

/-- RingHand$Reader.want(ZI)V -/
def X5_want (a0 : Nat) (x1 : Int32) (x2 : Int32) (g : GS) : Option (((Unit ⊕ (Nat × Nat)) × GS) × Nat × Nat) :=
  if x1 = 0 then
  al_ g 5 7 fun u2 g3 =>
    ob_ (X6_init u2 x2 g3) fun g7 =>
    wk_ g7 u2 5 <|
    some ((.inr (3, u2), g7), 0, 0)
else
  some ((.inl (), g), 0, 0)
def X5_numberNow_j53 (a0 : Nat) (t0 : Nat) (t1 : Int32) (g : GS) : Option (((Int32 ⊕ (Nat × Nat)) × GS) × Nat × Nat) :=
  wk_ g t0 4 <|
  tc_ (X5_want t0 t1 2 g) (fun e16 g15 => some ((.inr e16, g15), 0, 0)) fun r14 g15 =>
  wk_ g15 a0 4 <|
  some ((.inl (gI g15 a0 12), g15), 0, 0)
def X5_numberNow_j52 (a0 : Nat) (t0 : Nat) (g : GS) : Option (((Int32 ⊕ (Nat × Nat)) × GS) × Nat × Nat) :=
  X5_numberNow_j53 a0 t0 0 g
def X5_numberNow_j14 (a0 : Nat) (x1 : Int32) (x2 : Int32) (t0 : Nat) (t1 : Int32) (g : GS) : Option (((Int32 ⊕ (Nat × Nat)) × GS) × Nat × Nat) :=
  wk_ g t0 4 <|
  tc_ (X5_want t0 t1 1 g) (fun e7 g6 => some ((.inr e7, g6), 0, 0)) fun r5 g6 =>
  wk_ g6 a0 4 <|
  if 4 < ((gI g6 a0 11) - (gI g6 a0 10)) then
  X5_numberNow_j52 a0 a0 g6
else
  if (gI g6 a0 12) < x1 then
    X5_numberNow_j52 a0 a0 g6
  else
    if x2 < (gI g6 a0 12) then
      X5_numberNow_j52 a0 a0 g6
    else
      X5_numberNow_j53 a0 a0 1 g6
/-- RingHand$Reader.numberNow(II)I -/
def X5_numberNow (a0 : Nat) (x1 : Int32) (x2 : Int32) (g : GS) : Option (((Int32 ⊕ (Nat × Nat)) × GS) × Nat × Nat) :=
  wk_ g a0 4 <|
  if (gI g a0 9) = 2 then
  X5_numberNow_j14 a0 x1 x2 a0 1 g
else
  X5_numberNow_j14 a0 x1 x2 a0 0 g
/-- RingHand$Reader.number(II)I -/
def X5_number (a0 : Nat) (x1 : Int32) (x2 : Int32) (g : GS) : Option (((Int32 ⊕ (Nat × Nat)) × GS) × Nat × Nat) :=
  wk_ g a0 4 <|
  tc_ (X5_numberNow a0 x1 x2 g) (fun e5 g4 => some ((.inr e5, g4), 0, 0)) fun r3 g4 =>
  wk_ g4 a0 4 <|
  ob_ (X5_next a0 g4) fun g10 =>
  some ((.inl r3, g10), 0, 0)
def X5_part_j100 (rec : Nat → Int32 → GS → Option (((Nat ⊕ (Nat × Nat)) × GS) × Nat × Nat)) (a0 : Nat) (x2 : Int32) (t0 : Nat) (t1 : Int32) (g : GS) : Option (((Nat ⊕ (Nat × Nat)) × GS) × Nat × Nat) :=
  wk_ g t0 4 <|
  tc_ (X5_want t0 t1 3 g) (fun e24 g23 => some ((.inr e24, g23), 0, 0)) fun r22 g23 =>
  wk_ g23 a0 4 <|
  ob_ (X5_next a0 g23) fun g29 =>
  al_ g29 8 1 fun u30 g31 =>
  ob_ (X9_init u30 x2 g31) fun g35 =>
  some ((.inl u30, g35), 0, 0)
def X5_part_j76 (rec : Nat → Int32 → GS → Option (((Nat ⊕ (Nat × Nat)) × GS) × Nat × Nat)) (a0 : Nat) (t0 : Nat) (t1 : Int32) (g : GS) : Option (((Nat ⊕ (Nat × Nat)) × GS) × Nat × Nat) :=
  wk_ g t0 4 <|
  tc_ (X5_want t0 t1 1 g) (fun e11 g10 => some ((.inr e11, g10), 0, 0)) fun r9 g10 =>
  wk_ g10 a0 4 <|
  nn_ (gR g10 a0 7) fun b15 =>
  ob_ (X5_which a0 b15 g10) fun r18 =>
  if r18 = (-1) then
  X5_part_j100 rec a0 r18 a0 0 g10
else
  X5_part_j100 rec a0 r18 a0 1 g10
/-- RingHand$Reader.part(I)LRingHand$Form; -/
def X5_part (rec : Nat → Int32 → GS → Option (((Nat ⊕ (Nat × Nat)) × GS) × Nat × Nat)) (a0 : Nat) (x1 : Int32) (g : GS) : Option (((Nat ⊕ (Nat × Nat)) × GS) × Nat × Nat) :=
  wk_ g a0 4 <|
  if (gI g a0 9) = 2 then
  al_ g 7 1 fun u57 g58 =>
    wk_ g58 a0 4 <|
    tc_ (X5_number a0 0 9999 g58) (fun e65 g64 => some ((.inr e65, g64), 0, 0)) fun r63 g64 =>
    ob_ (X8_init u57 r63 g64) fun g69 =>
    some ((.inl u57, g69), 0, 0)
else
  ob_ (X5_isSign a0 40 g) fun r4 =>
    if r4 = 0 then
    if (gI g a0 9) = 1 then
      X5_part_j76 rec a0 a0 1 g
    else
      X5_part_j76 rec a0 a0 0 g
  else
    ob_ (X5_next a0 g) fun g37 =>
      wk_ g37 a0 4 <|
      tc_ (rec a0 (x1 + 1) g37) (fun e42 g41 => some ((.inr e42, g41), 0, 0)) fun r40 g41 =>
      wk_ g41 a0 4 <|
      ob_ (X5_isSign a0 41 g41) fun r47 =>
      tc_ (X5_want a0 r47 1 g41) (fun e51 g50 => some ((.inr e51, g50), 0, 0)) fun r49 g50 =>
      wk_ g50 a0 4 <|
      ob_ (X5_next a0 g50) fun g56 =>
      some ((.inl r40, g56), 0, 0)
def X5_product_j31 (rec : Nat → Int32 → GS → Option (((Nat ⊕ (Nat × Nat)) × GS) × Nat × Nat)) (a0 : Nat) (x1 : Int32) (a2 : Nat) (g : GS) : Option (((GS) ⊕ (((GS) ⊕ ((Nat × Nat) × GS)))) × Nat × Nat) :=
  wk_ g a0 4 <|
  cb_ (X5_sign a0 g) fun r24 g23 =>
  wk_ g23 a0 4 <|
  tc_ (X5_part rec a0 x1 g23) (fun e29 g28 => some (.inr (.inr (e29, g28)), 0, 0)) fun r27 g28 =>
  wk_ g28 a2 6 <|
  ca_ (X7_add a2 r24 r27 g28) fun r35 g34 =>
  some (.inl g34, 0, 0)
def X5_product_b13 (rec : Nat → Int32 → GS → Option (((Nat ⊕ (Nat × Nat)) × GS) × Nat × Nat)) (a0 : Nat) (x1 : Int32) (a2 : Nat) (g : GS) : Option (((GS) ⊕ (((GS) ⊕ ((Nat × Nat) × GS)))) × Nat × Nat) :=
  wk_ g a0 4 <|
  ob_ (X5_isSign a0 42 g) fun r19 =>
  if r19 = 0 then
  ob_ (X5_isSign a0 47 g) fun r39 =>
    if r39 = 0 then
    some (.inr (.inl g), 0, 0)
  else
    X5_product_j31 rec a0 x1 a2 g
else
  X5_product_j31 rec a0 x1 a2 g
/-- RingHand$Reader.product(I)LRingHand$Form; -/
def X5_product (rec : Nat → Int32 → GS → Option (((Nat ⊕ (Nat × Nat)) × GS) × Nat × Nat)) (a0 : Nat) (x1 : Int32) (g : GS) : Option (((Nat ⊕ (Nat × Nat)) × GS) × Nat × Nat) :=
  al_ g 6 2 fun u1 g2 =>
  wk_ g2 a0 4 <|
  tc_ (X5_part rec a0 x1 g2) (fun e9 g8 => some ((.inr e9, g8), 0, 0)) fun r7 g8 =>
  ca_ (X7_init u1 r7 g8) fun r14 g13 =>
  oa_ (la_ (fun a => X5_product_b13 rec a0 x1 u1 a) fu_ g13) fun e41 =>
  Sum.elim (fun e41a => wk_ e41a u1 6 <|
  ob_ (X7_plain u1 e41a) fun r46 =>
  some ((.inl r46, e41a), 0, 0)) (fun e41b => some ((.inr e41b.1, e41b.2), 0, 0)) e41
def X5_sum_j31 (rec : Nat → Int32 → GS → Option (((Nat ⊕ (Nat × Nat)) × GS) × Nat × Nat)) (a0 : Nat) (x1 : Int32) (a2 : Nat) (g : GS) : Option (((GS) ⊕ (((GS) ⊕ ((Nat × Nat) × GS)))) × Nat × Nat) :=
  wk_ g a0 4 <|
  cb_ (X5_sign a0 g) fun r24 g23 =>
  wk_ g23 a0 4 <|
  tc_ (X5_product rec a0 x1 g23) (fun e29 g28 => some (.inr (.inr (e29, g28)), 0, 0)) fun r27 g28 =>
  wk_ g28 a2 6 <|
  ca_ (X7_add a2 r24 r27 g28) fun r35 g34 =>
  some (.inl g34, 0, 0)
def X5_sum_b13 (rec : Nat → Int32 → GS → Option (((Nat ⊕ (Nat × Nat)) × GS) × Nat × Nat)) (a0 : Nat) (x1 : Int32) (a2 : Nat) (g : GS) : Option (((GS) ⊕ (((GS) ⊕ ((Nat × Nat) × GS)))) × Nat × Nat) :=
  wk_ g a0 4 <|
  ob_ (X5_isSign a0 43 g) fun r19 =>
  if r19 = 0 then
  ob_ (X5_isSign a0 45 g) fun r39 =>
    if r39 = 0 then
    some (.inr (.inl g), 0, 0)
  else
    X5_sum_j31 rec a0 x1 a2 g
else
  X5_sum_j31 rec a0 x1 a2 g
/-- RingHand$Reader.sum(I)LRingHand$Form; -/
def X5_sum (rec : Nat → Int32 → GS → Option (((Nat ⊕ (Nat × Nat)) × GS) × Nat × Nat)) (a0 : Nat) (x1 : Int32) (g : GS) : Option (((Nat ⊕ (Nat × Nat)) × GS) × Nat × Nat) :=
  al_ g 6 2 fun u1 g2 =>
  wk_ g2 a0 4 <|
  tc_ (X5_product rec a0 x1 g2) (fun e9 g8 => some ((.inr e9, g8), 0, 0)) fun r7 g8 =>
  ca_ (X7_init u1 r7 g8) fun r14 g13 =>
  oa_ (la_ (fun a => X5_sum_b13 rec a0 x1 u1 a) fu_ g13) fun e41 =>
  Sum.elim (fun e41a => wk_ e41a u1 6 <|
  ob_ (X7_plain u1 e41a) fun r46 =>
  some ((.inl r46, e41a), 0, 0)) (fun e41b => some ((.inr e41b.1, e41b.2), 0, 0)) e41
def X5_not_j23 (rec : Nat → Int32 → GS → Option (((Nat ⊕ (Nat × Nat)) × GS) × Nat × Nat)) (a0 : Nat) (x1 : Int32) (x2 : Int32) (t0 : Nat) (t1 : Int32) (g : GS) : Option (((Int32 × GS) ⊕ (((Int32 × GS) ⊕ ((Nat × Nat) × GS)))) × Nat × Nat) :=
  wk_ g t0 4 <|
  tc_ (X5_want t0 t1 2 g) (fun e10 g9 => some (.inr (.inr (e10, g9)), 0, 0)) fun r8 g9 =>
  wk_ g9 a0 4 <|
  ob_ (X5_next a0 g9) fun g15 =>
  some (.inl (x2 + 1, g15), 0, 0)
def X5_not_b2 (rec : Nat → Int32 → GS → Option (((Nat ⊕ (Nat × Nat)) × GS) × Nat × Nat)) (a0 : Nat) (x1 : Int32) (x2 : Int32) (g : GS) : Option (((Int32 × GS) ⊕ (((Int32 × GS) ⊕ ((Nat × Nat) × GS)))) × Nat × Nat) :=
  wk_ g a0 4 <|
  ob_ (X5_is a0 (gS g 24) g) fun r3 =>
  if r3 = 0 then
  some (.inr (.inl (x2, g)), 0, 0)
else
  if 6 ≤ x2 then
    X5_not_j23 rec a0 x1 x2 a0 0 g
  else
    X5_not_j23 rec a0 x1 x2 a0 1 g
def X5_not_b94 (rec : Nat → Int32 → GS → Option (((Nat ⊕ (Nat × Nat)) × GS) × Nat × Nat)) (x2 : Int32) (a4 : Nat) (x5 : Int32) (g : GS) : Option (((Nat × Int32 × GS) ⊕ (Nat × GS)) × Nat × Nat) :=
  if x2 ≤ x5 then
  some (.inr (a4, g), 0, 0)
else
  al_ g 9 1 fun u60 g61 =>
    ob_ (X10_init u60 a4 g61) fun g65 =>
    some (.inl (u60, x5 + 1, g65), 0, 0)
def X5_not_j85 (rec : Nat → Int32 → GS → Option (((Nat ⊕ (Nat × Nat)) × GS) × Nat × Nat)) (x2 : Int32) (a3 : Nat) (g : GS) : Option (((Nat ⊕ (Nat × Nat)) × GS) × Nat × Nat) :=
  wk_ g a3 6 <|
  ob_ (X7_plain a3 g) fun r58 =>
  oa_ (la_ (fun a => X5_not_b94 rec x2 a.1 a.2.1 a.2.2) fu_ (r58, 0, g)) fun e66 =>
  some ((.inl e66.1, e66.2), 0, 0)
def X5_not_j68 (rec : Nat → Int32 → GS → Option (((Nat ⊕ (Nat × Nat)) × GS) × Nat × Nat)) (a0 : Nat) (x1 : Int32) (x2 : Int32) (a3 : Nat) (g : GS) : Option (((Nat ⊕ (Nat × Nat)) × GS) × Nat × Nat) :=
  wk_ g a0 4 <|
  cb_ (X5_sign a0 g) fun r42 g41 =>
  wk_ g41 a0 4 <|
  tc_ (X5_sum rec a0 x1 g41) (fun e47 g46 => some ((.inr e47, g46), 0, 0)) fun r45 g46 =>
  wk_ g46 a3 6 <|
  ca_ (X7_add a3 r42 r45 g46) fun r53 g52 =>
  X5_not_j85 rec x2 a3 g52
/-- RingHand$Reader.not(I)LRingHand$Form; -/
def X5_not (rec : Nat → Int32 → GS → Option (((Nat ⊕ (Nat × Nat)) × GS) × Nat × Nat)) (a0 : Nat) (x1 : Int32) (g : GS) : Option (((Nat ⊕ (Nat × Nat)) × GS) × Nat × Nat) :=
  oa_ (la_ (fun a => X5_not_b2 rec a0 x1 a.1 a.2) fu_ (0, g)) fun e16 =>
  Sum.elim (fun e16a => al_ e16a.2 6 2 fun u19 g20 =>
  wk_ g20 a0 4 <|
  tc_ (X5_sum rec a0 x1 g20) (fun e27 g26 => some ((.inr e27, g26), 0, 0)) fun r25 g26 =>
  ca_ (X7_init u19 r25 g26) fun r32 g31 =>
  wk_ g31 a0 4 <|
  ob_ (X5_isSign a0 60 g31) fun r37 =>
  if r37 = 0 then
  ob_ (X5_isSign a0 61 g31) fun r70 =>
    if r70 = 0 then
    X5_not_j85 rec e16a.1 u19 g31
  else
    X5_not_j68 rec a0 x1 e16a.1 u19 g31
else
  X5_not_j68 rec a0 x1 e16a.1 u19 g31) (fun e16b => some ((.inr e16b.1, e16b.2), 0, 0)) e16
def X5_and_b13 (rec : Nat → Int32 → GS → Option (((Nat ⊕ (Nat × Nat)) × GS) × Nat × Nat)) (a0 : Nat) (x1 : Int32) (a2 : Nat) (g : GS) : Option (((GS) ⊕ (((GS) ⊕ ((Nat × Nat) × GS)))) × Nat × Nat) :=
  wk_ g a0 4 <|
  cb_ (X5_passes a0 (gS g 25) g) fun r20 g19 =>
  if r20 = 0 then
  some (.inr (.inl g19), 0, 0)
else
  wk_ g19 a0 4 <|
    tc_ (X5_not rec a0 x1 g19) (fun e26 g25 => some (.inr (.inr (e26, g25)), 0, 0)) fun r24 g25 =>
    wk_ g25 a2 6 <|
    ca_ (X7_add a2 38 r24 g25) fun r32 g31 =>
    some (.inl g31, 0, 0)
/-- RingHand$Reader.and(I)LRingHand$Form; -/
def X5_and (rec : Nat → Int32 → GS → Option (((Nat ⊕ (Nat × Nat)) × GS) × Nat × Nat)) (a0 : Nat) (x1 : Int32) (g : GS) : Option (((Nat ⊕ (Nat × Nat)) × GS) × Nat × Nat) :=
  al_ g 6 2 fun u1 g2 =>
  wk_ g2 a0 4 <|
  tc_ (X5_not rec a0 x1 g2) (fun e9 g8 => some ((.inr e9, g8), 0, 0)) fun r7 g8 =>
  ca_ (X7_init u1 r7 g8) fun r14 g13 =>
  oa_ (la_ (fun a => X5_and_b13 rec a0 x1 u1 a) fu_ g13) fun e35 =>
  Sum.elim (fun e35a => wk_ e35a u1 6 <|
  ob_ (X7_plain u1 e35a) fun r40 =>
  some ((.inl r40, e35a), 0, 0)) (fun e35b => some ((.inr e35b.1, e35b.2), 0, 0)) e35
def X5_expression_b64 (rec : Nat → Int32 → GS → Option (((Nat ⊕ (Nat × Nat)) × GS) × Nat × Nat)) (a0 : Nat) (x1 : Int32) (a2 : Nat) (g : GS) : Option (((GS) ⊕ (((GS) ⊕ ((Nat × Nat) × GS)))) × Nat × Nat) :=
  wk_ g a0 4 <|
  cb_ (X5_passes a0 (gS g 26) g) fun r37 g36 =>
  if r37 = 0 then
  some (.inr (.inl g36), 0, 0)
else
  wk_ g36 a0 4 <|
    tc_ (X5_and rec a0 x1 g36) (fun e43 g42 => some (.inr (.inr (e43, g42)), 0, 0)) fun r41 g42 =>
    wk_ g42 a2 6 <|
    ca_ (X7_add a2 124 r41 g42) fun r49 g48 =>
    some (.inl g48, 0, 0)
def X5_expression_j47 (rec : Nat → Int32 → GS → Option (((Nat ⊕ (Nat × Nat)) × GS) × Nat × Nat)) (a0 : Nat) (x1 : Int32) (t0 : Nat) (t1 : Int32) (g : GS) : Option (((Nat ⊕ (Nat × Nat)) × GS) × Nat × Nat) :=
  wk_ g t0 4 <|
  tc_ (X5_want t0 t1 2 g) (fun e15 g14 => some ((.inr e15, g14), 0, 0)) fun r13 g14 =>
  al_ g14 6 2 fun u18 g19 =>
  wk_ g19 a0 4 <|
  tc_ (X5_and rec a0 x1 g19) (fun e26 g25 => some ((.inr e26, g25), 0, 0)) fun r24 g25 =>
  ca_ (X7_init u18 r24 g25) fun r31 g30 =>
  oa_ (la_ (fun a => X5_expression_b64 rec a0 x1 u18 a) fu_ g30) fun e52 =>
  Sum.elim (fun e52a => wk_ e52a u18 6 <|
  ob_ (X7_plain u18 e52a) fun r57 =>
  some ((.inl r57, e52a), 0, 0)) (fun e52b => some ((.inr e52b.1, e52b.2), 0, 0)) e52
def X5_expression_j31 (rec : Nat → Int32 → GS → Option (((Nat ⊕ (Nat × Nat)) × GS) × Nat × Nat)) (a0 : Nat) (x1 : Int32) (t0 : Nat) (t1 : Int32) (g : GS) : Option (((Nat ⊕ (Nat × Nat)) × GS) × Nat × Nat) :=
  wk_ g t0 4 <|
  tc_ (X5_want t0 t1 1 g) (fun e7 g6 => some ((.inr e7, g6), 0, 0)) fun r5 g6 =>
  if 6 ≤ x1 then
  X5_expression_j47 rec a0 x1 a0 0 g6
else
  X5_expression_j47 rec a0 x1 a0 1 g6
def X5_expression_j26 (rec : Nat → Int32 → GS → Option (((Nat ⊕ (Nat × Nat)) × GS) × Nat × Nat)) (a0 : Nat) (x1 : Int32) (t0 : Nat) (g : GS) : Option (((Nat ⊕ (Nat × Nat)) × GS) × Nat × Nat) :=
  X5_expression_j31 rec a0 x1 t0 1 g
/-- RingHand$Reader.expression(I)LRingHand$Form; -/
def X5_expression_b (rec : Nat → Int32 → GS → Option (((Nat ⊕ (Nat × Nat)) × GS) × Nat × Nat)) (a0 : Nat) (x1 : Int32) (g : GS) : Option (((Nat ⊕ (Nat × Nat)) × GS) × Nat × Nat) :=
  wk_ g a0 4 <|
  if (gI g a0 9) = 2 then
  X5_expression_j26 rec a0 x1 a0 g
else
  if (gI g a0 9) = 1 then
    X5_expression_j26 rec a0 x1 a0 g
  else
    ob_ (X5_isSign a0 40 g) fun r60 =>
      if r60 = 0 then
      X5_expression_j31 rec a0 x1 a0 0 g
    else
      X5_expression_j26 rec a0 x1 a0 g
def X5_expression_r : Nat → Nat → Int32 → GS → Option (((Nat ⊕ (Nat × Nat)) × GS) × Nat × Nat)
  | 0, _, _, _ => none
  | n + 1, a0, x1, g => X5_expression_b (X5_expression_r n) a0 x1 g
def X5_expression (a0 : Nat) (x1 : Int32) (g : GS) : Option (((Nat ⊕ (Nat × Nat)) × GS) × Nat × Nat) := X5_expression_r 9 a0 x1 g
/-- RingHand$Reader.rule([Ljava/lang/String;)LRingHand$Form; -/
def X5_rule (a0 : Nat) (a1 : Nat) (g : GS) : Option (((Nat ⊕ (Nat × Nat)) × GS) × Nat × Nat) :=
  wk_ g a0 4 <|
  tc_ (X5_expression a0 0 (pR g a0 7 (a1 + 1))) (fun e5 g4 => some ((.inr e5, g4), 0, 0)) fun r3 g4 =>
  some ((.inl r3, g4), 0, 0)
def X5_move_j54 (a0 : Nat) (t0 : Int32) (g : GS) : Option (((Unit ⊕ (Nat × Nat)) × GS) × Nat × Nat) :=
  wk_ g a0 4 <|
  nn_ (gR g a0 1) fun b30 =>
  nn_ (gR g a0 1) fun b32 =>
  wk_ g b32 2 <|
  tc_ (X5_number a0 1 (jmin_ 99 (600 - (gI g b32 6))) g) (fun e38 g37 => some ((.inr e38, g37), 0, 0)) fun r36 g37 =>
  wk_ g37 b30 2 <|
  ca_ (X2_go b30 t0 r36 g37) fun r44 g43 =>
  some ((.inl (), g43), 0, 0)
def X5_move_j23 (a0 : Nat) (x1 : Int32) (t0 : Nat) (t1 : Int32) (g : GS) : Option (((Unit ⊕ (Nat × Nat)) × GS) × Nat × Nat) :=
  wk_ g t0 4 <|
  tc_ (X5_want t0 t1 2 g) (fun e15 g14 => some ((.inr e15, g14), 0, 0)) fun r13 g14 =>
  wk_ g14 a0 4 <|
  ob_ (X5_next a0 g14) fun g20 =>
  if x1 = 0 then
  wk_ g20 a0 4 <|
    tc_ (X5_number a0 12 480 g20) (fun e26 g25 => some ((.inr e26, g25), 0, 0)) fun r24 g25 =>
    X5_move_j54 a0 r24 g25
else
  wk_ g20 a0 4 <|
    nn_ (gR g20 a0 1) fun b48 =>
    wk_ g20 b48 2 <|
    ob_ (X2_end b48 g20) fun r52 =>
    X5_move_j54 a0 r52 g20
/-- RingHand$Reader.move(Z)V -/
def X5_move (a0 : Nat) (x1 : Int32) (g : GS) : Option (((Unit ⊕ (Nat × Nat)) × GS) × Nat × Nat) :=
  wk_ g a0 4 <|
  nn_ (gR g a0 1) fun b2 =>
  wk_ g b2 2 <|
  nn_ (gR g b2 0) fun b5 =>
  wk_ g b5 12 <|
  ob_ (J2_size b5 g) fun r9 =>
  if 12 ≤ r9 then
  X5_move_j23 a0 x1 a0 0 g
else
  X5_move_j23 a0 x1 a0 1 g
def X5_change_j76 (x1 : Int32) (t0 : Nat) (t1 : Nat) (t2 : Nat) (t3 : Int32) (t4 : Nat) (t5 : Int32) (g : GS) : Option (((Unit ⊕ (Nat × Nat)) × GS) × Nat × Nat) :=
  wk_ g t4 4 <|
  tc_ (X5_number t4 t5 600 g) (fun e48 g47 => some ((.inr e48, g47), 0, 0)) fun r46 g47 =>
  wk_ g47 t2 100 <|
  in_ t3 (gN g47 t2) <|
  wk_ (pI g47 t2 t3.toNatClampNeg r46) t1 100 <|
  in_ 1 (gN (pI g47 t2 t3.toNatClampNeg r46) t1) <|
  wk_ (pI (pI g47 t2 t3.toNatClampNeg r46) t1 (1 : Int32).toNatClampNeg x1) t0 12 <|
  ca_ (J2_add t0 t1 (pI (pI g47 t2 t3.toNatClampNeg r46) t1 (1 : Int32).toNatClampNeg x1)) fun r58 g57 =>
  some ((.inl (), g57), 0, 0)
def X5_change_j25 (a0 : Nat) (x1 : Int32) (x2 : Int32) (t0 : Nat) (t1 : Int32) (g : GS) : Option (((Unit ⊕ (Nat × Nat)) × GS) × Nat × Nat) :=
  wk_ g t0 4 <|
  tc_ (X5_want t0 t1 2 g) (fun e15 g14 => some ((.inr e15, g14), 0, 0)) fun r13 g14 =>
  wk_ g14 a0 4 <|
  ob_ (X5_next a0 g14) fun g20 =>
  wk_ g20 a0 4 <|
  nn_ (gR g20 a0 1) fun b22 =>
  wk_ g20 b22 2 <|
  nn_ (gR g20 b22 1) fun b25 =>
  na_ 2 <|
  al_ g20 100 ((2 : Int32).toNatClampNeg) fun u27 g28 =>
  if x2 = 0 then
  X5_change_j76 x1 b25 u27 u27 0 a0 1 g28
else
  wk_ g28 a0 4 <|
    nn_ (gR g28 a0 1) fun b34 =>
    wk_ g28 b34 2 <|
    nn_ (gR g28 b34 1) fun b37 =>
    wk_ g28 b37 12 <|
    ob_ (J2_get b37 (x2 - 1) g28) fun r41 =>
    rk_ g28 r41 100 <|
    in_ 0 (gN g28 r41) <|
    X5_change_j76 x1 b25 u27 u27 0 a0 ((gI g28 r41 (0 : Int32).toNatClampNeg) + 1) g28
/-- RingHand$Reader.change(I)V -/
def X5_change (a0 : Nat) (x1 : Int32) (g : GS) : Option (((Unit ⊕ (Nat × Nat)) × GS) × Nat × Nat) :=
  wk_ g a0 4 <|
  nn_ (gR g a0 1) fun b2 =>
  wk_ g b2 2 <|
  nn_ (gR g b2 1) fun b5 =>
  wk_ g b5 12 <|
  ob_ (J2_size b5 g) fun r9 =>
  if 6 ≤ r9 then
  X5_change_j25 a0 x1 r9 a0 0 g
else
  X5_change_j25 a0 x1 r9 a0 1 g
def X5_mark_j66 (a0 : Nat) (x1 : Int32) (t0 : Nat) (t1 : Int32) (g : GS) : Option (((Unit ⊕ (Nat × Nat)) × GS) × Nat × Nat) :=
  wk_ g t0 4 <|
  tc_ (X5_want t0 t1 4 g) (fun e47 g46 => some ((.inr e47, g46), 0, 0)) fun r45 g46 =>
  wk_ g46 a0 4 <|
  ob_ (X5_next a0 g46) fun g52 =>
  wk_ g52 a0 4 <|
  nn_ (gR g52 a0 2) fun b54 =>
  wk_ g52 b54 3 <|
  nn_ (gR g52 b54 6) fun b57 =>
  ca_ (J19_valueOf x1 g52) fun r61 g60 =>
  wk_ g60 b57 12 <|
  ca_ (J2_add b57 r61 g60) fun r67 g66 =>
  some ((.inl (), g66), 0, 0)
def X5_mark_j23 (a0 : Nat) (t0 : Nat) (t1 : Int32) (g : GS) : Option (((Unit ⊕ (Nat × Nat)) × GS) × Nat × Nat) :=
  wk_ g t0 4 <|
  tc_ (X5_want t0 t1 2 g) (fun e15 g14 => some ((.inr e15, g14), 0, 0)) fun r13 g14 =>
  wk_ g14 a0 4 <|
  ob_ (X5_next a0 g14) fun g20 =>
  wk_ g20 a0 4 <|
  tc_ (X5_numberNow a0 12 480 g20) (fun e25 g24 => some ((.inr e25, g24), 0, 0)) fun r23 g24 =>
  wk_ g24 a0 4 <|
  nn_ (gR g24 a0 2) fun b29 =>
  wk_ g24 b29 3 <|
  nn_ (gR g24 b29 6) fun b32 =>
  ca_ (J19_valueOf r23 g24) fun r36 g35 =>
  wk_ g35 b32 12 <|
  ob_ (J2_contains b32 r36 g35) fun r41 =>
  if r41 = 0 then
  X5_mark_j66 a0 r23 a0 1 g35
else
  X5_mark_j66 a0 r23 a0 0 g35
/-- RingHand$Reader.mark()V -/
def X5_mark (a0 : Nat) (g : GS) : Option (((Unit ⊕ (Nat × Nat)) × GS) × Nat × Nat) :=
  wk_ g a0 4 <|
  nn_ (gR g a0 2) fun b2 =>
  wk_ g b2 3 <|
  nn_ (gR g b2 6) fun b5 =>
  wk_ g b5 12 <|
  ob_ (J2_size b5 g) fun r9 =>
  if 6 ≤ r9 then
  X5_mark_j23 a0 a0 0 g
else
  X5_mark_j23 a0 a0 1 g
def X5_eye_j37 (t0 : Nat) (t1 : Int32) (g : GS) : Option (((Unit ⊕ (Nat × Nat)) × GS) × Nat × Nat) :=
  wk_ g t0 3 <|
  some ((.inl (), pI g t0 3 t1), 0, 0)
def X5_eye_j15 (a0 : Nat) (x1 : Int32) (g : GS) : Option (((Unit ⊕ (Nat × Nat)) × GS) × Nat × Nat) :=
  wk_ g a0 4 <|
  tc_ (X5_number a0 0 30 g) (fun e9 g8 => some ((.inr e9, g8), 0, 0)) fun r7 g8 =>
  wk_ g8 a0 4 <|
  nn_ (gR g8 a0 2) fun b13 =>
  if x1 = 0 then
  X5_eye_j37 b13 r7 g8
else
  X5_eye_j37 b13 (-r7) g8
/-- RingHand$Reader.eye()V -/
def X5_eye (a0 : Nat) (g : GS) : Option (((Unit ⊕ (Nat × Nat)) × GS) × Nat × Nat) :=
  wk_ g a0 4 <|
  ob_ (X5_isSign a0 45 g) fun r3 =>
  if r3 = 0 then
  X5_eye_j15 a0 r3 g
else
  ob_ (X5_next a0 g) fun g18 =>
    X5_eye_j15 a0 r3 g18
def X5_only_j17 (a0 : Nat) (x1 : Int32) (t0 : Nat) (t1 : Int32) (g : GS) : Option (((Unit ⊕ (Nat × Nat)) × GS) × Nat × Nat) :=
  wk_ g t0 4 <|
  tc_ (X5_want t0 t1 5 g) (fun e7 g6 => some ((.inr e7, g6), 0, 0)) fun r5 g6 =>
  wk_ g6 a0 4 <|
  ob_ (X5_next a0 (pI g6 a0 13 ((gI g6 a0 13) ||| (1 <<< (x1 &&& 31))))) fun g12 =>
  if x1 = 0 then
  wk_ g12 a0 4 <|
    nn_ (gR g12 a0 2) fun b15 =>
    tc_ (X5_number a0 0 200 g12) (fun e20 g19 => some ((.inr e20, g19), 0, 0)) fun r18 g19 =>
    wk_ g19 b15 3 <|
    some ((.inl (), pI g19 b15 5 r18), 0, 0)
else
  if x1 = 1 then
    wk_ g12 a0 4 <|
      nn_ (gR g12 a0 2) fun b26 =>
      tc_ (X5_number a0 1 60 g12) (fun e31 g30 => some ((.inr e31, g30), 0, 0)) fun r29 g30 =>
      wk_ g30 b26 3 <|
      some ((.inl (), pI g30 b26 0 r29), 0, 0)
  else
    if x1 = 2 then
      wk_ g12 a0 4 <|
        nn_ (gR g12 a0 2) fun b37 =>
        tc_ (X5_number a0 0 24 g12) (fun e42 g41 => some ((.inr e42, g41), 0, 0)) fun r40 g41 =>
        wk_ g41 b37 3 <|
        some ((.inl (), pI g41 b37 1 r40), 0, 0)
    else
      if x1 = 3 then
        wk_ g12 a0 4 <|
          nn_ (gR g12 a0 2) fun b48 =>
          tc_ (X5_number a0 1 90 g12) (fun e53 g52 => some ((.inr e53, g52), 0, 0)) fun r51 g52 =>
          wk_ g52 b48 3 <|
          some ((.inl (), pI g52 b48 2 r51), 0, 0)
      else
        if x1 = 4 then
          wk_ g12 a0 4 <|
            tc_ (X5_eye a0 g12) (fun e62 g61 => some ((.inr e62, g61), 0, 0)) fun r60 g61 =>
            some ((.inl (), g61), 0, 0)
        else
          if x1 = 5 then
            wk_ g12 a0 4 <|
              nn_ (gR g12 a0 1) fun b67 =>
              nn_ (gR g12 a0 4) fun b69 =>
              tc_ (X5_rule a0 b69 g12) (fun e74 g73 => some ((.inr e74, g73), 0, 0)) fun r72 g73 =>
              wk_ g73 b67 2 <|
              some ((.inl (), pR g73 b67 3 (r72 + 1)), 0, 0)
          else
            wk_ g12 a0 4 <|
              nn_ (gR g12 a0 1) fun b79 =>
              nn_ (gR g12 a0 5) fun b81 =>
              tc_ (X5_rule a0 b81 g12) (fun e86 g85 => some ((.inr e86, g85), 0, 0)) fun r84 g85 =>
              wk_ g85 b79 2 <|
              some ((.inl (), pR g85 b79 4 (r84 + 1)), 0, 0)
/-- RingHand$Reader.only(I)V -/
def X5_only (a0 : Nat) (x1 : Int32) (g : GS) : Option (((Unit ⊕ (Nat × Nat)) × GS) × Nat × Nat) :=
  wk_ g a0 4 <|
  if (((gI g a0 13) >>> (x1 &&& 31)) &&& 1) = 0 then
  X5_only_j17 a0 x1 a0 1 g
else
  X5_only_j17 a0 x1 a0 0 g
def X5_line_j173 (a0 : Nat) (g : GS) : Option (((Unit ⊕ (Nat × Nat)) × GS) × Nat × Nat) :=
  wk_ g a0 4 <|
  ob_ (X5_isSign a0 59 g) fun r72 =>
  tc_ (X5_want a0 r72 1 g) (fun e76 g75 => some ((.inr e76, g75), 0, 0)) fun r74 g75 =>
  wk_ g75 a0 4 <|
  ob_ (X5_next a0 g75) fun g81 =>
  some ((.inl (), g81), 0, 0)
def X5_line_j144 (a0 : Nat) (t0 : Nat) (t1 : Int32) (g : GS) : Option (((Unit ⊕ (Nat × Nat)) × GS) × Nat × Nat) :=
  wk_ g t0 4 <|
  tc_ (X5_want t0 t1 2 g) (fun e44 g43 => some ((.inr e44, g43), 0, 0)) fun r42 g43 =>
  wk_ g43 a0 4 <|
  ob_ (X5_next a0 g43) fun g49 =>
  wk_ g49 a0 4 <|
  nn_ (gR g49 a0 1) fun b51 =>
  wk_ g49 b51 2 <|
  nn_ (gR g49 b51 2) fun b54 =>
  nn_ (gR g49 a0 6) fun b56 =>
  tc_ (X5_rule a0 b56 g49) (fun e61 g60 => some ((.inr e61, g60), 0, 0)) fun r59 g60 =>
  wk_ g60 b54 12 <|
  ca_ (J2_add b54 r59 g60) fun r67 g66 =>
  X5_line_j173 a0 g66
/-- RingHand$Reader.line()V -/
def X5_line (a0 : Nat) (g : GS) : Option (((Unit ⊕ (Nat × Nat)) × GS) × Nat × Nat) :=
  wk_ g a0 4 <|
  nn_ (gR g a0 3) fun b2 =>
  ob_ (X5_which a0 b2 g) fun r5 =>
  if r5 = (-1) then
  ob_ (X5_is a0 (gS g 27) g) fun r8 =>
    if r8 = 0 then
    ob_ (X5_is a0 (gS g 28) g) fun r11 =>
      if r11 = 0 then
      ob_ (X5_is a0 (gS g 29) g) fun r14 =>
        if r14 = 0 then
        ob_ (X5_is a0 (gS g 30) g) fun r17 =>
          if r17 = 0 then
          ob_ (X5_is a0 (gS g 22) g) fun r20 =>
            if r20 = 0 then
            ob_ (X5_is a0 (gS g 31) g) fun r23 =>
              tc_ (X5_want a0 r23 1 g) (fun e27 g26 => some ((.inr e27, g26), 0, 0)) fun r25 g26 =>
              wk_ g26 a0 4 <|
              nn_ (gR g26 a0 1) fun b31 =>
              wk_ g26 b31 2 <|
              nn_ (gR g26 b31 2) fun b34 =>
              wk_ g26 b34 12 <|
              ob_ (J2_size b34 g26) fun r38 =>
              if 4 ≤ r38 then
              X5_line_j144 a0 a0 0 g26
            else
              X5_line_j144 a0 a0 1 g26
          else
            tc_ (X5_mark a0 g) (fun e85 g84 => some ((.inr e85, g84), 0, 0)) fun r83 g84 =>
              X5_line_j173 a0 g84
        else
          tc_ (X5_change a0 0 g) (fun e91 g90 => some ((.inr e91, g90), 0, 0)) fun r89 g90 =>
            X5_line_j173 a0 g90
      else
        tc_ (X5_change a0 1 g) (fun e97 g96 => some ((.inr e97, g96), 0, 0)) fun r95 g96 =>
          X5_line_j173 a0 g96
    else
      tc_ (X5_move a0 1 g) (fun e103 g102 => some ((.inr e103, g102), 0, 0)) fun r101 g102 =>
        X5_line_j173 a0 g102
  else
    tc_ (X5_move a0 0 g) (fun e109 g108 => some ((.inr e109, g108), 0, 0)) fun r107 g108 =>
      X5_line_j173 a0 g108
else
  tc_ (X5_only a0 r5 g) (fun e115 g114 => some ((.inr e115, g114), 0, 0)) fun r113 g114 =>
    X5_line_j173 a0 g114
def X5_read_b45 (a0 : Nat) (g : GS) : Option (((GS) ⊕ (((GS) ⊕ ((Nat × Nat) × GS)))) × Nat × Nat) :=
  wk_ g a0 4 <|
  if (gI g a0 9) = 0 then
  some (.inr (.inl g), 0, 0)
else
  tc_ (X5_line a0 g) (fun e14 g13 => some (.inr (.inr (e14, g13)), 0, 0)) fun r12 g13 =>
    some (.inl g13, 0, 0)
def X5_read_j83 (a0 : Nat) (t0 : Nat) (t1 : Int32) (g : GS) : Option (((Nat ⊕ (Nat × Nat)) × GS) × Nat × Nat) :=
  wk_ g t0 3 <|
  wk_ (pI g t0 4 t1) a0 4 <|
  nn_ (gR (pI g t0 4 t1) a0 1) fun b34 =>
  some ((.inl b34, pI g t0 4 t1), 0, 0)
def X5_read_j45 (a0 : Nat) (g : GS) : Option (((Nat ⊕ (Nat × Nat)) × GS) × Nat × Nat) :=
  oa_ (la_ (fun a => X5_read_b45 a0 a) fu_ g) fun e17 =>
  Sum.elim (fun e17a => wk_ e17a a0 4 <|
  nn_ (gR e17a a0 2) fun b21 =>
  nn_ (gR e17a a0 1) fun b23 =>
  wk_ e17a b23 2 <|
  nn_ (gR e17a b23 2) fun b26 =>
  wk_ e17a b26 12 <|
  ob_ (J2_isEmpty b26 e17a) fun r30 =>
  if r30 = 0 then
  X5_read_j83 a0 b21 0 e17a
else
  X5_read_j83 a0 b21 (-1) e17a) (fun e17b => some ((.inr e17b.1, e17b.2), 0, 0)) e17
/-- RingHand$Reader.read()LRingHand$Scene; -/
def X5_read (a0 : Nat) (g : GS) : Option (((Nat ⊕ (Nat × Nat)) × GS) × Nat × Nat) :=
  wk_ g a0 4 <|
  ob_ (X5_next a0 g) fun g3 =>
  wk_ g3 a0 4 <|
  cb_ (X5_passes a0 (gS g3 32) g3) fun r7 g6 =>
  if r7 = 0 then
  X5_read_j45 a0 g6
else
  wk_ g6 a0 4 <|
    nn_ (gR g6 a0 1) fun b37 =>
    tc_ (X5_number a0 12 480 g6) (fun e42 g41 => some ((.inr e42, g41), 0, 0)) fun r40 g41 =>
    wk_ g41 b37 2 <|
    wk_ (pI g41 b37 5 r40) a0 4 <|
    ob_ (X5_isSign a0 59 (pI g41 b37 5 r40)) fun r48 =>
    tc_ (X5_want a0 r48 1 (pI g41 b37 5 r40)) (fun e52 g51 => some ((.inr e52, g51), 0, 0)) fun r50 g51 =>
    wk_ g51 a0 4 <|
    ob_ (X5_next a0 g51) fun g57 =>
    X5_read_j45 a0 g57

/-! PURE, printed out of the bytecode by wip/D-98610w/gen/comp.py -/
set_option maxRecDepth 100000

def X1_scene_j17 (a0 : Nat) (x1 : Int32) (t0 : Int32) (g : GS) : Option (((Int32 ⊕ (Nat × Nat)) × GS) × Nat × Nat) :=
  tc_ (X1_right t0 g) (fun e5 g4 => some ((.inr e5, g4), 0, 0)) fun r3 g4 =>
  wk_ g4 a0 1 <|
  al_ (pI (pI g4 a0 4 0) a0 5 (-1)) 4 15 fun u9 g10 =>
  ca_ (X5_init u9 a0 x1 g10) fun r15 g14 =>
  wk_ g14 u9 4 <|
  tc_ (X5_read u9 g14) (fun e22 g21 => gd_ (decide (e22.1 = 3)) <|
  wk_ g21 u9 4 <|
  wk_ g21 a0 1 <|
  nn_ (gR (pI g21 a0 5 (gI g21 u9 10)) a0 6) fun b27 =>
  rk_ (pI g21 a0 5 (gI g21 u9 10)) b27 100 <|
  in_ 0 (gN (pI g21 a0 5 (gI g21 u9 10)) b27) <|
  wk_ (pI g21 a0 5 (gI g21 u9 10)) b27 100 <|
  in_ 0 (gN (pI g21 a0 5 (gI g21 u9 10)) b27) <|
  nm_ (pI (pI g21 a0 5 (gI g21 u9 10)) b27 (0 : Int32).toNatClampNeg ((gI (pI g21 a0 5 (gI g21 u9 10)) b27 (0 : Int32).toNatClampNeg) + 1)) fun g33 =>
  wk_ g33 e22.2 5 <|
  some ((.inl (gI g33 e22.2 6), g33), 0, 0)) fun r20 g21 =>
  wk_ g21 a0 1 <|
  wk_ (pR g21 a0 0 (r20 + 1)) u9 4 <|
  nn_ (gR (pR g21 a0 0 (r20 + 1)) u9 2) fun b41 =>
  al_ (pR (pR g21 a0 0 (r20 + 1)) a0 1 (b41 + 1)) 12 3 fun u43 g44 =>
  ob_ (J2_init u43 g44) fun g48 =>
  wk_ g48 a0 1 <|
  al_ (pR g48 a0 7 (u43 + 1)) 12 3 fun u50 g51 =>
  ob_ (J2_init u50 g51) fun g55 =>
  wk_ g55 a0 1 <|
  al_ (pR g55 a0 8 (u50 + 1)) 12 3 fun u57 g58 =>
  ob_ (J2_init u57 g58) fun g62 =>
  wk_ g62 a0 1 <|
  some ((.inl 0, pR (pR (pR g62 a0 9 (u57 + 1)) a0 10 0) a0 11 0), 0, 0)
def X1_scene_j16 (a0 : Nat) (x1 : Int32) (g : GS) : Option (((Int32 ⊕ (Nat × Nat)) × GS) × Nat × Nat) :=
  X1_scene_j17 a0 x1 0 g
/-- RingHand.scene(I)I -/
def X1_scene (a0 : Nat) (x1 : Int32) (g : GS) : Option (((Int32 ⊕ (Nat × Nat)) × GS) × Nat × Nat) :=
  if x1 < 0 then
  X1_scene_j16 a0 x1 g
else
  wk_ g a0 1 <|
    if (gI g a0 4) < x1 then
    X1_scene_j16 a0 x1 g
  else
    X1_scene_j17 a0 x1 1 g

/-! PURE, printed out of the bytecode by wip/D-98610w/gen/comp.py -/
set_option maxRecDepth 100000

/-- RingHandLaw.all(LRingHand;I[J)I -/
def X0_all (a0 : Nat) (x1 : Int32) (a2 : Nat) (g : GS) : Option ((Int32 × GS) × Nat × Nat) :=
  wk_ g a0 1 <|
  tc_ (X1_all a0 x1 g) (fun e5 g4 => gd_ (decide (e5.1 = 1)) <|
  some ((1, g4), 0, 0)) fun r3 g4 =>
  wk_ g4 a2 106 <|
  in_ 0 (gN g4 a2) <|
  some ((0, pI g4 a2 (0 : Int32).toNatClampNeg r3), 0, 0)
/-- RingHandLaw.best(LRingHand;I[J)I -/
def X0_best (a0 : Nat) (x1 : Int32) (a2 : Nat) (g : GS) : Option ((Int32 × GS) × Nat × Nat) :=
  wk_ g a0 1 <|
  tc_ (X1_best a0 x1 g) (fun e5 g4 => gd_ (decide (e5.1 = 1)) <|
  some ((1, g4), 0, 0)) fun r3 g4 =>
  wk_ g4 a2 106 <|
  in_ 0 (gN g4 a2) <|
  some ((0, pI g4 a2 (0 : Int32).toNatClampNeg r3), 0, 0)
/-- RingHandLaw.chalk(LRingHand;II[J)I -/
def X0_chalk (a0 : Nat) (x1 : Int32) (x2 : Int32) (a3 : Nat) (g : GS) : Option ((Int32 × GS) × Nat × Nat) :=
  wk_ g a0 1 <|
  tc_ (X1_chalk a0 x1 x2 g) (fun e5 g4 => gd_ (decide (e5.1 = 1)) <|
  some ((1, g4), 0, 0)) fun r3 g4 =>
  wk_ g4 a3 106 <|
  in_ 0 (gN g4 a3) <|
  some ((0, pI g4 a3 (0 : Int32).toNatClampNeg r3), 0, 0)
/-- RingHandLaw.count(LRingHand;I[J)I -/
def X0_count (a0 : Nat) (x1 : Int32) (a2 : Nat) (g : GS) : Option ((Int32 × GS) × Nat × Nat) :=
  wk_ g a0 1 <|
  tc_ (X1_count a0 x1 g) (fun e5 g4 => gd_ (decide (e5.1 = 1)) <|
  some ((1, g4), 0, 0)) fun r3 g4 =>
  wk_ g4 a2 106 <|
  in_ 0 (gN g4 a2) <|
  some ((0, pI g4 a2 (0 : Int32).toNatClampNeg r3), 0, 0)
/-- RingHandLaw.depth(LRingHand;II[J)I -/
def X0_depth (a0 : Nat) (x1 : Int32) (x2 : Int32) (a3 : Nat) (g : GS) : Option ((Int32 × GS) × Nat × Nat) :=
  wk_ g a0 1 <|
  tc_ (X1_depth a0 x1 x2 g) (fun e5 g4 => if e5.1 = 1 then some ((1, g4), 0, 0) else gd_ (decide (e5.1 = 2)) <|
  some ((2, g4), 0, 0)) fun r3 g4 =>
  wk_ g4 a3 106 <|
  in_ 0 (gN g4 a3) <|
  some ((0, pI g4 a3 (0 : Int32).toNatClampNeg r3), 0, 0)
/-- RingHandLaw.fits(LRingHand;I[J)I -/
def X0_fits (a0 : Nat) (x1 : Int32) (a2 : Nat) (g : GS) : Option ((Int32 × GS) × Nat × Nat) :=
  wk_ g a0 1 <|
  tc_ (X1_fits a0 x1 g) (fun e5 g4 => gd_ (decide (e5.1 = 1)) <|
  some ((1, g4), 0, 0)) fun r3 g4 =>
  wk_ g4 a2 106 <|
  in_ 0 (gN g4 a2) <|
  some ((0, pI g4 a2 (0 : Int32).toNatClampNeg r3), 0, 0)
/-- RingHandLaw.foretell(LRingHand;I[J)I -/
def X0_foretell (a0 : Nat) (x1 : Int32) (a2 : Nat) (g : GS) : Option ((Int32 × GS) × Nat × Nat) :=
  wk_ g a0 1 <|
  tc_ (X1_foretell a0 x1 g) (fun e5 g4 => gd_ (decide (e5.1 = 1)) <|
  some ((1, g4), 0, 0)) fun r3 g4 =>
  wk_ g4 a2 106 <|
  in_ 0 (gN g4 a2) <|
  some ((0, pI g4 a2 (0 : Int32).toNatClampNeg r3), 0, 0)
/-- RingHandLaw.holes(LRingHand;I[J)I -/
def X0_holes (a0 : Nat) (x1 : Int32) (a2 : Nat) (g : GS) : Option ((Int32 × GS) × Nat × Nat) :=
  wk_ g a0 1 <|
  tc_ (X1_holes a0 x1 g) (fun e5 g4 => gd_ (decide (e5.1 = 2)) <|
  some ((1, g4), 0, 0)) fun r3 g4 =>
  wk_ g4 a2 106 <|
  in_ 0 (gN g4 a2) <|
  some ((0, pI g4 a2 (0 : Int32).toNatClampNeg r3), 0, 0)
/-- RingHandLaw.inches(LRingHand;II[J)I -/
def X0_inches (a0 : Nat) (x1 : Int32) (x2 : Int32) (a3 : Nat) (g : GS) : Option ((Int32 × GS) × Nat × Nat) :=
  wk_ g a0 1 <|
  tc_ (X1_inches a0 x1 x2 g) (fun e5 g4 => gd_ (decide (e5.1 = 1)) <|
  some ((1, g4), 0, 0)) fun r3 g4 =>
  wk_ g4 a3 106 <|
  in_ 0 (gN g4 a3) <|
  some ((0, pI g4 a3 (0 : Int32).toNatClampNeg r3), 0, 0)
/-- RingHandLaw.kept(LRingHand;I[J)I -/
def X0_kept (a0 : Nat) (x1 : Int32) (a2 : Nat) (g : GS) : Option ((Int32 × GS) × Nat × Nat) :=
  wk_ g a0 1 <|
  tc_ (X1_kept_2 a0 x1 g) (fun e5 g4 => gd_ (decide (e5.1 = 1)) <|
  some ((1, g4), 0, 0)) fun r3 g4 =>
  wk_ g4 a2 106 <|
  in_ 0 (gN g4 a2) <|
  some ((0, pI g4 a2 (0 : Int32).toNatClampNeg r3), 0, 0)
/-- RingHandLaw.lags(LRingHand;I[J)I -/
def X0_lags (a0 : Nat) (x1 : Int32) (a2 : Nat) (g : GS) : Option ((Int32 × GS) × Nat × Nat) :=
  wk_ g a0 1 <|
  tc_ (X1_lags a0 x1 g) (fun e5 g4 => gd_ (decide (e5.1 = 1)) <|
  some ((1, g4), 0, 0)) fun r3 g4 =>
  wk_ g4 a2 106 <|
  in_ 0 (gN g4 a2) <|
  some ((0, pI g4 a2 (0 : Int32).toNatClampNeg r3), 0, 0)
/-- RingHandLaw.light(LRingHand;II[J)I -/
def X0_light (a0 : Nat) (x1 : Int32) (x2 : Int32) (a3 : Nat) (g : GS) : Option ((Int32 × GS) × Nat × Nat) :=
  wk_ g a0 1 <|
  tc_ (X1_light a0 x1 x2 g) (fun e5 g4 => gd_ (decide (e5.1 = 2)) <|
  some ((1, g4), 0, 0)) fun r3 g4 =>
  wk_ g4 a3 106 <|
  in_ 0 (gN g4 a3) <|
  some ((0, pI g4 a3 (0 : Int32).toNatClampNeg r3), 0, 0)
/-- RingHandLaw.mark(LRingHand;I[J)I -/
def X0_mark (a0 : Nat) (x1 : Int32) (a2 : Nat) (g : GS) : Option ((Int32 × GS) × Nat × Nat) :=
  wk_ g a0 1 <|
  tc_ (X1_mark a0 x1 g) (fun e5 g4 => gd_ (decide (e5.1 = 1)) <|
  some ((1, g4), 0, 0)) fun r3 g4 =>
  wk_ g4 a2 106 <|
  in_ 0 (gN g4 a2) <|
  some ((0, pI g4 a2 (0 : Int32).toNatClampNeg r3), 0, 0)
/-- RingHandLaw.marks(LRingHand;I[J)I -/
def X0_marks (a0 : Nat) (x1 : Int32) (a2 : Nat) (g : GS) : Option ((Int32 × GS) × Nat × Nat) :=
  wk_ g a0 1 <|
  tc_ (X1_marks a0 x1 g) (fun e5 g4 => gd_ (decide (e5.1 = 2)) <|
  some ((1, g4), 0, 0)) fun r3 g4 =>
  wk_ g4 a2 106 <|
  in_ 0 (gN g4 a2) <|
  some ((0, pI g4 a2 (0 : Int32).toNatClampNeg r3), 0, 0)
/-- RingHandLaw.middle(LRingHand;I[J)I -/
def X0_middle (a0 : Nat) (x1 : Int32) (a2 : Nat) (g : GS) : Option ((Int32 × GS) × Nat × Nat) :=
  wk_ g a0 1 <|
  tc_ (X1_middle a0 x1 g) (fun e5 g4 => gd_ (decide (e5.1 = 1)) <|
  some ((1, g4), 0, 0)) fun r3 g4 =>
  wk_ g4 a2 106 <|
  in_ 0 (gN g4 a2) <|
  some ((0, pI g4 a2 (0 : Int32).toNatClampNeg r3), 0, 0)
/-- RingHandLaw.next(LRingHand;II[J)I -/
def X0_next (a0 : Nat) (x1 : Int32) (x2 : Int32) (a3 : Nat) (g : GS) : Option ((Int32 × GS) × Nat × Nat) :=
  wk_ g a0 1 <|
  tc_ (X1_next a0 x1 x2 g) (fun e5 g4 => gd_ (decide (e5.1 = 1)) <|
  some ((1, g4), 0, 0)) fun r3 g4 =>
  wk_ g4 a3 106 <|
  in_ 0 (gN g4 a3) <|
  some ((0, pI g4 a3 (0 : Int32).toNatClampNeg r3), 0, 0)
/-- RingHandLaw.quickest(LRingHand;I[J)I -/
def X0_quickest (a0 : Nat) (x1 : Int32) (a2 : Nat) (g : GS) : Option ((Int32 × GS) × Nat × Nat) :=
  wk_ g a0 1 <|
  tc_ (X1_quickest a0 x1 g) (fun e5 g4 => gd_ (decide (e5.1 = 1)) <|
  some ((1, g4), 0, 0)) fun r3 g4 =>
  wk_ g4 a2 106 <|
  in_ 0 (gN g4 a2) <|
  some ((0, pI g4 a2 (0 : Int32).toNatClampNeg r3), 0, 0)
/-- RingHandLaw.runs(LRingHand;II[J)I -/
def X0_runs (a0 : Nat) (x1 : Int32) (x2 : Int32) (a3 : Nat) (g : GS) : Option ((Int32 × GS) × Nat × Nat) :=
  wk_ g a0 1 <|
  tc_ (X1_runs a0 x1 x2 g) (fun e5 g4 => gd_ (decide (e5.1 = 1)) <|
  some ((1, g4), 0, 0)) fun r3 g4 =>
  wk_ g4 a3 106 <|
  in_ 0 (gN g4 a3) <|
  some ((0, pI g4 a3 (0 : Int32).toNatClampNeg r3), 0, 0)
/-- RingHandLaw.see(LRingHand;IZ[J)I -/
def X0_see (a0 : Nat) (x1 : Int32) (x2 : Int32) (a3 : Nat) (g : GS) : Option ((Int32 × GS) × Nat × Nat) :=
  wk_ g a0 1 <|
  tc_ (X1_see a0 x1 x2 g) (fun e5 g4 => gd_ (decide (e5.1 = 1)) <|
  some ((1, g4), 0, 0)) fun r3 g4 =>
  wk_ g4 a3 106 <|
  in_ 0 (gN g4 a3) <|
  some ((0, pI g4 a3 (0 : Int32).toNatClampNeg r3), 0, 0)
/-- RingHandLaw.shift(LRingHand;I[J)I -/
def X0_shift (a0 : Nat) (x1 : Int32) (a2 : Nat) (g : GS) : Option ((Int32 × GS) × Nat × Nat) :=
  wk_ g a0 1 <|
  tc_ (X1_shift a0 x1 g) (fun e5 g4 => gd_ (decide (e5.1 = 1)) <|
  some ((1, g4), 0, 0)) fun r3 g4 =>
  wk_ g4 a2 106 <|
  in_ 0 (gN g4 a2) <|
  some ((0, pI g4 a2 (0 : Int32).toNatClampNeg r3), 0, 0)
/-- RingHandLaw.shots(LRingHand;I[J)I -/
def X0_shots (a0 : Nat) (x1 : Int32) (a2 : Nat) (g : GS) : Option ((Int32 × GS) × Nat × Nat) :=
  wk_ g a0 1 <|
  tc_ (X1_shots a0 x1 g) (fun e5 g4 => gd_ (decide (e5.1 = 2)) <|
  some ((1, g4), 0, 0)) fun r3 g4 =>
  wk_ g4 a2 106 <|
  in_ 0 (gN g4 a2) <|
  some ((0, pI g4 a2 (0 : Int32).toNatClampNeg r3), 0, 0)
/-- RingHandLaw.slip(LRingHand;I[J)I -/
def X0_slip (a0 : Nat) (x1 : Int32) (a2 : Nat) (g : GS) : Option ((Int32 × GS) × Nat × Nat) :=
  wk_ g a0 1 <|
  tc_ (X1_slip a0 x1 g) (fun e5 g4 => gd_ (decide (e5.1 = 1)) <|
  some ((1, g4), 0, 0)) fun r3 g4 =>
  wk_ g4 a2 106 <|
  in_ 0 (gN g4 a2) <|
  some ((0, pI g4 a2 (0 : Int32).toNatClampNeg r3), 0, 0)
/-- RingHandLaw.takes(LRingHand;IIIII[J)I -/
def X0_takes (a0 : Nat) (x1 : Int32) (x2 : Int32) (x3 : Int32) (x4 : Int32) (x5 : Int32) (a6 : Nat) (g : GS) : Option ((Int32 × GS) × Nat × Nat) :=
  wk_ g a0 1 <|
  tc_ (X1_takes a0 x1 x2 x3 x4 x5 g) (fun e5 g4 => if e5.1 = 1 then some ((1, g4), 0, 0) else gd_ (decide (e5.1 = 2)) <|
  some ((2, g4), 0, 0)) fun r3 g4 =>
  wk_ g4 a6 106 <|
  in_ 0 (gN g4 a6) <|
  some ((0, pI g4 a6 (0 : Int32).toNatClampNeg r3), 0, 0)
/-- RingHandLaw.tenth(LRingHand;II[J)I -/
def X0_tenth (a0 : Nat) (x1 : Int32) (x2 : Int32) (a3 : Nat) (g : GS) : Option ((Int32 × GS) × Nat × Nat) :=
  wk_ g a0 1 <|
  tc_ (X1_tenth a0 x1 x2 g) (fun e5 g4 => gd_ (decide (e5.1 = 1)) <|
  some ((1, g4), 0, 0)) fun r3 g4 =>
  wk_ g4 a3 106 <|
  in_ 0 (gN g4 a3) <|
  some ((0, pI g4 a3 (0 : Int32).toNatClampNeg r3), 0, 0)
/-- RingHandLaw.turn(LRingHand;I[J)I -/
def X0_turn (a0 : Nat) (x1 : Int32) (a2 : Nat) (g : GS) : Option ((Int32 × GS) × Nat × Nat) :=
  wk_ g a0 1 <|
  tc_ (X1_turn a0 x1 g) (fun e5 g4 => gd_ (decide (e5.1 = 2)) <|
  some ((1, g4), 0, 0)) fun r3 g4 =>
  wk_ g4 a2 106 <|
  in_ 0 (gN g4 a2) <|
  some ((0, pI g4 a2 (0 : Int32).toNatClampNeg r3), 0, 0)

/-! PURE, printed out of the bytecode by wip/D-98610w/gen/comp.py -/
set_option maxRecDepth 100000

/-- RingHandLaw.scene(LRingHand;I[J)I -/
def X0_scene (a0 : Nat) (x1 : Int32) (a2 : Nat) (g : GS) : Option ((Int32 × GS) × Nat × Nat) :=
  wk_ g a0 1 <|
  tc_ (X1_scene a0 x1 g) (fun e5 g4 => gd_ (decide (e5.1 = 2)) <|
  some ((1, g4), 0, 0)) fun r3 g4 =>
  wk_ g4 a2 106 <|
  in_ 0 (gN g4 a2) <|
  some ((0, pI g4 a2 (0 : Int32).toNatClampNeg r3), 0, 0)

/-! PURE, printed out of the bytecode by wip/D-98610w/gen/comp.py -/
set_option maxRecDepth 100000

/-- RingHandModel.<init>()V -/
def X4_init (a0 : Nat) (g : GS) : Option ((Unit × GS) × Nat × Nat) :=
  wk_ g a0 15 <|
  na_ 12 <|
  al_ (pI (pI (pI g a0 1 120) a0 6 (-1)) a0 7 (-1)) 100 ((12 : Int32).toNatClampNeg) fun u2 g3 =>
  wk_ g3 a0 15 <|
  na_ 12 <|
  al_ (pR g3 a0 8 (u2 + 1)) 100 ((12 : Int32).toNatClampNeg) fun u8 g9 =>
  wk_ g9 a0 15 <|
  na_ 6 <|
  al_ (pR g9 a0 9 (u8 + 1)) 100 ((6 : Int32).toNatClampNeg) fun u14 g15 =>
  wk_ g15 a0 15 <|
  na_ 6 <|
  al_ (pR g15 a0 10 (u14 + 1)) 100 ((6 : Int32).toNatClampNeg) fun u20 g21 =>
  wk_ g21 a0 15 <|
  na_ 4 <|
  al_ (pR g21 a0 11 (u20 + 1)) 100 ((4 : Int32).toNatClampNeg) fun u26 g27 =>
  wk_ g27 a0 15 <|
  na_ 4200 <|
  al_ (pR g27 a0 12 (u26 + 1)) 100 ((4200 : Int32).toNatClampNeg) fun u32 g33 =>
  wk_ g33 a0 15 <|
  na_ 700 <|
  al_ (pR g33 a0 13 (u32 + 1)) 100 ((700 : Int32).toNatClampNeg) fun u38 g39 =>
  wk_ g39 a0 15 <|
  na_ 3 <|
  al_ (pI (pR g39 a0 14 (u38 + 1)) a0 17 (-1)) 100 ((3 : Int32).toNatClampNeg) fun u44 g45 =>
  wk_ g45 a0 15 <|
  na_ 12 <|
  al_ (pR g45 a0 18 (u44 + 1)) 100 ((12 : Int32).toNatClampNeg) fun u50 g51 =>
  wk_ g51 a0 15 <|
  na_ 12 <|
  al_ (pR g51 a0 43 (u50 + 1)) 100 ((12 : Int32).toNatClampNeg) fun u56 g57 =>
  wk_ g57 a0 15 <|
  na_ 6 <|
  al_ (pR g57 a0 44 (u56 + 1)) 100 ((6 : Int32).toNatClampNeg) fun u62 g63 =>
  wk_ g63 a0 15 <|
  na_ 6 <|
  al_ (pR g63 a0 45 (u62 + 1)) 100 ((6 : Int32).toNatClampNeg) fun u68 g69 =>
  wk_ g69 a0 15 <|
  na_ 6 <|
  al_ (pR g69 a0 46 (u68 + 1)) 100 ((6 : Int32).toNatClampNeg) fun u74 g75 =>
  wk_ g75 a0 15 <|
  na_ 6 <|
  al_ (pR g75 a0 47 (u74 + 1)) 100 ((6 : Int32).toNatClampNeg) fun u80 g81 =>
  wk_ g81 a0 15 <|
  na_ 4 <|
  al_ (pR g81 a0 48 (u80 + 1)) 100 ((4 : Int32).toNatClampNeg) fun u86 g87 =>
  wk_ g87 a0 15 <|
  na_ 4200 <|
  al_ (pR g87 a0 49 (u86 + 1)) 100 ((4200 : Int32).toNatClampNeg) fun u92 g93 =>
  wk_ g93 a0 15 <|
  na_ 950 <|
  al_ (pR g93 a0 50 (u92 + 1)) 100 ((950 : Int32).toNatClampNeg) fun u98 g99 =>
  wk_ g99 a0 15 <|
  na_ 9 <|
  al_ (pR g99 a0 51 (u98 + 1)) 102 ((9 : Int32).toNatClampNeg) fun u104 g105 =>
  wk_ g105 a0 15 <|
  na_ 12 <|
  al_ (pR g105 a0 52 (u104 + 1)) 100 ((12 : Int32).toNatClampNeg) fun u110 g111 =>
  in_ 0 (gN g111 u110) <|
  in_ 1 (gN (pI g111 u110 (0 : Int32).toNatClampNeg 3) u110) <|
  in_ 2 (gN (pI (pI g111 u110 (0 : Int32).toNatClampNeg 3) u110 (1 : Int32).toNatClampNeg 2) u110) <|
  nm_ (pI (pI (pI g111 u110 (0 : Int32).toNatClampNeg 3) u110 (1 : Int32).toNatClampNeg 2) u110 (2 : Int32).toNatClampNeg 20) fun g118 =>
  in_ 3 (gN g118 u110) <|
  in_ 4 (gN (pI g118 u110 (3 : Int32).toNatClampNeg 0) u110) <|
  in_ 5 (gN (pI (pI g118 u110 (3 : Int32).toNatClampNeg 0) u110 (4 : Int32).toNatClampNeg 0) u110) <|
  nm_ (pI (pI (pI g118 u110 (3 : Int32).toNatClampNeg 0) u110 (4 : Int32).toNatClampNeg 0) u110 (5 : Int32).toNatClampNeg (-1)) fun g124 =>
  in_ 6 (gN g124 u110) <|
  in_ 7 (gN (pI g124 u110 (6 : Int32).toNatClampNeg 0) u110) <|
  in_ 8 (gN (pI (pI g124 u110 (6 : Int32).toNatClampNeg 0) u110 (7 : Int32).toNatClampNeg 0) u110) <|
  nm_ (pI (pI (pI g124 u110 (6 : Int32).toNatClampNeg 0) u110 (7 : Int32).toNatClampNeg 0) u110 (8 : Int32).toNatClampNeg 0) fun g130 =>
  in_ 9 (gN g130 u110) <|
  in_ 10 (gN (pI g130 u110 (9 : Int32).toNatClampNeg 0) u110) <|
  in_ 11 (gN (pI (pI g130 u110 (9 : Int32).toNatClampNeg 0) u110 (10 : Int32).toNatClampNeg 0) u110) <|
  nm_ (pI (pI (pI g130 u110 (9 : Int32).toNatClampNeg 0) u110 (10 : Int32).toNatClampNeg 0) u110 (11 : Int32).toNatClampNeg 0) fun g136 =>
  wk_ g136 a0 15 <|
  na_ 12 <|
  al_ (pR g136 a0 53 (u110 + 1)) 100 ((12 : Int32).toNatClampNeg) fun u140 g141 =>
  wk_ g141 a0 15 <|
  na_ 80 <|
  al_ (pR g141 a0 54 (u140 + 1)) 100 ((80 : Int32).toNatClampNeg) fun u146 g147 =>
  wk_ g147 a0 15 <|
  na_ 8 <|
  al_ (pR g147 a0 55 (u146 + 1)) 100 ((8 : Int32).toNatClampNeg) fun u152 g153 =>
  wk_ g153 a0 15 <|
  na_ 950 <|
  al_ (pR g153 a0 57 (u152 + 1)) 100 ((950 : Int32).toNatClampNeg) fun u158 g159 =>
  wk_ g159 a0 15 <|
  na_ 601 <|
  al_ (pR g159 a0 58 (u158 + 1)) 100 ((601 : Int32).toNatClampNeg) fun u164 g165 =>
  wk_ g165 a0 15 <|
  na_ 601 <|
  al_ (pR g165 a0 61 (u164 + 1)) 100 ((601 : Int32).toNatClampNeg) fun u170 g171 =>
  wk_ g171 a0 15 <|
  na_ 601 <|
  al_ (pR g171 a0 62 (u170 + 1)) 100 ((601 : Int32).toNatClampNeg) fun u176 g177 =>
  wk_ g177 a0 15 <|
  na_ 3 <|
  al_ (pI (pR g177 a0 63 (u176 + 1)) a0 68 (-1)) 100 ((3 : Int32).toNatClampNeg) fun u182 g183 =>
  wk_ g183 a0 15 <|
  na_ 13 <|
  al_ (pR g183 a0 70 (u182 + 1)) 100 ((13 : Int32).toNatClampNeg) fun u188 g189 =>
  wk_ g189 a0 15 <|
  na_ 3 <|
  al_ (pR g189 a0 71 (u188 + 1)) 100 ((3 : Int32).toNatClampNeg) fun u194 g195 =>
  wk_ g195 a0 15 <|
  na_ 16 <|
  al_ (pR g195 a0 72 (u194 + 1)) 100 ((16 : Int32).toNatClampNeg) fun u200 g201 =>
  wk_ g201 a0 15 <|
  na_ 16 <|
  al_ (pR g201 a0 75 (u200 + 1)) 100 ((16 : Int32).toNatClampNeg) fun u206 g207 =>
  wk_ g207 a0 15 <|
  na_ 12 <|
  al_ (pR g207 a0 77 (u206 + 1)) 100 ((12 : Int32).toNatClampNeg) fun u212 g213 =>
  wk_ g213 a0 15 <|
  na_ 80 <|
  al_ (pR g213 a0 82 (u212 + 1)) 100 ((80 : Int32).toNatClampNeg) fun u218 g219 =>
  wk_ g219 a0 15 <|
  na_ 16 <|
  al_ (pR g219 a0 83 (u218 + 1)) 100 ((16 : Int32).toNatClampNeg) fun u224 g225 =>
  wk_ g225 a0 15 <|
  na_ 16 <|
  al_ (pR g225 a0 84 (u224 + 1)) 100 ((16 : Int32).toNatClampNeg) fun u230 g231 =>
  wk_ g231 a0 15 <|
  some (((), pR g231 a0 85 (u230 + 1)), 0, 0)
