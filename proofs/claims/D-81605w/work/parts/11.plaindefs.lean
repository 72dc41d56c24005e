def fJ15_bitCount (p0 : Int32) : Option (Int32) :=
  some ((((((((p0 - ((p0.toUInt32 >>> ((1 : Int32).toUInt32 &&& Int32.toUInt32 31)).toInt32 &&& 1431655765)) &&& 858993459) + (((p0 - ((p0.toUInt32 >>> ((1 : Int32).toUInt32 &&& Int32.toUInt32 31)).toInt32 &&& 1431655765)).toUInt32 >>> ((2 : Int32).toUInt32 &&& Int32.toUInt32 31)).toInt32 &&& 858993459)) + ((((p0 - ((p0.toUInt32 >>> ((1 : Int32).toUInt32 &&& Int32.toUInt32 31)).toInt32 &&& 1431655765)) &&& 858993459) + (((p0 - ((p0.toUInt32 >>> ((1 : Int32).toUInt32 &&& Int32.toUInt32 31)).toInt32 &&& 1431655765)).toUInt32 >>> ((2 : Int32).toUInt32 &&& Int32.toUInt32 31)).toInt32 &&& 858993459)).toUInt32 >>> ((4 : Int32).toUInt32 &&& Int32.toUInt32 31)).toInt32) &&& 252645135) + ((((((p0 - ((p0.toUInt32 >>> ((1 : Int32).toUInt32 &&& Int32.toUInt32 31)).toInt32 &&& 1431655765)) &&& 858993459) + (((p0 - ((p0.toUInt32 >>> ((1 : Int32).toUInt32 &&& Int32.toUInt32 31)).toInt32 &&& 1431655765)).toUInt32 >>> ((2 : Int32).toUInt32 &&& Int32.toUInt32 31)).toInt32 &&& 858993459)) + ((((p0 - ((p0.toUInt32 >>> ((1 : Int32).toUInt32 &&& Int32.toUInt32 31)).toInt32 &&& 1431655765)) &&& 858993459) + (((p0 - ((p0.toUInt32 >>> ((1 : Int32).toUInt32 &&& Int32.toUInt32 31)).toInt32 &&& 1431655765)).toUInt32 >>> ((2 : Int32).toUInt32 &&& Int32.toUInt32 31)).toInt32 &&& 858993459)).toUInt32 >>> ((4 : Int32).toUInt32 &&& Int32.toUInt32 31)).toInt32) &&& 252645135).toUInt32 >>> ((8 : Int32).toUInt32 &&& Int32.toUInt32 31)).toInt32) + (((((((p0 - ((p0.toUInt32 >>> ((1 : Int32).toUInt32 &&& Int32.toUInt32 31)).toInt32 &&& 1431655765)) &&& 858993459) + (((p0 - ((p0.toUInt32 >>> ((1 : Int32).toUInt32 &&& Int32.toUInt32 31)).toInt32 &&& 1431655765)).toUInt32 >>> ((2 : Int32).toUInt32 &&& Int32.toUInt32 31)).toInt32 &&& 858993459)) + ((((p0 - ((p0.toUInt32 >>> ((1 : Int32).toUInt32 &&& Int32.toUInt32 31)).toInt32 &&& 1431655765)) &&& 858993459) + (((p0 - ((p0.toUInt32 >>> ((1 : Int32).toUInt32 &&& Int32.toUInt32 31)).toInt32 &&& 1431655765)).toUInt32 >>> ((2 : Int32).toUInt32 &&& Int32.toUInt32 31)).toInt32 &&& 858993459)).toUInt32 >>> ((4 : Int32).toUInt32 &&& Int32.toUInt32 31)).toInt32) &&& 252645135) + ((((((p0 - ((p0.toUInt32 >>> ((1 : Int32).toUInt32 &&& Int32.toUInt32 31)).toInt32 &&& 1431655765)) &&& 858993459) + (((p0 - ((p0.toUInt32 >>> ((1 : Int32).toUInt32 &&& Int32.toUInt32 31)).toInt32 &&& 1431655765)).toUInt32 >>> ((2 : Int32).toUInt32 &&& Int32.toUInt32 31)).toInt32 &&& 858993459)) + ((((p0 - ((p0.toUInt32 >>> ((1 : Int32).toUInt32 &&& Int32.toUInt32 31)).toInt32 &&& 1431655765)) &&& 858993459) + (((p0 - ((p0.toUInt32 >>> ((1 : Int32).toUInt32 &&& Int32.toUInt32 31)).toInt32 &&& 1431655765)).toUInt32 >>> ((2 : Int32).toUInt32 &&& Int32.toUInt32 31)).toInt32 &&& 858993459)).toUInt32 >>> ((4 : Int32).toUInt32 &&& Int32.toUInt32 31)).toInt32) &&& 252645135).toUInt32 >>> ((8 : Int32).toUInt32 &&& Int32.toUInt32 31)).toInt32).toUInt32 >>> ((16 : Int32).toUInt32 &&& Int32.toUInt32 31)).toInt32) &&& 63)
def fJ10_checkIndex (p0 : Int32) (p1 : Int32) : Option (Int32) :=
  if p0 < 0 then
    none
  else
    if p0 < p1 then
      some p0
    else
      none
def fJ16_checkIndex (p0 : Int32) (p1 : Int32) : Option (Int32) :=
  (fJ10_checkIndex p0 p1).bind fun q1 =>
  some q1
def fX0_isIn (p0 : Int64) (p2 : Int64) (p4 : Int64) : Option (Int32) :=
  if p0 < p2 then
    some 0
  else
    if p4 < p0 then
      some 0
    else
      some 1
def fX0_has (p0 : Int32) (p1 : Int32) : Option (Int32) :=
  if ((p0 >>> (p1 &&& 31)) &&& 1) = 1 then
    some 1
  else
    some 0
def fX0_isHalf (p0 : Int32) : Option (Int32) :=
  (fX0_isIn p0.toInt64 0 1).bind fun q1 =>
  (gb q1).bind fun g2 =>
  some q1
def fX0_isFar (p0 : Int32) : Option (Int32) :=
  (fX0_isIn p0.toInt64 0 60).bind fun q1 =>
  (gb q1).bind fun g2 =>
  some q1
def fX0_isNear (p0 : Int32) : Option (Int32) :=
  (fX0_isIn p0.toInt64 1 40).bind fun q1 =>
  (gb q1).bind fun g2 =>
  some q1
def fX0_isTold (p0 : Int32) : Option (Int32) :=
  (fX0_isIn p0.toInt64 1 12).bind fun q1 =>
  (gb q1).bind fun g2 =>
  some q1
def fX0_isRow (p0 : Int32) : Option (Int32) :=
  (fX0_isIn p0.toInt64 0 7).bind fun q1 =>
  (gb q1).bind fun g2 =>
  some q1
def fX0_common_b6  (x6 : Int64 × Int64) : Option ((Int64 × Int64) ⊕ (Int64)) :=
  if x6.2 = 0 then
    some (.inr x6.1)
  else
    (gnzL x6.2).bind fun g2 =>
    some (.inl (x6.2, (x6.1 - x6.1 / x6.2 * x6.2)))
def fX0_common (p0 : Int64) (p2 : Int64) : Option (Int64) :=
  (lp (fX0_common_b6) FU (p0, p2)).bind fun r1 =>
  some r1
def fX3_weightBehind (p1 : Int32) : Option (Int32) :=
  some p1
def fX4_kind  : Option (Int32) :=
  some 1
def fX4_heatBehind (p1 : Int32) : Option (Int32) :=
  some (if (0 : Int32) < (p1 - 1) then (p1 - 1) else 0)
def fX4_isGood (p1 : Int32) : Option (Int32) :=
  if p1 < 20 then
    some 0
  else
    some 1
def fX5_kind  : Option (Int32) :=
  some 2
def fX5_weightBehind (p1 : Int32) (p3 : Int32) : Option (Int32) :=
  if p3 = 0 then
    some p1
  else
    some (if (1 : Int32) < (p1 - 1) then (p1 - 1) else 1)
def fX6_kind  : Option (Int32) :=
  some 3
def fX7_kind  : Option (Int32) :=
  some 4
def fX7_heatBehind (p1 : Int32) : Option (Int32) :=
  some (if (p1 + 1) < (60 : Int32) then (p1 + 1) else 60)
def fX7_isGood (p1 : Int32) : Option (Int32) :=
  if 10 < p1 then
    some 0
  else
    some 1
def fX8_kind  : Option (Int32) :=
  some 5
def fX8_weightBehind (p1 : Int32) (p2 : Int32) : Option (Int32) :=
  if p2 < 10 then
    some p1
  else
    some (if (1 : Int32) < (p1 - 1) then (p1 - 1) else 1)
def fX6_heatBehind (p1 : Int32) (p2 : Int32) : Option (Int32) :=
  if (p2 - p2 / 2 * 2) = 0 then
    some p1
  else
    (fX4_heatBehind p1).bind fun q1 =>
    some q1
