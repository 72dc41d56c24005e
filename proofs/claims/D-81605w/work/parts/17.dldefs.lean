def fX0_whereIn (wv : HV) (p1 : Int32) : Option (Int32) :=
  (rd (HHO wv) 6 p1).bind fun v1 =>
  if v1 = 1 then
    some 10
  else
    (rd (HHO wv) 6 p1).bind fun v2 =>
    if v2 = 2 then
      some 11
    else
      (rd (HAT wv) 6 p1).bind fun v3 =>
      some v3
def fX0_isHouse (hv : HV) : Option (Int32) :=
  if (Hfl hv) ≤ 0 then
    some 0
  else
    some 1
def fX0_isDish (ln : Nat → Option Int32) (hv : HV) (p1 : Int32) : Option (Int32) :=
  (gX1_many ln hv).bind fun q1 =>
  (fX0_isIn p1.toInt64 0 ((q1 - 1).toInt64)).bind fun q2 =>
  (gb q2).bind fun g3 =>
  some q2
def fX0_isFloor (hv : HV) (p1 : Int32) : Option (Int32) :=
  (fX0_isIn p1.toInt64 0 (((Hfl hv) - 1).toInt64)).bind fun q1 =>
  (gb q1).bind fun g2 =>
  some q1
def fX0_status (gs : Int32) : Option (Int32) :=
  some gs
def fX0_fault (gf : Int32) : Option (Int32) :=
  some gf
def fX0_well (p1 : Int32) : Option (Int32 × Int32) :=
  some (p1, 0)
def fX0_feed (gt : Int32) (TA : Nat → Int32) (p1 : Int32) : Option (Int32 × Int32 × (Nat → Int32)) :=
  (fX0_isIn p1.toInt64 0 255).bind fun q1 =>
  if q1 = 0 then
    some ((-1000001), gt, TA)
  else
    if gt = 110 then
      some ((-1000003), gt, TA)
    else
      (wrB TA 110 gt p1.toInt8.toInt32).bind fun w2 =>
      some ((gt + 1), (gt + 1), w2)
def fX0_dish (ln : Nat → Option Int32) (lf : Nat → Nat → Option Nat) (dk : Nat → Option Nat) (hv : HV) (p1 : Int32) (p2 : Int32) : Option (Int32) :=
  (fX0_isDish ln hv p1).bind fun q1 =>
  if q1 = 0 then
    some (-1000001)
  else
    if p2 = 0 then
      (fX0_whereIn hv p1).bind fun q2 =>
      some q2
    else
      if p2 = 1 then
        (rd (HTO hv) 6 p1).bind fun v3 =>
        some v3
      else
        if p2 = 2 then
          (rd (HWE hv) 6 p1).bind fun v4 =>
          some v4
        else
          if p2 = 3 then
            (rd (HHE hv) 6 p1).bind fun v5 =>
            some v5
          else
            if p2 = 4 then
              (gX1_dish ln lf dk hv p1).bind fun q6 =>
              (rd (HHE hv) 6 p1).bind fun v7 =>
              (fdish_isGood dk q6 v7).bind fun v8 =>
              if v8 = 0 then
                some 0
              else
                some 1
            else
              some (-1000001)
def fX0_car (ln : Nat → Option Int32) (hv : HV) (p1 : Int32) : Option (Int32) :=
  (fX0_isHouse hv).bind fun q1 =>
  if q1 = 0 then
    some (-1000002)
  else
    if p1 = 0 then
      some (Hfl hv)
    else
      if p1 = 1 then
        some (Hca hv)
      else
        if p1 = 2 then
          some (Hwy hv)
        else
          if p1 = 3 then
            some (Hro hv)
          else
            if p1 = 4 then
              some (Hrp hv)
            else
              if p1 = 5 then
                (gX1_areSo ln hv 1).bind fun q2 =>
                some q2
              else
                if p1 = 6 then
                  (gX1_areSo ln hv 2).bind fun q3 =>
                  some q3
                else
                  if p1 = 7 then
                    (gX1_called ln hv).bind fun q4 =>
                    some q4
                  else
                    if p1 = 8 then
                      (gX1_load ln hv).bind fun q5 =>
                      some q5
                    else
                      some (-1000001)
def fX0_tried (hv : HV) (tv : HV) : Option (HV) :=
  (gX1_become tv hv).bind fun q1 =>
  some q1
def fX0_goOn_b2 (ln : Nat → Option Int32) (lf : Nat → Nat → Option Nat) (dk : Nat → Option Nat) (p1 : Int32) (x2 : Int32 × HV) : Option ((Int32 × HV) ⊕ (HV)) :=
  if p1 ≤ x2.1 then
    some (.inr x2.2)
  else
    (gX1_pass ln lf dk x2.2).bind fun q2 =>
    some (.inl ((x2.1 + 1), q2))
def fX0_goOn (ln : Nat → Option Int32) (lf : Nat → Nat → Option Nat) (dk : Nat → Option Nat) (tv : HV) (p1 : Int32) : Option (HV) :=
  (lp (fX0_goOn_b2 ln lf dk p1) FU (0, tv)).bind fun r1 =>
  some r1
def fX0_ahead (ln : Nat → Option Int32) (lf : Nat → Nat → Option Nat) (dk : Nat → Option Nat) (hv : HV) (tv : HV) (p1 : Int32) (p2 : Int32) (p3 : Int32) : Option (Int32 × HV) :=
  (fX0_isDish ln hv p1).bind fun q1 =>
  if q1 = 0 then
    some ((-1000001), tv)
  else
    (fX0_isFar p2).bind fun q2 =>
    if q2 = 0 then
      some ((-1000001), tv)
    else
      (fX0_isIn p3.toInt64 0 2).bind fun q3 =>
      if q3 = 0 then
        some ((-1000001), tv)
      else
        (fX0_tried hv tv).bind fun q4 =>
        (fX0_goOn ln lf dk q4 p2).bind fun q5 =>
        if p3 = 0 then
          (fX0_whereIn q5 p1).bind fun q6 =>
          some (q6, q5)
        else
          if p3 = 1 then
            (rd (HHE q5) 6 p1).bind fun v7 =>
            some (v7, q5)
          else
            (rd (HWE q5) 6 p1).bind fun v8 =>
            some (v8, q5)
def fX0_later (ln : Nat → Option Int32) (lf : Nat → Nat → Option Nat) (dk : Nat → Option Nat) (hv : HV) (tv : HV) (p1 : Int32) : Option (Int32 × HV) :=
  (fX0_isHouse hv).bind fun q1 =>
  if q1 = 0 then
    some ((-1000002), tv)
  else
    (fX0_isFar p1).bind fun q2 =>
    if q2 = 0 then
      some ((-1000001), tv)
    else
      (fX0_tried hv tv).bind fun q3 =>
      (fX0_goOn ln lf dk q3 p1).bind fun q4 =>
      some ((Hca q4), q4)
def fX0_when_b18 (ln : Nat → Option Int32) (lf : Nat → Nat → Option Nat) (dk : Nat → Option Nat) (p1 : Int32) (x18 : Int32 × HV) : Option ((Int32 × HV) ⊕ (Int32 × HV)) :=
  if 60 < x18.1 then
    some (.inr ((-1000000), x18.2))
  else
    (rd (HHO x18.2) 6 p1).bind fun v3 =>
    if v3 = 2 then
      some (.inr (x18.1, x18.2))
    else
      (gX1_pass ln lf dk x18.2).bind fun q4 =>
      some (.inl ((x18.1 + 1), q4))
def fX0_when (ln : Nat → Option Int32) (lf : Nat → Nat → Option Nat) (dk : Nat → Option Nat) (hv : HV) (tv : HV) (p1 : Int32) : Option (Int32 × HV) :=
  (fX0_isDish ln hv p1).bind fun q1 =>
  if q1 = 0 then
    some ((-1000001), tv)
  else
    (fX0_tried hv tv).bind fun q2 =>
    lp (fX0_when_b18 ln lf dk p1) FU (0, q2)
def fX0_done_b17 (ln : Nat → Option Int32) (lf : Nat → Nat → Option Nat) (dk : Nat → Option Nat) (x17 : Int32 × HV) : Option ((Int32 × HV) ⊕ (Int32 × HV)) :=
  if 60 < x17.1 then
    some (.inr ((-1000000), x17.2))
  else
    (gX1_isDone ln x17.2).bind fun q3 =>
    if q3 = 0 then
      (gX1_pass ln lf dk x17.2).bind fun q4 =>
      some (.inl ((x17.1 + 1), q4))
    else
      some (.inr (x17.1, x17.2))
def fX0_done (ln : Nat → Option Int32) (lf : Nat → Nat → Option Nat) (dk : Nat → Option Nat) (hv : HV) (tv : HV) : Option (Int32 × HV) :=
  (fX0_isHouse hv).bind fun q1 =>
  if q1 = 0 then
    some ((-1000002), tv)
  else
    (fX0_tried hv tv).bind fun q2 =>
    lp (fX0_done_b17 ln lf dk) FU (0, q2)
def fX0_fine (ln : Nat → Option Int32) (lf : Nat → Nat → Option Nat) (dk : Nat → Option Nat) (hv : HV) (tv : HV) (p1 : Int32) : Option (Int32 × HV) :=
  (fX0_isHouse hv).bind fun q1 =>
  if q1 = 0 then
    some ((-1000002), tv)
  else
    (fX0_isFar p1).bind fun q2 =>
    if q2 = 0 then
      some ((-1000001), tv)
    else
      (fX0_tried hv tv).bind fun q3 =>
      (fX0_goOn ln lf dk q3 p1).bind fun q4 =>
      (gX1_fine ln lf dk q4).bind fun q5 =>
      some (q5, q4)
def fX0_site_b35 (ln : Nat → Option Int32) (lf : Nat → Nat → Option Nat) (dk : Nat → Option Nat) (hv : HV) (p1 : Int32) (x35 : Int32 × Int32 × Int32 × HV) : Option ((Int32 × Int32 × Int32 × HV) ⊕ (Int32 × Int32 × HV)) :=
  if (Hfl hv) ≤ x35.2.2.1 then
    some (.inr (x35.1, x35.2.1, x35.2.2.2))
  else
    (fX0_tried hv x35.2.2.2).bind fun q5 =>
    (some (Sca q5 x35.2.2.1)).bind fun b6 =>
    (fX0_goOn ln lf dk b6 p1).bind fun q7 =>
    (gX1_fine ln lf dk q7).bind fun q8 =>
    (fJ15_bitCount q8).bind fun q9 =>
    (if q9 ≤ x35.2.1 then
      some x35.1
    else
      some x35.2.2.1 : Option (Int32)).bind fun j10 =>
    some (.inl (j10, (if x35.2.1 < q9 then q9 else x35.2.1), (x35.2.2.1 + 1), q7))
def fX0_site (ln : Nat → Option Int32) (lf : Nat → Nat → Option Nat) (dk : Nat → Option Nat) (hv : HV) (tv : HV) (p1 : Int32) (p2 : Int32) : Option (Int32 × HV) :=
  (fX0_isHouse hv).bind fun q1 =>
  if q1 = 0 then
    some ((-1000002), tv)
  else
    (fX0_isNear p1).bind fun q2 =>
    if q2 = 0 then
      some ((-1000001), tv)
    else
      (fX0_isHalf p2).bind fun q3 =>
      if q3 = 0 then
        some ((-1000001), tv)
      else
        (lp (fX0_site_b35 ln lf dk hv p1) FU (0, (-1), 0, tv)).bind fun r4 =>
        if p2 = 0 then
          some (r4.1, r4.2.2)
        else
          some (r4.2.1, r4.2.2)
def fX0_need_b29 (ln : Nat → Option Int32) (lf : Nat → Nat → Option Nat) (dk : Nat → Option Nat) (hv : HV) (p1 : Int32) (p2 : Int32) (x29 : Int32 × HV) : Option ((Int32 × HV) ⊕ (Int32 × HV)) :=
  (if p2 = 0 then
    some 4
  else
    some 40 : Option (Int32)).bind fun j4 =>
  if j4 < x29.1 then
    some (.inr ((-1000000), x29.2))
  else
    (fX0_tried hv x29.2).bind fun q5 =>
    (if p2 = 0 then
      some x29.1
    else
      some (Hro q5) : Option (Int32)).bind fun j6 =>
    (some (Sro q5 j6)).bind fun b7 =>
    (if p2 = 1 then
      some x29.1
    else
      some (Hrp b7) : Option (Int32)).bind fun j8 =>
    (some (Srp b7 j8)).bind fun b9 =>
    (fX0_goOn ln lf dk b9 p1).bind fun q10 =>
    (gX1_isDone ln q10).bind fun q11 =>
    if q11 = 0 then
      some (.inl ((x29.1 + 1), q10))
    else
      some (.inr (x29.1, q10))
def fX0_need (ln : Nat → Option Int32) (lf : Nat → Nat → Option Nat) (dk : Nat → Option Nat) (hv : HV) (tv : HV) (p1 : Int32) (p2 : Int32) : Option (Int32 × HV) :=
  (fX0_isHouse hv).bind fun q1 =>
  if q1 = 0 then
    some ((-1000002), tv)
  else
    (fX0_isNear p1).bind fun q2 =>
    if q2 = 0 then
      some ((-1000001), tv)
    else
      (fX0_isHalf p2).bind fun q3 =>
      if q3 = 0 then
        some ((-1000001), tv)
      else
        lp (fX0_need_b29 ln lf dk hv p1 p2) FU (1, tv)
def fX0_swap (LI : Nat → Int32) (p1 : Int32) (p2 : Int32) : Option ((Nat → Int32)) :=
  (rd LI 6 p1).bind fun v1 =>
  (rd LI 6 p2).bind fun v2 =>
  (wr LI 6 p1 v2).bind fun w3 =>
  (wr w3 6 p2 v1).bind fun w4 =>
  some w4
def fX0_isNext_b86  (x86 : Int32 × Int32 × (Nat → Int32)) : Option ((Int32 × Int32 × (Nat → Int32)) ⊕ ((Nat → Int32))) :=
  if x86.2.1 ≤ x86.1 then
    some (.inr x86.2.2)
  else
    (fX0_swap x86.2.2 x86.1 x86.2.1).bind fun q6 =>
    (some (x86.2.1 + (-1))).bind fun z7 =>
    some (.inl ((x86.1 + 1), z7, q6))
def fX0_isNext_b49 (LI : Nat → Int32) (r2 : Int32) (x49 : Int32) : Option ((Int32) ⊕ (Int32)) :=
  (rd LI 6 x49).bind fun v8 =>
  (rd LI 6 r2).bind fun v9 =>
  if v9 ≤ v8 then
    some (.inr x49)
  else
    (some (x49 + (-1))).bind fun z10 =>
    some (.inl z10)
def fX0_isNext_b12 (LI : Nat → Int32) (x12 : Int32) : Option ((Int32) ⊕ (Int32)) :=
  if x12 < 0 then
    some (.inr x12)
  else
    (rd LI 6 x12).bind fun v11 =>
    (rd LI 6 (x12 + 1)).bind fun v12 =>
    if v11 ≤ v12 then
      some (.inr x12)
    else
      (some (x12 + (-1))).bind fun z13 =>
      some (.inl z13)
def fX0_isNext (ln : Nat → Option Int32) (hv : HV) (LI : Nat → Int32) : Option (Int32 × (Nat → Int32)) :=
  (gX1_many ln hv).bind fun q1 =>
  (lp (fX0_isNext_b12 LI) FU (q1 - 2)).bind fun r2 =>
  if 0 ≤ r2 then
    (lp (fX0_isNext_b49 LI r2) FU (q1 - 1)).bind fun r3 =>
    (fX0_swap LI r2 r3).bind fun q4 =>
    (lp (fX0_isNext_b86) FU ((r2 + 1), (q1 - 1), q4)).bind fun r5 =>
    some (1, r5)
  else
    some (0, LI)
def fX0_waited_b27 (ln : Nat → Option Int32) (lf : Nat → Nat → Option Nat) (dk : Nat → Option Nat) (p1 : Int32) (x27 : Int32 × Int32 × HV) : Option ((Int32 × Int32 × HV) ⊕ (Int32 × HV)) :=
  if p1 < x27.2.1 then
    some (.inr (x27.1, x27.2.2))
  else
    (gX1_many ln x27.2.2).bind fun q4 =>
    (gX1_areSo ln x27.2.2 2).bind fun q5 =>
    (fJ15_bitCount q5).bind fun q6 =>
    if p1 ≤ x27.2.1 then
      some (.inl ((x27.1 + (q4 - q6)), (x27.2.1 + 1), x27.2.2))
    else
      (gX1_pass ln lf dk x27.2.2).bind fun q7 =>
      some (.inl ((x27.1 + (q4 - q6)), (x27.2.1 + 1), q7))
def fX0_waited (ln : Nat → Option Int32) (lf : Nat → Nat → Option Nat) (dk : Nat → Option Nat) (hv : HV) (tv : HV) (LI : Nat → Int32) (p1 : Int32) : Option (Int32 × HV) :=
  (fX0_tried hv tv).bind fun q1 =>
  (some (SRA q1 (va_cpy LI (HRA q1) 0 0 6))).bind fun b2 =>
  (lp (fX0_waited_b27 ln lf dk p1) FU (0, 0, b2)).bind fun r3 =>
  some (r3.1, r3.2)
def fX0_ranks_b53 (ln : Nat → Option Int32) (lf : Nat → Nat → Option Nat) (dk : Nat → Option Nat) (hv : HV) (p1 : Int32) (x53 : Int32 × Int32 × (Nat → Int32) × (Nat → Int32) × HV) : Option ((Int32 × Int32 × (Nat → Int32) × (Nat → Int32) × HV) ⊕ (Int32 × (Nat → Int32) × (Nat → Int32) × HV)) :=
  if x53.2.1 = 0 then
    some (.inr (x53.1, x53.2.2.1, x53.2.2.2.1, x53.2.2.2.2))
  else
    (fX0_waited ln lf dk hv x53.2.2.2.2 x53.2.2.1 p1).bind fun q7 =>
    (if x53.1 = (-1000000) then
      some (q7.1, (va_cpy x53.2.2.1 x53.2.2.2.1 0 0 6))
    else
      if x53.1 ≤ q7.1 then
        some (x53.1, x53.2.2.2.1)
      else
        some (q7.1, (va_cpy x53.2.2.1 x53.2.2.2.1 0 0 6)) : Option (Int32 × (Nat → Int32))).bind fun j8 =>
    (fX0_isNext ln hv x53.2.2.1).bind fun q9 =>
    some (.inl (j8.1, q9.1, q9.2, j8.2, q7.2))
def fX0_ranks_b27  (x27 : Int32 × (Nat → Int32)) : Option ((Int32 × (Nat → Int32)) ⊕ ((Nat → Int32))) :=
  if 6 ≤ x27.1 then
    some (.inr x27.2)
  else
    (wr x27.2 6 x27.1 x27.1).bind fun w10 =>
    some (.inl ((x27.1 + 1), w10))
def fX0_ranks (ln : Nat → Option Int32) (lf : Nat → Nat → Option Nat) (dk : Nat → Option Nat) (hv : HV) (tv : HV) (LI : Nat → Int32) (BE : Nat → Int32) (p1 : Int32) (p2 : Int32) : Option (Int32 × (Nat → Int32) × (Nat → Int32) × HV) :=
  (fX0_isHouse hv).bind fun q1 =>
  if q1 = 0 then
    some ((-1000002), LI, BE, tv)
  else
    (fX0_isNear p1).bind fun q2 =>
    if q2 = 0 then
      some ((-1000001), LI, BE, tv)
    else
      if (-1) ≤ p2 then
        (lp (fX0_ranks_b27) FU (0, LI)).bind fun r3 =>
        (lp (fX0_ranks_b53 ln lf dk hv p1) FU ((-1000000), 1, r3, BE, tv)).bind fun r4 =>
        if p2 = (-1) then
          some (r4.1, r4.2.1, r4.2.2.1, r4.2.2.2)
        else
          (fX0_isDish ln hv p2).bind fun q5 =>
          if q5 = 0 then
            some ((-1000000), r4.2.1, r4.2.2.1, r4.2.2.2)
          else
            (rd r4.2.2.1 6 p2).bind fun v6 =>
            some (v6, r4.2.1, r4.2.2.1, r4.2.2.2)
      else
        some ((-1000001), LI, BE, tv)
def fX0_weightOf_b4 (ln : Nat → Option Int32) (hv : HV) (p1 : Int32) (x4 : Int32 × Int32) : Option ((Int32 × Int32) ⊕ (Int32)) :=
  (gX1_many ln hv).bind fun q2 =>
  if q2 ≤ x4.2 then
    some (.inr x4.1)
  else
    (fX0_has p1 x4.2).bind fun q3 =>
    if q3 = 0 then
      some (.inl ((x4.1 + 0), (x4.2 + 1)))
    else
      (rd (HWE hv) 6 x4.2).bind fun v4 =>
      some (.inl ((x4.1 + v4), (x4.2 + 1)))
def fX0_weightOf (ln : Nat → Option Int32) (hv : HV) (p1 : Int32) : Option (Int32) :=
  (lp (fX0_weightOf_b4 ln hv p1) FU (0, 0)).bind fun r1 =>
  some r1
def fX0_holds_b51 (ln : Nat → Option Int32) (hv : HV) (q3 : Int32) (q4 : Int32) (x51 : Int32 × Int32 × Int32) : Option ((Int32 × Int32 × Int32) ⊕ (Int32 × Int32)) :=
  if (q3 ||| q4) < x51.2.2 then
    some (.inr (x51.1, x51.2.1))
  else
    if (x51.2.2 &&& ((q3 ||| q4) ^^^ (-1))) = 0 then
      (fJ15_bitCount x51.2.2).bind fun q7 =>
      if (Hro hv) < q7 then
        some (.inl (x51.1, x51.2.1, (x51.2.2 + 1)))
      else
        (fX0_weightOf ln hv x51.2.2).bind fun q8 =>
        if q8 ≤ (Hrp hv) then
          (fX0_weightOf ln hv x51.2.2).bind fun q9 =>
          (fX0_weightOf ln hv x51.2.1).bind fun q10 =>
          if 0 < (q9 - q10) then
            some (.inl ((x51.1 + 1), x51.2.2, (x51.2.2 + 1)))
          else
            if (q9 - q10) = 0 then
              (fJ15_bitCount x51.2.2).bind fun q11 =>
              (fJ15_bitCount x51.2.1).bind fun q12 =>
              if q11 ≤ q12 then
                some (.inl ((x51.1 + 1), x51.2.1, (x51.2.2 + 1)))
              else
                some (.inl ((x51.1 + 1), x51.2.2, (x51.2.2 + 1)))
            else
              some (.inl ((x51.1 + 1), x51.2.1, (x51.2.2 + 1)))
        else
          some (.inl (x51.1, x51.2.1, (x51.2.2 + 1)))
    else
      some (.inl (x51.1, x51.2.1, (x51.2.2 + 1)))
def fX0_holds (ln : Nat → Option Int32) (hv : HV) (p1 : Int32) : Option (Int32) :=
  (fX0_isHouse hv).bind fun q1 =>
  if q1 = 0 then
    some (-1000002)
  else
    (fX0_isIn p1.toInt64 0 2).bind fun q2 =>
    if q2 = 0 then
      some (-1000001)
    else
      (gX1_areSo ln hv 0).bind fun q3 =>
      (gX1_areSo ln hv 1).bind fun q4 =>
      (lp (fX0_holds_b51 ln hv q3 q4) FU (0, 0, 0)).bind fun r5 =>
      if p1 = 0 then
        some r5.1
      else
        if p1 = 1 then
          some r5.2
        else
          (fX0_weightOf ln hv r5.2).bind fun q6 =>
          some q6
def fX0_claim (hv : HV) (p1 : Int32) : Option (Int32) :=
  (rd (HHO hv) 6 p1).bind fun v1 =>
  if v1 = 2 then
    some 0
  else
    (rd (HHE hv) 6 p1).bind fun v2 =>
    some v2
def fX0_share_b74 (ln : Nat → Option Int32) (hv : HV) (p1 : Int32) (p2 : Int32) (r4 : Int32) (x74 : Int32 × Int32 × Int32) : Option ((Int32 × Int32 × Int32) ⊕ (Int32 × Int32)) :=
  (gX1_many ln hv).bind fun q8 =>
  if q8 ≤ x74.2.2 then
    some (.inr (x74.1, x74.2.1))
  else
    (fX0_claim hv x74.2.2).bind fun q9 =>
    (gnz r4).bind fun g10 =>
    if p1 ≤ x74.2.2 then
      some (.inl ((x74.1 - ((p2 * q9) / r4)), (x74.2.1 + 0), (x74.2.2 + 1)))
    else
      (fX0_claim hv x74.2.2).bind fun q11 =>
      if q11 ≤ 0 then
        some (.inl ((x74.1 - ((p2 * q9) / r4)), (x74.2.1 + 0), (x74.2.2 + 1)))
      else
        some (.inl ((x74.1 - ((p2 * q9) / r4)), (x74.2.1 + 1), (x74.2.2 + 1)))
def fX0_share_b38 (ln : Nat → Option Int32) (hv : HV) (x38 : Int32 × Int32) : Option ((Int32 × Int32) ⊕ (Int32)) :=
  (gX1_many ln hv).bind fun q12 =>
  if q12 ≤ x38.2 then
    some (.inr x38.1)
  else
    (fX0_claim hv x38.2).bind fun q13 =>
    some (.inl ((x38.1 + q13), (x38.2 + 1)))
def fX0_share (ln : Nat → Option Int32) (hv : HV) (p1 : Int32) (p2 : Int32) : Option (Int32) :=
  (fX0_isDish ln hv p1).bind fun q1 =>
  if q1 = 0 then
    some (-1000001)
  else
    (fX0_isIn p2.toInt64 0 999).bind fun q2 =>
    if q2 = 0 then
      some (-1000001)
    else
      (fX0_claim hv p1).bind fun q3 =>
      if q3 = 0 then
        some 0
      else
        (lp (fX0_share_b38 ln hv) FU (0, 0)).bind fun r4 =>
        (lp (fX0_share_b74 ln hv p1 p2 r4) FU (p2, 0, 0)).bind fun r5 =>
        (fX0_claim hv p1).bind fun q6 =>
        (gnz r4).bind fun g7 =>
        if r5.1 ≤ r5.2 then
          some (((p2 * q6) / r4) + 0)
        else
          some (((p2 * q6) / r4) + 1)
def fX0_isSo_b5 (ln : Nat → Option Int32) (lf : Nat → Nat → Option Nat) (dk : Nat → Option Nat) (rn : Nat) (RC : Nat → Int32) (p1 : Int32) (x5 : Int32 × Int32 × HV) : Option ((Int32 × Int32 × HV) ⊕ (Int32 × HV)) :=
  if (Int32.ofNat rn) ≤ x5.2.1 then
    some (.inr (x5.1, x5.2.2))
  else
    (gX1_pass ln lf dk x5.2.2).bind fun q3 =>
    (rd (HHE q3) 6 p1).bind fun v4 =>
    (rd RC rn x5.2.1).bind fun v5 =>
    if v4 = v5 then
      some (.inl ((x5.1 &&& 1), (x5.2.1 + 1), q3))
    else
      some (.inl ((x5.1 &&& 0), (x5.2.1 + 1), q3))
def fX0_isSo (ln : Nat → Option Int32) (lf : Nat → Nat → Option Nat) (dk : Nat → Option Nat) (rn : Nat) (tv : HV) (RC : Nat → Int32) (p1 : Int32) : Option (Int32 × HV) :=
  (lp (fX0_isSo_b5 ln lf dk rn RC p1) FU (1, 0, tv)).bind fun r1 =>
  (gb r1.1).bind fun g2 =>
  some (r1.1, r1.2)
def fX0_alters (hv : HV) (tv : HV) (TK : Nat → Option Nat) (p1 : Int32) (p2 : Int32) (p3 : Int32) : Option (HV) :=
  (fX0_tried hv tv).bind fun q1 =>
  if p2 = 0 then
    (some (Stf q1 p1)).bind fun b2 =>
    (rdq TK 5 (p3 - 1)).bind fun o3 =>
    o3.bind fun e4 =>
    (some (Stk b2 (some e4))).bind fun b5 =>
    some b5
  else
    if p2 = 1 then
      (some (Sca q1 p3)).bind fun b6 =>
      some b6
    else
      if p2 = 2 then
        (wr (HHE q1) 6 p1 p3).bind fun w7 =>
        (some (SHE q1 w7)).bind fun b8 =>
        some b8
      else
        (some (Srp q1 p3)).bind fun b9 =>
        some b9
def fX0_setOf_b8 (ln : Nat → Option Int32) (lf : Nat → Nat → Option Nat) (dk : Nat → Option Nat) (rn : Nat) (hv : HV) (TK : Nat → Option Nat) (RC : Nat → Int32) (p1 : Int32) (p2 : Int32) (x8 : Int32 × Int32 × HV) : Option ((Int32 × Int32 × HV) ⊕ (Int32 × HV)) :=
  (if p2 = 0 then
    some 5
  else
    some ((Hfl hv) - 1) : Option (Int32)).bind fun j2 =>
  if j2 < x8.2.1 then
    some (.inr (x8.1, x8.2.2))
  else
    (fX0_alters hv x8.2.2 TK p1 p2 x8.2.1).bind fun q3 =>
    (fX0_isSo ln lf dk rn q3 RC p1).bind fun q4 =>
    if q4.1 = 0 then
      some (.inl ((x8.1 ||| 0), (x8.2.1 + 1), q4.2))
    else
      some (.inl ((x8.1 ||| ((1 : Int32) <<< (x8.2.1 &&& 31))), (x8.2.1 + 1), q4.2))
def fX0_setOf (ln : Nat → Option Int32) (lf : Nat → Nat → Option Nat) (dk : Nat → Option Nat) (rn : Nat) (hv : HV) (tv : HV) (TK : Nat → Option Nat) (RC : Nat → Int32) (p1 : Int32) (p2 : Int32) : Option (Int32 × HV) :=
  (lp (fX0_setOf_b8 ln lf dk rn hv TK RC p1 p2) FU (0, (1 - p2), tv)).bind fun r1 =>
  some (r1.1, r1.2)
def fX0_numberOf_b34 (ln : Nat → Option Int32) (lf : Nat → Nat → Option Nat) (dk : Nat → Option Nat) (rn : Nat) (hv : HV) (TK : Nat → Option Nat) (RC : Nat → Int32) (p1 : Int32) (j1 : Int32) (x34 : Int32 × Int32 × Int32 × HV) : Option ((Int32 × Int32 × Int32 × HV) ⊕ (Int32 × Int32 × HV)) :=
  (if j1 = 0 then
    some 1
  else
    some 0 : Option (Int32)).bind fun j4 =>
  if x34.2.2.1 < j4 then
    some (.inr (x34.1, x34.2.1, x34.2.2.2))
  else
    (if j1 = 0 then
      some 4
    else
      some 2 : Option (Int32)).bind fun j5 =>
    (fX0_alters hv x34.2.2.2 TK p1 j5 x34.2.2.1).bind fun q6 =>
    (fX0_isSo ln lf dk rn q6 RC p1).bind fun q7 =>
    if q7.1 = 0 then
      (some (x34.2.2.1 + (-1))).bind fun z8 =>
      some (.inl (x34.1, x34.2.1, z8, q7.2))
    else
      (some (x34.2.2.1 + (-1))).bind fun z9 =>
      some (.inl ((x34.1 + 1), x34.2.2.1, z9, q7.2))
def fX0_numberOf (ln : Nat → Option Int32) (lf : Nat → Nat → Option Nat) (dk : Nat → Option Nat) (rn : Nat) (hv : HV) (tv : HV) (TK : Nat → Option Nat) (RC : Nat → Int32) (p1 : Int32) (p2 : Int32) : Option (Int32 × HV) :=
  (if 4 ≤ p2 then
    some 0
  else
    some 1 : Option (Int32)).bind fun j1 =>
  (if j1 = 0 then
    some 40
  else
    some 60 : Option (Int32)).bind fun j2 =>
  (lp (fX0_numberOf_b34 ln lf dk rn hv TK RC p1 j1) FU (0, (-1000000), j2, tv)).bind fun r3 =>
  if (p2 - p2 / 2 * 2) = 0 then
    some (r3.1, r3.2.2)
  else
    some (r3.2.1, r3.2.2)
def fX0_stuck_b95 (ln : Nat → Option Int32) (lf : Nat → Nat → Option Nat) (dk : Nat → Option Nat) (p2 : Int32) (p3 : Int32) (x76 : Int64 × Int32 × HV) (x95 : Int64 × Int32 × HV) : Option ((Int64 × Int32 × HV) ⊕ (Int64 × HV)) :=
  if p2 ≤ x95.2.1 then
    some (.inr (x95.1, x95.2.2))
  else
    (fX0_has x76.2.1 x95.2.1).bind fun q13 =>
    (if q13 = 0 then
      some ((10 - p3).toInt64)
    else
      some p3.toInt64 : Option (Int64)).bind fun j14 =>
    (fX0_has x76.2.1 x95.2.1).bind fun q15 =>
    if q15 = 0 then
      (gX1_pass ln lf dk x95.2.2).bind fun q16 =>
      some (.inl ((x95.1 * j14), (x95.2.1 + 1), q16))
    else
      (gX1_sticks ln lf dk x95.2.2).bind fun q17 =>
      some (.inl ((x95.1 * j14), (x95.2.1 + 1), q17))
def fX0_stuck_b76 (ln : Nat → Option Int32) (lf : Nat → Nat → Option Nat) (dk : Nat → Option Nat) (hv : HV) (p1 : Int32) (p2 : Int32) (p3 : Int32) (x76 : Int64 × Int32 × HV) : Option ((Int64 × Int32 × HV) ⊕ (Int64 × HV)) :=
  if ((1 : Int32) <<< (p2 &&& 31)) ≤ x76.2.1 then
    some (.inr (x76.1, x76.2.2))
  else
    (fX0_tried hv x76.2.2).bind fun q10 =>
    (lp (fX0_stuck_b95 ln lf dk p2 p3 x76) FU (1, 0, q10)).bind fun r11 =>
    (rd (HHO r11.2) 6 p1).bind fun v12 =>
    if v12 = 2 then
      some (.inl ((x76.1 + r11.1), (x76.2.1 + 1), r11.2))
    else
      some (.inl ((x76.1 + 0), (x76.2.1 + 1), r11.2))
def fX0_stuck_b53 (p2 : Int32) (x53 : Int64 × Int32) : Option ((Int64 × Int32) ⊕ (Int64)) :=
  if p2 ≤ x53.2 then
    some (.inr x53.1)
  else
    some (.inl ((x53.1 * 10), (x53.2 + 1)))
def fX0_stuck (ln : Nat → Option Int32) (lf : Nat → Nat → Option Nat) (dk : Nat → Option Nat) (hv : HV) (tv : HV) (p1 : Int32) (p2 : Int32) (p3 : Int32) (p4 : Int32) : Option (Int64 × HV) :=
  (fX0_isDish ln hv p1).bind fun q1 =>
  if q1 = 0 then
    some ((-1000001), tv)
  else
    (fX0_isIn p2.toInt64 0 8).bind fun q2 =>
    if q2 = 0 then
      some ((-1000001), tv)
    else
      (fX0_isIn p3.toInt64 0 10).bind fun q3 =>
      if q3 = 0 then
        some ((-1000001), tv)
      else
        (fX0_isHalf p4).bind fun q4 =>
        if q4 = 0 then
          some ((-1000001), tv)
        else
          (lp (fX0_stuck_b53 p2) FU (1, 0)).bind fun r5 =>
          (lp (fX0_stuck_b76 ln lf dk hv p1 p2 p3) FU (0, 0, tv)).bind fun r6 =>
          (if p4 = 0 then
            some r6.1
          else
            some r5 : Option (Int64)).bind fun j7 =>
          (fX0_common r6.1 r5).bind fun q8 =>
          (gnzL q8).bind fun g9 =>
          some ((j7 / q8), r6.2)
def fX0_drawn_b54 (ln : Nat → Option Int32) (lf : Nat → Nat → Option Nat) (dk : Nat → Option Nat) (p1 : Int32) (x54 : Int64 × Int32 × Int32 × HV) : Option ((Int64 × Int32 × Int32 × HV) ⊕ (Int32 × HV)) :=
  if p1 ≤ x54.2.2.1 then
    some (.inr (x54.2.1, x54.2.2.2))
  else
    (gX1_many ln x54.2.2.2).bind fun q8 =>
    (gnzL q8.toInt64).bind fun g9 =>
    (gnzL (Hfl x54.2.2.2).toInt64).bind fun g10 =>
    (rd (HHO x54.2.2.2) 6 (((x54.1 * 16807) - (x54.1 * 16807) / 2147483647 * 2147483647) - ((x54.1 * 16807) - (x54.1 * 16807) / 2147483647 * 2147483647) / q8.toInt64 * q8.toInt64).toInt32).bind fun v11 =>
    (if v11 = 2 then
      (gX1_send x54.2.2.2 ((((x54.1 * 16807) - (x54.1 * 16807) / 2147483647 * 2147483647) - ((x54.1 * 16807) - (x54.1 * 16807) / 2147483647 * 2147483647) / q8.toInt64 * q8.toInt64).toInt32) ((((x54.1 * 16807) - (x54.1 * 16807) / 2147483647 * 2147483647) - ((x54.1 * 16807) - (x54.1 * 16807) / 2147483647 * 2147483647) / (Hfl x54.2.2.2).toInt64 * (Hfl x54.2.2.2).toInt64).toInt32) ((((x54.1 * 16807) - (x54.1 * 16807) / 2147483647 * 2147483647) - ((x54.1 * 16807) - (x54.1 * 16807) / 2147483647 * 2147483647) / 61 * 61).toInt32)).bind fun q17 =>
      some q17
    else
      if (((x54.1 * 16807) - (x54.1 * 16807) / 2147483647 * 2147483647) - ((x54.1 * 16807) - (x54.1 * 16807) / 2147483647 * 2147483647) / 4 * 4) = 0 then
        (some (Sca x54.2.2.2 ((((x54.1 * 16807) - (x54.1 * 16807) / 2147483647 * 2147483647) - ((x54.1 * 16807) - (x54.1 * 16807) / 2147483647 * 2147483647) / (Hfl x54.2.2.2).toInt64 * (Hfl x54.2.2.2).toInt64).toInt32))).bind fun b18 =>
        some b18
      else
        some x54.2.2.2 : Option (HV)).bind fun j12 =>
    (gX1_areSo ln j12 2).bind fun q13 =>
    (gX1_pass ln lf dk j12).bind fun q14 =>
    (gX1_areSo ln q14 2).bind fun q15 =>
    (fJ15_bitCount (q15 &&& (q13 ^^^ (-1)))).bind fun q16 =>
    some (.inl (((x54.1 * 16807) - (x54.1 * 16807) / 2147483647 * 2147483647), (x54.2.1 + q16), (x54.2.2.1 + 1), q14))
def fX0_drawn (ln : Nat → Option Int32) (lf : Nat → Nat → Option Nat) (dk : Nat → Option Nat) (hv : HV) (tv : HV) (p1 : Int32) (p2 : Int32) (p3 : Int32) : Option (Int32 × HV) :=
  (fX0_isHouse hv).bind fun q1 =>
  if q1 = 0 then
    some ((-1000002), tv)
  else
    (fX0_isFar p1).bind fun q2 =>
    if q2 = 0 then
      some ((-1000001), tv)
    else
      (fX0_isIn p2.toInt64 1 999999).bind fun q3 =>
      if q3 = 0 then
        some ((-1000001), tv)
      else
        (fX0_isHalf p3).bind fun q4 =>
        if q4 = 0 then
          some ((-1000001), tv)
        else
          (fX0_tried hv tv).bind fun q5 =>
          (lp (fX0_drawn_b54 ln lf dk p1) FU (p2.toInt64, 0, 0, q5)).bind fun r6 =>
          if p3 = 0 then
            some (r6.1, r6.2)
          else
            (gX1_heats ln r6.2 0).bind fun q7 =>
            some (q7, r6.2)
def fX0_kind (ln : Nat → Option Int32) (lf : Nat → Nat → Option Nat) (dk : Nat → Option Nat) (hv : HV) (p1 : Int32) : Option (Int32) :=
  (fX0_isDish ln hv p1).bind fun q1 =>
  if q1 = 0 then
    some (-1000001)
  else
    (lget ln lf (Hla hv) p1).bind fun e2 =>
    (dk e2).bind fun k3 =>
    (fdish_kind dk e2).bind fun v4 =>
    some v4
