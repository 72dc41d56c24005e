def fX9_in (p0 : Int64) (p2 : Int64) (p4 : Int64) : Option (Int32) :=
  if p0 < p2 then
    some 0
  else
    if p4 < p0 then
      some 0
    else
      some 1
def fX9_isRow (p0 : Int32) : Option (Int32) :=
  (fX9_in p0.toInt64 0 7).bind fun q1 =>
  (gb q1).bind fun g2 =>
  some q1
def fX9_finds (p1 : Int32) : Option (Int32 × Int32) :=
  some (((-1000010) - p1), p1)
def fX9_row_b60 (p1 : Int32) (x60 : Int32 × (Nat → Int32)) : Option ((Int32 × (Nat → Int32)) ⊕ ((Nat → Int32))) :=
  if 40 ≤ x60.1 then
    some (.inr x60.2)
  else
    (wr x60.2 320 ((40 * p1) + x60.1) 0).bind fun w6 =>
    some (.inl ((x60.1 + 1), w6))
def fX9_row (MA : Nat → Int32) (LA : Nat → Int32) (IT : Nat → Int32) (fs : Int32) (p1 : Int32) (p2 : Int32) (p3 : Int32) : Option (Int32 × Int32 × (Nat → Int32) × (Nat → Int32) × (Nat → Int32)) :=
  (fX9_isRow p1).bind fun q1 =>
  if q1 = 0 then
    some ((-1000001), fs, MA, LA, IT)
  else
    (fX9_in p2.toInt64 0 2).bind fun q2 =>
    if q2 = 0 then
      some ((-1000001), fs, MA, LA, IT)
    else
      if p3 ≤ 40 then
        if 0 ≤ p3 then
          (wr MA 8 p1 p3).bind fun w3 =>
          (wr LA 8 p1 p2).bind fun w4 =>
          (lp (fX9_row_b60 p1) FU (0, IT)).bind fun r5 =>
          some (p3, 0, w3, w4, r5)
        else
          (fX9_finds 4).bind fun q7 =>
          some (q7.1, q7.2, MA, LA, IT)
      else
        some ((-1000001), fs, MA, LA, IT)
def fX9_against (MA : Nat → Int32) (p1 : Int32) (p2 : Int32) (p3 : Int32) : Option (Int32) :=
  (rd MA 8 p1).bind fun v1 =>
  if 0 ≤ v1 then
    if p2 < 0 then
      some 2
    else
      if p3 < 0 then
        some 2
      else
        (rd MA 8 p1).bind fun v2 =>
        if (p2.toInt64 + p3.toInt64) ≤ v2.toInt64 then
          some 0
        else
          some 2
  else
    some 1
def fX9_set (MA : Nat → Int32) (LA : Nat → Int32) (IT : Nat → Int32) (fs : Int32) (p1 : Int32) (p2 : Int32) (p3 : Int32) : Option (Int32 × Int32 × (Nat → Int32)) :=
  (fX9_isRow p1).bind fun q1 =>
  if q1 = 0 then
    some ((-1000001), fs, IT)
  else
    (fX9_against MA p1 p2 1).bind fun q2 =>
    if q2 ≤ 0 then
      (rd LA 8 p1).bind fun v3 =>
      (if v3 = 0 then
        some p3.toInt8.toInt32
      else
        (rd LA 8 p1).bind fun v7 =>
        if v7 = 1 then
          some p3.toInt16.toInt32
        else
          some p3 : Option (Int32)).bind fun j4 =>
      (wr IT 320 ((40 * p1) + p2) j4).bind fun w5 =>
      (rd w5 320 ((40 * p1) + p2)).bind fun v6 =>
      some (v6, 0, w5)
    else
      (fX9_finds q2).bind fun q8 =>
      some (q8.1, q8.2, IT)
def fX9_copy_b136 (p3 : Int32) (p4 : Int32) (p5 : Int32) (r11 : (Nat → Int32)) (x136 : Int32 × (Nat → Int32)) : Option ((Int32 × (Nat → Int32)) ⊕ ((Nat → Int32))) :=
  if p5 ≤ x136.1 then
    some (.inr x136.2)
  else
    (rd r11 40 x136.1).bind fun v13 =>
    (wr x136.2 320 (((40 * p3) + p4) + x136.1) v13).bind fun w14 =>
    some (.inl ((x136.1 + 1), w14))
def fX9_copy_b99 (IT : Nat → Int32) (p1 : Int32) (p2 : Int32) (p5 : Int32) (x99 : Int32 × (Nat → Int32)) : Option ((Int32 × (Nat → Int32)) ⊕ ((Nat → Int32))) :=
  if p5 ≤ x99.1 then
    some (.inr x99.2)
  else
    (rd IT 320 (((40 * p1) + p2) + x99.1)).bind fun v15 =>
    (wr x99.2 40 x99.1 v15).bind fun w16 =>
    some (.inl ((x99.1 + 1), w16))
def fX9_copy (MA : Nat → Int32) (LA : Nat → Int32) (IT : Nat → Int32) (HE : Nat → Int32) (fs : Int32) (p1 : Int32) (p2 : Int32) (p3 : Int32) (p4 : Int32) (p5 : Int32) : Option (Int32 × Int32 × (Nat → Int32) × (Nat → Int32)) :=
  (fX9_isRow p1).bind fun q1 =>
  if q1 = 0 then
    some ((-1000001), fs, IT, HE)
  else
    (fX9_isRow p3).bind fun q2 =>
    if q2 = 0 then
      some ((-1000001), fs, IT, HE)
    else
      (rd MA 8 p1).bind fun v3 =>
      if v3 < 0 then
        (fX9_finds 1).bind fun q4 =>
        some (q4.1, q4.2, IT, HE)
      else
        (rd MA 8 p3).bind fun v5 =>
        if 0 ≤ v5 then
          (rd LA 8 p1).bind fun v6 =>
          (rd LA 8 p3).bind fun v7 =>
          if v6 = v7 then
            (fX9_against MA p1 p2 p5).bind fun q8 =>
            if 0 < q8 then
              (fX9_finds 2).bind fun q9 =>
              some (q9.1, q9.2, IT, HE)
            else
              (fX9_against MA p3 p4 p5).bind fun q10 =>
              if q10 ≤ 0 then
                (lp (fX9_copy_b99 IT p1 p2 p5) FU (0, HE)).bind fun r11 =>
                (lp (fX9_copy_b136 p3 p4 p5 r11) FU (0, IT)).bind fun r12 =>
                some (p5, 0, r12, r11)
              else
                (fX9_finds 2).bind fun q17 =>
                some (q17.1, q17.2, IT, HE)
          else
            (fX9_finds 5).bind fun q18 =>
            some (q18.1, q18.2, IT, HE)
        else
          (fX9_finds 1).bind fun q19 =>
          some (q19.1, q19.2, IT, HE)
def fX9_drop (MA : Nat → Int32) (fs : Int32) (p1 : Int32) : Option (Int32 × Int32 × (Nat → Int32)) :=
  (fX9_isRow p1).bind fun q1 =>
  if q1 = 0 then
    some ((-1000001), fs, MA)
  else
    (rd MA 8 p1).bind fun v2 =>
    if 0 ≤ v2 then
      (rd MA 8 p1).bind fun v3 =>
      (wr MA 8 p1 (-1)).bind fun w4 =>
      some (v3, 0, w4)
    else
      (fX9_finds 1).bind fun q5 =>
      some (q5.1, q5.2, MA)
def fX9_feed (TP : Nat → Int32) (ft : Int32) (p1 : Int32) : Option (Int32 × Int32 × (Nat → Int32)) :=
  (fX9_in p1.toInt64 0 255).bind fun q1 =>
  if q1 = 0 then
    some ((-1000001), ft, TP)
  else
    if ft = 110 then
      some ((-1000003), ft, TP)
    else
      (wr TP 110 ft p1).bind fun w2 =>
      some ((ft + 1), (ft + 1), w2)
def fX9_here (TP : Nat → Int32) (ft : Int32) (fa : Int32) : Option (Int32) :=
  if ft ≤ fa then
    some (-1)
  else
    (rd TP 110 fa).bind fun v1 =>
    some v1
def fX9_fails (p1 : Int32) (p2 : Int32) : Option (Int32 × Int32 × Int32) :=
  some (0, p1, p2)
def fX9_takes (TP : Nat → Int32) (ft : Int32) (ff : Int32) (fa : Int32) (fb : Int32) (p1 : Int32) : Option (Int32 × Int32 × Int32 × Int32) :=
  (fX9_here TP ft fa).bind fun q1 =>
  if q1 = p1 then
    some (1, ff, (fa + 1), fb)
  else
    (fX9_fails 1 fa).bind fun q2 =>
    (gb q2.1).bind fun g3 =>
    some (q2.1, q2.2.1, fa, q2.2.2)
def fX9_takesNumber_b10 (ft : Int32) (fa : Int32) (TP : Nat → Int32) (x10 : Int32 × Int32) : Option ((Int32 × Int32) ⊕ (Int32 × Int32)) :=
  (fX9_here TP ft x10.1).bind fun q8 =>
  (fX9_in q8.toInt64 48 57).bind fun q9 =>
  if q9 = 0 then
    some (.inr (x10.1, x10.2))
  else
    (if 2 ≤ (x10.1 - fa) then
      some x10.2
    else
      (fX9_here TP ft x10.1).bind fun q11 =>
      some (((10 * x10.2) + q11) - 48) : Option (Int32)).bind fun j10 =>
    some (.inl ((x10.1 + 1), j10))
def fX9_takesNumber (TP : Nat → Int32) (ft : Int32) (ff : Int32) (fa : Int32) (fb : Int32) (p1 : Int32) (p2 : Int32) : Option (Int32 × Int32 × Int32 × Int32 × Int32) :=
  (lp (fX9_takesNumber_b10 ft fa TP) FU (fa, 0)).bind fun r1 =>
  (fX9_in ((r1.1 - fa).toInt64) 1 2).bind fun q2 =>
  if q2 = 0 then
    (fX9_fails 1 fa).bind fun q3 =>
    (gb q3.1).bind fun g4 =>
    some (q3.1, q3.2.1, r1.1, q3.2.2, r1.2)
  else
    (fX9_in r1.2.toInt64 p1.toInt64 p2.toInt64).bind fun q5 =>
    if q5 = 0 then
      (fX9_fails 2 fa).bind fun q6 =>
      (gb q6.1).bind fun g7 =>
      some (q6.1, q6.2.1, r1.1, q6.2.2, r1.2)
    else
      some (1, ff, r1.1, fb, r1.2)
def fX9_takesLaw (Ww : Nat → Int32) (TP : Nat → Int32) (ft : Int32) (ff : Int32) (fa : Int32) (fb : Int32) (fn : Int32) : Option (Int32 × Int32 × Int32 × Int32 × Int32 × (Nat → Int32)) :=
  (fX9_takes TP ft ff fa fb 100).bind fun q1 =>
  if q1.1 = 0 then
    some (0, q1.2.1, q1.2.2.1, q1.2.2.2, fn, Ww)
  else
    (fX9_takesNumber TP ft q1.2.1 q1.2.2.1 q1.2.2.2 2 9).bind fun q2 =>
    if q2.1 = 0 then
      some (0, q2.2.1, q2.2.2.1, q2.2.2.2.1, q2.2.2.2.2, Ww)
    else
      (wr Ww 1247 173 q2.2.2.2.2).bind fun w3 =>
      (fX9_takes TP ft q2.2.1 q2.2.2.1 q2.2.2.2.1 44).bind fun q4 =>
      if q4.1 = 0 then
        some (0, q4.2.1, q4.2.2.1, q4.2.2.2, q2.2.2.2.2, w3)
      else
        (fX9_takesNumber TP ft q4.2.1 q4.2.2.1 q4.2.2.2 1 4).bind fun q5 =>
        if q5.1 = 0 then
          some (0, q5.2.1, q5.2.2.1, q5.2.2.2.1, q5.2.2.2.2, w3)
        else
          (wr w3 1247 174 q5.2.2.2.2).bind fun w6 =>
          (fX9_takes TP ft q5.2.1 q5.2.2.1 q5.2.2.2.1 44).bind fun q7 =>
          if q7.1 = 0 then
            some (0, q7.2.1, q7.2.2.1, q7.2.2.2, q5.2.2.2.2, w6)
          else
            (fX9_takesNumber TP ft q7.2.1 q7.2.2.1 q7.2.2.2 1 40).bind fun q8 =>
            if q8.1 = 0 then
              some (0, q8.2.1, q8.2.2.1, q8.2.2.2.1, q8.2.2.2.2, w6)
            else
              (wr w6 1247 175 q8.2.2.2.2).bind fun w9 =>
              (fX9_takes TP ft q8.2.1 q8.2.2.1 q8.2.2.2.1 59).bind fun q10 =>
              (gb q10.1).bind fun g11 =>
              some (q10.1, q10.2.1, q10.2.2.1, q10.2.2.2, q8.2.2.2.2, w9)
def fX9_kindOf (p0 : Int32) : Option (Int32) :=
  if p0 = 104 then
    some 1
  else
    if p0 = 115 then
      some 2
    else
      if p0 = 114 then
        some 3
      else
        if p0 = 99 then
          some 4
        else
          if p0 = 105 then
            some 5
          else
            some 0
def fX9_takesDish (Ww : Nat → Int32) (TP : Nat → Int32) (ft : Int32) (ff : Int32) (fa : Int32) (fb : Int32) (fn : Int32) : Option (Int32 × Int32 × Int32 × Int32 × Int32 × (Nat → Int32)) :=
  (rd Ww 1247 172).bind fun v1 =>
  (fX9_here TP ft fa).bind fun q2 =>
  (fX9_kindOf q2).bind fun q3 =>
  if q3 = 0 then
    (fX9_fails 1 fa).bind fun q4 =>
    (gb q4.1).bind fun g5 =>
    some (q4.1, q4.2.1, fa, q4.2.2, fn, Ww)
  else
    if v1 = 6 then
      (fX9_fails 3 fa).bind fun q6 =>
      (gb q6.1).bind fun g7 =>
      some (q6.1, q6.2.1, fa, q6.2.2, fn, Ww)
    else
      (wr Ww 1247 (179 + v1) q3).bind fun w8 =>
      (rd w8 1247 173).bind fun v9 =>
      (fX9_takesNumber TP ft ff (fa + 1) fb 0 (v9 - 1)).bind fun q10 =>
      if q10.1 = 0 then
        some (0, q10.2.1, q10.2.2.1, q10.2.2.2.1, q10.2.2.2.2, w8)
      else
        (wr w8 1247 (185 + v1) q10.2.2.2.2).bind fun w11 =>
        (fX9_takes TP ft q10.2.1 q10.2.2.1 q10.2.2.2.1 44).bind fun q12 =>
        if q12.1 = 0 then
          some (0, q12.2.1, q12.2.2.1, q12.2.2.2, q10.2.2.2.2, w11)
        else
          (rd w11 1247 173).bind fun v13 =>
          (fX9_takesNumber TP ft q12.2.1 q12.2.2.1 q12.2.2.2 0 (v13 - 1)).bind fun q14 =>
          if q14.1 = 0 then
            some (0, q14.2.1, q14.2.2.1, q14.2.2.2.1, q14.2.2.2.2, w11)
          else
            (wr w11 1247 (191 + v1) q14.2.2.2.2).bind fun w15 =>
            (fX9_takes TP ft q14.2.1 q14.2.2.1 q14.2.2.2.1 44).bind fun q16 =>
            if q16.1 = 0 then
              some (0, q16.2.1, q16.2.2.1, q16.2.2.2, q14.2.2.2.2, w15)
            else
              (fX9_takesNumber TP ft q16.2.1 q16.2.2.1 q16.2.2.2 1 9).bind fun q17 =>
              if q17.1 = 0 then
                some (0, q17.2.1, q17.2.2.1, q17.2.2.2.1, q17.2.2.2.2, w15)
              else
                (wr w15 1247 (197 + v1) q17.2.2.2.2).bind fun w18 =>
                (fX9_takes TP ft q17.2.1 q17.2.2.1 q17.2.2.2.1 44).bind fun q19 =>
                if q19.1 = 0 then
                  some (0, q19.2.1, q19.2.2.1, q19.2.2.2, q17.2.2.2.2, w18)
                else
                  (fX9_takesNumber TP ft q19.2.1 q19.2.2.1 q19.2.2.2 0 60).bind fun q20 =>
                  if q20.1 = 0 then
                    some (0, q20.2.1, q20.2.2.1, q20.2.2.2.1, q20.2.2.2.2, w18)
                  else
                    (wr w18 1247 (203 + v1) q20.2.2.2.2).bind fun w21 =>
                    (wr w21 1247 (209 + v1) v1).bind fun w22 =>
                    (rd w22 1247 172).bind fun v23 =>
                    (wr w22 1247 172 (v23 + 1)).bind fun w24 =>
                    (fX9_takes TP ft q20.2.1 q20.2.2.1 q20.2.2.2.1 59).bind fun q25 =>
                    (gb q25.1).bind fun g26 =>
                    some (q25.1, q25.2.1, q25.2.2.1, q25.2.2.2, q20.2.2.2.2, w24)
def fX9_takesAll_b9 (ft : Int32) (TP : Nat → Int32) (x9 : Int32 × Int32 × Int32 × Int32 × (Nat → Int32)) : Option ((Int32 × Int32 × Int32 × Int32 × (Nat → Int32)) ⊕ (Int32 × Int32 × Int32 × Int32 × Int32 × (Nat → Int32))) :=
  (rd x9.2.2.2.2 1247 172).bind fun v2 =>
  if v2 = 0 then
    (fX9_takesDish x9.2.2.2.2 TP ft x9.1 x9.2.1 x9.2.2.1 x9.2.2.2.1).bind fun q3 =>
    if q3.1 = 0 then
      some (.inr (0, q3.2.1, q3.2.2.1, q3.2.2.2.1, q3.2.2.2.2.1, q3.2.2.2.2.2))
    else
      some (.inl (q3.2.1, q3.2.2.1, q3.2.2.2.1, q3.2.2.2.2.1, q3.2.2.2.2.2))
  else
    if ft ≤ x9.2.1 then
      some (.inr (1, x9.1, x9.2.1, x9.2.2.1, x9.2.2.2.1, x9.2.2.2.2))
    else
      (fX9_takesDish x9.2.2.2.2 TP ft x9.1 x9.2.1 x9.2.2.1 x9.2.2.2.1).bind fun q4 =>
      if q4.1 = 0 then
        some (.inr (0, q4.2.1, q4.2.2.1, q4.2.2.2.1, q4.2.2.2.2.1, q4.2.2.2.2.2))
      else
        some (.inl (q4.2.1, q4.2.2.1, q4.2.2.2.1, q4.2.2.2.2.1, q4.2.2.2.2.2))
def fX9_takesAll (Ww : Nat → Int32) (TP : Nat → Int32) (ft : Int32) (ff : Int32) (fa : Int32) (fb : Int32) (fn : Int32) : Option (Int32 × Int32 × Int32 × Int32 × Int32 × (Nat → Int32)) :=
  (fX9_takesLaw Ww TP ft ff fa fb fn).bind fun q1 =>
  if q1.1 = 0 then
    some (0, q1.2.1, q1.2.2.1, q1.2.2.2.1, q1.2.2.2.2.1, q1.2.2.2.2.2)
  else
    lp (fX9_takesAll_b9 ft TP) FU (q1.2.1, q1.2.2.1, q1.2.2.2.1, q1.2.2.2.2.1, q1.2.2.2.2.2)
def fX9_copyOf_b2 (p1 : Int32) (p2 : Int32) (x2 : Int32 × (Nat → Int32)) : Option ((Int32 × (Nat → Int32)) ⊕ ((Nat → Int32))) :=
  if 43 ≤ x2.1 then
    some (.inr x2.2)
  else
    (rd x2.2 1247 (p1 + x2.1)).bind fun v2 =>
    (wr x2.2 1247 (p2 + x2.1) v2).bind fun w3 =>
    some (.inl ((x2.1 + 1), w3))
def fX9_copyOf (Ww : Nat → Int32) (p1 : Int32) (p2 : Int32) : Option ((Nat → Int32)) :=
  (lp (fX9_copyOf_b2 p1 p2) FU (0, Ww)).bind fun r1 =>
  some r1
def fX9_house_b2  (x2 : Int32 × (Nat → Int32)) : Option ((Int32 × (Nat → Int32)) ⊕ ((Nat → Int32))) :=
  if 43 ≤ x2.1 then
    some (.inr x2.2)
  else
    (wr x2.2 1247 (172 + x2.1) 0).bind fun w6 =>
    some (.inl ((x2.1 + 1), w6))
def fX9_house (Ww : Nat → Int32) (TP : Nat → Int32) (fu : Int32) (ft : Int32) (ff : Int32) (fb : Int32) (fn : Int32) : Option (Int32 × Int32 × Int32 × Int32 × Int32 × Int32 × Int32 × (Nat → Int32)) :=
  (lp (fX9_house_b2) FU (0, Ww)).bind fun r1 =>
  (wr r1 1247 177 1).bind fun w2 =>
  (fX9_takesAll w2 TP ft ff 0 fb fn).bind fun q3 =>
  if q3.1 = 0 then
    some (((-1000100) - q3.2.2.2.1), fu, 0, q3.2.1, q3.2.2.1, q3.2.2.2.1, q3.2.2.2.2.1, q3.2.2.2.2.2)
  else
    (fX9_copyOf q3.2.2.2.2.2 172 0).bind fun q4 =>
    (rd q4 1247 0).bind fun v5 =>
    some (v5, 0, 0, q3.2.1, q3.2.2.1, q3.2.2.2.1, q3.2.2.2.2.1, q4)
def fX9_fault (ff : Int32) : Option (Int32) :=
  some ff
def fX9_undo (Ww : Nat → Int32) (fu : Int32) : Option (Int32 × Int32 × (Nat → Int32)) :=
  if fu = 0 then
    some ((-1000002), fu, Ww)
  else
    (fX9_copyOf Ww (215 + (43 * (fu - 1))) 0).bind fun q1 =>
    some ((fu - 1), (fu - 1), q1)
def fX9_isHouse (Ww : Nat → Int32) : Option (Int32) :=
  (rd Ww 1247 0).bind fun v1 =>
  if v1 ≤ 0 then
    some 0
  else
    some 1
def fX9_minds_b11  (x11 : Int32 × (Nat → Int32)) : Option ((Int32 × (Nat → Int32)) ⊕ ((Nat → Int32))) :=
  if 989 ≤ x11.1 then
    some (.inr x11.2)
  else
    (rd x11.2 1247 ((215 + x11.1) + 43)).bind fun v4 =>
    (wr x11.2 1247 (215 + x11.1) v4).bind fun w5 =>
    some (.inl ((x11.1 + 1), w5))
def fX9_minds (Ww : Nat → Int32) (fu : Int32) : Option (Int32 × (Nat → Int32)) :=
  (if fu = 24 then
    (lp (fX9_minds_b11) FU (0, Ww)).bind fun r3 =>
    some ((fu - 1), r3)
  else
    some (fu, Ww) : Option (Int32 × (Nat → Int32))).bind fun j1 =>
  (fX9_copyOf j1.2 0 (215 + (43 * j1.1))).bind fun q2 =>
  some ((j1.1 + 1), q2)
def fX9_insideOf_b4 (Ww : Nat → Int32) (p1 : Int32) (x4 : Int32 × Int32) : Option ((Int32 × Int32) ⊕ (Int32)) :=
  (rd Ww 1247 (p1 + 0)).bind fun v2 =>
  if v2 ≤ x4.2 then
    some (.inr x4.1)
  else
    (rd Ww 1247 ((p1 + 13) + x4.2)).bind fun v3 =>
    if v3 = 10 then
      some (.inl ((x4.1 ||| ((1 : Int32) <<< (x4.2 &&& 31))), (x4.2 + 1)))
    else
      some (.inl ((x4.1 ||| 0), (x4.2 + 1)))
def fX9_insideOf (Ww : Nat → Int32) (p1 : Int32) : Option (Int32) :=
  (lp (fX9_insideOf_b4 Ww p1) FU (0, 0)).bind fun r1 =>
  some r1
def fX9_ones_b4 (p0 : Int32) (x4 : Int32 × Int32) : Option ((Int32 × Int32) ⊕ (Int32)) :=
  if 6 ≤ x4.2 then
    some (.inr x4.1)
  else
    some (.inl ((x4.1 + ((p0 >>> (x4.2 &&& 31)) &&& 1)), (x4.2 + 1)))
def fX9_ones (p0 : Int32) : Option (Int32) :=
  (lp (fX9_ones_b4 p0) FU (0, 0)).bind fun r1 =>
  some r1
def fX9_has (p0 : Int32) (p1 : Int32) : Option (Int32) :=
  if ((p0 >>> (p1 &&& 31)) &&& 1) = 1 then
    some 1
  else
    some 0
def fX9_weightOf_b5 (Ww : Nat → Int32) (p1 : Int32) (p2 : Int32) (x5 : Int32 × Int32) : Option ((Int32 × Int32) ⊕ (Int32)) :=
  (rd Ww 1247 (p1 + 0)).bind fun v2 =>
  if v2 ≤ x5.2 then
    some (.inr x5.1)
  else
    (fX9_has p2 x5.2).bind fun q3 =>
    if q3 = 0 then
      some (.inl ((x5.1 + 0), (x5.2 + 1)))
    else
      (rd Ww 1247 ((p1 + 25) + x5.2)).bind fun v4 =>
      some (.inl ((x5.1 + v4), (x5.2 + 1)))
def fX9_weightOf (Ww : Nat → Int32) (p1 : Int32) (p2 : Int32) : Option (Int32) :=
  (lp (fX9_weightOf_b5 Ww p1 p2) FU (0, 0)).bind fun r1 =>
  some r1
def fX9_serves_b119 (p1 : Int32) (x119 : Int32 × (Nat → Int32)) : Option ((Int32 × (Nat → Int32)) ⊕ ((Nat → Int32))) :=
  (rd x119.2 1247 (p1 + 0)).bind fun v3 =>
  if v3 ≤ x119.1 then
    some (.inr x119.2)
  else
    (rd x119.2 1247 ((p1 + 37) + x119.1)).bind fun v4 =>
    (fX9_insideOf x119.2 p1).bind fun q5 =>
    (fX9_ones q5).bind fun q6 =>
    (rd x119.2 1247 (p1 + 2)).bind fun v7 =>
    (if v7 ≤ q6 then
      some 0
    else
      (fX9_weightOf x119.2 p1 q5).bind fun q15 =>
      (rd x119.2 1247 ((p1 + 25) + v4)).bind fun v16 =>
      (rd x119.2 1247 (p1 + 3)).bind fun v17 =>
      if v17 < (q15 + v16) then
        some 0
      else
        some 1 : Option (Int32)).bind fun j8 =>
    (rd x119.2 1247 ((p1 + 13) + v4)).bind fun v9 =>
    (rd x119.2 1247 (p1 + 4)).bind fun v10 =>
    (if v9 = v10 then
      if j8 = 0 then
        (rd x119.2 1247 ((p1 + 13) + v4)).bind fun v13 =>
        some v13
      else
        some 10
    else
      (rd x119.2 1247 ((p1 + 13) + v4)).bind fun v14 =>
      some v14 : Option (Int32)).bind fun j11 =>
    (wr x119.2 1247 ((p1 + 13) + v4) j11).bind fun w12 =>
    some (.inl ((x119.1 + 1), w12))
def fX9_serves_b2 (p1 : Int32) (x2 : Int32 × (Nat → Int32)) : Option ((Int32 × (Nat → Int32)) ⊕ ((Nat → Int32))) :=
  (rd x2.2 1247 (p1 + 0)).bind fun v18 =>
  if v18 ≤ x2.1 then
    some (.inr x2.2)
  else
    (rd x2.2 1247 ((p1 + 13) + x2.1)).bind fun v19 =>
    (if v19 = 10 then
      some 1
    else
      (rd x2.2 1247 ((p1 + 13) + x2.1)).bind fun v27 =>
      (rd x2.2 1247 (p1 + 4)).bind fun v28 =>
      if v27 = v28 then
        some 1
      else
        some 0 : Option (Int32)).bind fun j20 =>
    (if j20 = 0 then
      (rd x2.2 1247 ((p1 + 13) + x2.1)).bind fun v23 =>
      some v23
    else
      (rd x2.2 1247 ((p1 + 19) + x2.1)).bind fun v24 =>
      (rd x2.2 1247 (p1 + 4)).bind fun v25 =>
      if v24 = v25 then
        some 11
      else
        (rd x2.2 1247 ((p1 + 13) + x2.1)).bind fun v26 =>
        some v26 : Option (Int32)).bind fun j21 =>
    (wr x2.2 1247 ((p1 + 13) + x2.1) j21).bind fun w22 =>
    some (.inl ((x2.1 + 1), w22))
def fX9_serves (Ww : Nat → Int32) (p1 : Int32) : Option ((Nat → Int32)) :=
  (lp (fX9_serves_b2 p1) FU (0, Ww)).bind fun r1 =>
  (lp (fX9_serves_b119 p1) FU (0, r1)).bind fun r2 =>
  some r2
def fX9_calledOf_b4 (Ww : Nat → Int32) (p1 : Int32) (x4 : Int32 × Int32) : Option ((Int32 × Int32) ⊕ (Int32)) :=
  (rd Ww 1247 (p1 + 0)).bind fun v3 =>
  if v3 ≤ x4.2 then
    some (.inr x4.1)
  else
    (rd Ww 1247 ((p1 + 13) + x4.2)).bind fun v4 =>
    if v4 = 10 then
      (rd Ww 1247 ((p1 + 19) + x4.2)).bind fun v5 =>
      some (.inl ((x4.1 ||| ((1 : Int32) <<< (v5 &&& 31))), (x4.2 + 1)))
    else
      if 10 ≤ v4 then
        some (.inl ((x4.1 ||| 0), (x4.2 + 1)))
      else
        (rd Ww 1247 ((p1 + 25) + x4.2)).bind fun v6 =>
        (rd Ww 1247 (p1 + 3)).bind fun v7 =>
        if v7 < v6 then
          some (.inl ((x4.1 ||| 0), (x4.2 + 1)))
        else
          some (.inl ((x4.1 ||| ((1 : Int32) <<< (v4 &&& 31))), (x4.2 + 1)))
def fX9_calledOf (Ww : Nat → Int32) (p1 : Int32) : Option (Int32) :=
  (lp (fX9_calledOf_b4 Ww p1) FU (0, 0)).bind fun r1 =>
  (rd Ww 1247 (p1 + 4)).bind fun v2 =>
  some (r1 &&& (((1 : Int32) <<< (v2 &&& 31)) ^^^ (-1)))
def fX9_goes (Ww : Nat → Int32) (p1 : Int32) : Option (Int32 × (Nat → Int32)) :=
  (fX9_calledOf Ww p1).bind fun q1 =>
  if q1 = 0 then
    some (0, Ww)
  else
    (rd Ww 1247 (p1 + 4)).bind fun v2 =>
    (if (q1 >>> (v2 &&& 31)) ≤ 0 then
      some 0
    else
      some 1 : Option (Int32)).bind fun j3 =>
    (rd Ww 1247 (p1 + 4)).bind fun v4 =>
    (if (q1 &&& (((1 : Int32) <<< (v4 &&& 31)) - 1)) ≤ 0 then
      some 0
    else
      some 1 : Option (Int32)).bind fun j5 =>
    (rd Ww 1247 (p1 + 5)).bind fun v6 =>
    (if v6 = 1 then
      if j3 = 0 then
        some 0
      else
        some 1
    else
      if j5 = 0 then
        some 1
      else
        some 0 : Option (Int32)).bind fun j7 =>
    (wr Ww 1247 (p1 + 5) j7).bind fun w8 =>
    (rd w8 1247 (p1 + 4)).bind fun v9 =>
    (rd w8 1247 (p1 + 5)).bind fun v10 =>
    (if v10 = 1 then
      some 1
    else
      some (-1) : Option (Int32)).bind fun j11 =>
    (wr w8 1247 (p1 + 4) (v9 + j11)).bind fun w12 =>
    some (1, w12)
def fX9_coolsOne (Ww : Nat → Int32) (p1 : Int32) (p2 : Int32) (p3 : Int32) : Option ((Nat → Int32)) :=
  (rd Ww 1247 ((p1 + 7) + p2)).bind fun v1 =>
  (rd Ww 1247 ((p1 + 31) + p2)).bind fun v2 =>
  (if v1 = 1 then
    some 1
  else
    if v1 = 2 then
      some 1
    else
      if v1 = 3 then
        (rd Ww 1247 (p1 + 6)).bind fun v13 =>
        if (v13 - v13 / 2 * 2) = 1 then
          some 1
        else
          some 0
      else
        some 0 : Option (Int32)).bind fun j3 =>
  (if v1 < 4 then
    if j3 = 0 then
      some v2
    else
      some (v2 - 1)
  else
    some (v2 + 1) : Option (Int32)).bind fun j4 =>
  (if 0 ≤ j4 then
    if j4 ≤ 60 then
      some j4
    else
      some 60
  else
    some 0 : Option (Int32)).bind fun j5 =>
  (wr Ww 1247 ((p1 + 31) + p2) j5).bind fun w6 =>
  (if v1 = 2 then
    (rd w6 1247 ((p1 + 13) + p2)).bind fun v12 =>
    if v12 = 10 then
      if p3 = 0 then
        some 0
      else
        some 1
    else
      some 0
  else
    if v1 = 5 then
      if j5 < 10 then
        some 0
      else
        some 1
    else
      some 0 : Option (Int32)).bind fun j7 =>
  (rd w6 1247 ((p1 + 25) + p2)).bind fun v8 =>
  (if j7 = 0 then
    some 0
  else
    (rd w6 1247 ((p1 + 25) + p2)).bind fun v11 =>
    if v11 ≤ 1 then
      some 0
    else
      some 1 : Option (Int32)).bind fun j9 =>
  (wr w6 1247 ((p1 + 25) + p2) (v8 - j9)).bind fun w10 =>
  some w10
def fX9_cools_b2 (p1 : Int32) (p2 : Int32) (x2 : Int32 × (Nat → Int32)) : Option ((Int32 × (Nat → Int32)) ⊕ ((Nat → Int32))) :=
  (rd x2.2 1247 (p1 + 0)).bind fun v4 =>
  if v4 ≤ x2.1 then
    some (.inr x2.2)
  else
    (rd x2.2 1247 ((p1 + 13) + x2.1)).bind fun v5 =>
    if v5 = 11 then
      some (.inl ((x2.1 + 1), x2.2))
    else
      (fX9_coolsOne x2.2 p1 x2.1 p2).bind fun q6 =>
      some (.inl ((x2.1 + 1), q6))
def fX9_cools (Ww : Nat → Int32) (p1 : Int32) (p2 : Int32) : Option ((Nat → Int32)) :=
  (lp (fX9_cools_b2 p1 p2) FU (0, Ww)).bind fun r1 =>
  (rd r1 1247 (p1 + 6)).bind fun v2 =>
  (wr r1 1247 (p1 + 6) (v2 + 1)).bind fun w3 =>
  some w3
def fX9_passes (Ww : Nat → Int32) (p1 : Int32) : Option ((Nat → Int32)) :=
  (fX9_serves Ww p1).bind fun q1 =>
  (fX9_goes q1 p1).bind fun q2 =>
  (fX9_cools q2.2 p1 q2.1).bind fun q3 =>
  some q3
def fX9_servedOf_b4 (Ww : Nat → Int32) (p1 : Int32) (x4 : Int32 × Int32) : Option ((Int32 × Int32) ⊕ (Int32)) :=
  (rd Ww 1247 (p1 + 0)).bind fun v2 =>
  if v2 ≤ x4.2 then
    some (.inr x4.1)
  else
    (rd Ww 1247 ((p1 + 13) + x4.2)).bind fun v3 =>
    if v3 = 11 then
      some (.inl ((x4.1 ||| ((1 : Int32) <<< (x4.2 &&& 31))), (x4.2 + 1)))
    else
      some (.inl ((x4.1 ||| 0), (x4.2 + 1)))
def fX9_servedOf (Ww : Nat → Int32) (p1 : Int32) : Option (Int32) :=
  (lp (fX9_servedOf_b4 Ww p1) FU (0, 0)).bind fun r1 =>
  some r1
def fX9_minutes_b45 (p1 : Int32) (x45 : Int32 × Int32 × (Nat → Int32)) : Option ((Int32 × Int32 × (Nat → Int32)) ⊕ (Int32 × (Nat → Int32))) :=
  if p1 ≤ x45.1 then
    some (.inr (x45.2.1, x45.2.2))
  else
    (fX9_minds x45.2.2 x45.2.1).bind fun q6 =>
    (fX9_passes q6.2 0).bind fun q7 =>
    some (.inl ((x45.1 + 1), q6.1, q7))
def fX9_minutes (Ww : Nat → Int32) (fu : Int32) (p1 : Int32) : Option (Int32 × Int32 × (Nat → Int32)) :=
  (fX9_isHouse Ww).bind fun q1 =>
  if q1 = 0 then
    some ((-1000002), fu, Ww)
  else
    (fX9_in p1.toInt64 1 24).bind fun q2 =>
    if q2 = 0 then
      some ((-1000001), fu, Ww)
    else
      (rd Ww 1247 6).bind fun v3 =>
      if (v3 + p1) ≤ 999 then
        (lp (fX9_minutes_b45 p1) FU (0, fu, Ww)).bind fun r4 =>
        (fX9_servedOf r4.2 0).bind fun q5 =>
        some (q5, r4.1, r4.2)
      else
        some ((-1000003), fu, Ww)
def fX9_isFloor (Ww : Nat → Int32) (p1 : Int32) : Option (Int32) :=
  (rd Ww 1247 1).bind fun v1 =>
  (fX9_in p1.toInt64 0 ((v1 - 1).toInt64)).bind fun q2 =>
  (gb q2).bind fun g3 =>
  some q2
def fX9_pull (Ww : Nat → Int32) (fu : Int32) (p1 : Int32) : Option (Int32 × Int32 × (Nat → Int32)) :=
  (fX9_isFloor Ww p1).bind fun q1 =>
  if q1 = 0 then
    some ((-1000001), fu, Ww)
  else
    (rd Ww 1247 4).bind fun v2 =>
    if v2 = p1 then
      some ((-1000002), fu, Ww)
    else
      (fX9_minds Ww fu).bind fun q3 =>
      (rd q3.2 1247 4).bind fun v4 =>
      (wr q3.2 1247 4 p1).bind fun w5 =>
      some (v4, q3.1, w5)
def fX9_rope (Ww : Nat → Int32) (fu : Int32) (p1 : Int32) : Option (Int32 × Int32 × (Nat → Int32)) :=
  (fX9_isHouse Ww).bind fun q1 =>
  if q1 = 0 then
    some ((-1000002), fu, Ww)
  else
    (fX9_in p1.toInt64 1 40).bind fun q2 =>
    if q2 = 0 then
      some ((-1000001), fu, Ww)
    else
      (fX9_minds Ww fu).bind fun q3 =>
      (rd q3.2 1247 3).bind fun v4 =>
      (wr q3.2 1247 3 p1).bind fun w5 =>
      some (v4, q3.1, w5)
def fX9_room (Ww : Nat → Int32) (fu : Int32) (p1 : Int32) : Option (Int32 × Int32 × (Nat → Int32)) :=
  (fX9_isHouse Ww).bind fun q1 =>
  if q1 = 0 then
    some ((-1000002), fu, Ww)
  else
    (fX9_in p1.toInt64 1 4).bind fun q2 =>
    if q2 = 0 then
      some ((-1000001), fu, Ww)
    else
      (fX9_minds Ww fu).bind fun q3 =>
      (rd q3.2 1247 2).bind fun v4 =>
      (wr q3.2 1247 2 p1).bind fun w5 =>
      some (v4, q3.1, w5)
def fX9_isDish (Ww : Nat → Int32) (p1 : Int32) : Option (Int32) :=
  (rd Ww 1247 0).bind fun v1 =>
  (fX9_in p1.toInt64 0 ((v1 - 1).toInt64)).bind fun q2 =>
  (gb q2).bind fun g3 =>
  some q2
def fX9_sendsBack (Ww : Nat → Int32) (p1 : Int32) (p2 : Int32) (p3 : Int32) (p4 : Int32) : Option ((Nat → Int32)) :=
  (rd Ww 1247 ((p1 + 19) + p2)).bind fun v1 =>
  (wr Ww 1247 ((p1 + 13) + p2) v1).bind fun w2 =>
  (wr w2 1247 ((p1 + 19) + p2) p3).bind fun w3 =>
  (wr w3 1247 ((p1 + 31) + p2) p4).bind fun w4 =>
  some w4
def fX9_send (Ww : Nat → Int32) (fu : Int32) (p1 : Int32) (p2 : Int32) (p3 : Int32) : Option (Int32 × Int32 × (Nat → Int32)) :=
  (fX9_isDish Ww p1).bind fun q1 =>
  if q1 = 0 then
    some ((-1000001), fu, Ww)
  else
    (fX9_isFloor Ww p2).bind fun q2 =>
    if q2 = 0 then
      some ((-1000001), fu, Ww)
    else
      (fX9_in p3.toInt64 0 60).bind fun q3 =>
      if q3 = 0 then
        some ((-1000001), fu, Ww)
      else
        (rd Ww 1247 (13 + p1)).bind fun v4 =>
        if v4 = 11 then
          (rd Ww 1247 (19 + p1)).bind fun v5 =>
          if v5 = p2 then
            some ((-1000002), fu, Ww)
          else
            (fX9_minds Ww fu).bind fun q6 =>
            (fX9_sendsBack q6.2 0 p1 p2 p3).bind fun q7 =>
            (fX9_servedOf q7 0).bind fun q8 =>
            some (q8, q6.1, q7)
        else
          some ((-1000002), fu, Ww)
def fX9_isGood (p0 : Int32) (p1 : Int32) : Option (Int32) :=
  if p0 < 4 then
    if p1 < 20 then
      some 0
    else
      some 1
  else
    if 10 < p1 then
      some 0
    else
      some 1
def fX9_dish (Ww : Nat → Int32) (p1 : Int32) (p2 : Int32) : Option (Int32) :=
  (fX9_isDish Ww p1).bind fun q1 =>
  if q1 = 0 then
    some (-1000001)
  else
    if p2 = 0 then
      (rd Ww 1247 (13 + p1)).bind fun v2 =>
      some v2
    else
      if p2 = 1 then
        (rd Ww 1247 (19 + p1)).bind fun v3 =>
        some v3
      else
        if p2 = 2 then
          (rd Ww 1247 (25 + p1)).bind fun v4 =>
          some v4
        else
          if p2 = 3 then
            (rd Ww 1247 (31 + p1)).bind fun v5 =>
            some v5
          else
            if p2 = 4 then
              (rd Ww 1247 (7 + p1)).bind fun v6 =>
              (rd Ww 1247 (31 + p1)).bind fun v7 =>
              (fX9_isGood v6 v7).bind fun q8 =>
              if q8 = 0 then
                some 0
              else
                some 1
            else
              some (-1000001)
def fX9_car (Ww : Nat → Int32) (p1 : Int32) : Option (Int32) :=
  (fX9_isHouse Ww).bind fun q1 =>
  if q1 = 0 then
    some (-1000002)
  else
    if p1 = 0 then
      (rd Ww 1247 1).bind fun v2 =>
      some v2
    else
      if p1 = 1 then
        (rd Ww 1247 4).bind fun v3 =>
        some v3
      else
        if p1 = 2 then
          (rd Ww 1247 5).bind fun v4 =>
          some v4
        else
          if p1 = 3 then
            (rd Ww 1247 2).bind fun v5 =>
            some v5
          else
            if p1 = 4 then
              (rd Ww 1247 3).bind fun v6 =>
              some v6
            else
              if p1 = 5 then
                (fX9_insideOf Ww 0).bind fun q7 =>
                some q7
              else
                if p1 = 6 then
                  (fX9_servedOf Ww 0).bind fun q8 =>
                  some q8
                else
                  if p1 = 7 then
                    (fX9_calledOf Ww 0).bind fun q9 =>
                    some q9
                  else
                    if p1 = 8 then
                      (fX9_insideOf Ww 0).bind fun q10 =>
                      (fX9_weightOf Ww 0 q10).bind fun q11 =>
                      some q11
                    else
                      some (-1000001)
def fX9_tries (Ww : Nat → Int32) : Option ((Nat → Int32)) :=
  (fX9_copyOf Ww 0 43).bind fun q1 =>
  some q1
def fX9_goesOn_b2 (p1 : Int32) (x2 : Int32 × (Nat → Int32)) : Option ((Int32 × (Nat → Int32)) ⊕ ((Nat → Int32))) :=
  if p1 ≤ x2.1 then
    some (.inr x2.2)
  else
    (fX9_passes x2.2 43).bind fun q2 =>
    some (.inl ((x2.1 + 1), q2))
def fX9_goesOn (Ww : Nat → Int32) (p1 : Int32) : Option ((Nat → Int32)) :=
  (lp (fX9_goesOn_b2 p1) FU (0, Ww)).bind fun r1 =>
  some r1
def fX9_ahead (Ww : Nat → Int32) (p1 : Int32) (p2 : Int32) (p3 : Int32) : Option (Int32 × (Nat → Int32)) :=
  (fX9_isDish Ww p1).bind fun q1 =>
  if q1 = 0 then
    some ((-1000001), Ww)
  else
    (fX9_in p2.toInt64 0 60).bind fun q2 =>
    if q2 = 0 then
      some ((-1000001), Ww)
    else
      (fX9_in p3.toInt64 0 2).bind fun q3 =>
      if q3 = 0 then
        some ((-1000001), Ww)
      else
        (fX9_tries Ww).bind fun q4 =>
        (fX9_goesOn q4 p2).bind fun q5 =>
        if p3 = 0 then
          (rd q5 1247 (56 + p1)).bind fun v6 =>
          some (v6, q5)
        else
          if p3 = 1 then
            (rd q5 1247 (74 + p1)).bind fun v7 =>
            some (v7, q5)
          else
            (rd q5 1247 (68 + p1)).bind fun v8 =>
            some (v8, q5)
def fX9_later (Ww : Nat → Int32) (p1 : Int32) : Option (Int32 × (Nat → Int32)) :=
  (fX9_isHouse Ww).bind fun q1 =>
  if q1 = 0 then
    some ((-1000002), Ww)
  else
    (fX9_in p1.toInt64 0 60).bind fun q2 =>
    if q2 = 0 then
      some ((-1000001), Ww)
    else
      (fX9_tries Ww).bind fun q3 =>
      (fX9_goesOn q3 p1).bind fun q4 =>
      (rd q4 1247 47).bind fun v5 =>
      some (v5, q4)
def fX9_allServed_b6 (p1 : Int32) (x6 : Int32 × (Nat → Int32)) : Option ((Int32 × (Nat → Int32)) ⊕ (Int32 × (Nat → Int32))) :=
  if 60 < x6.1 then
    some (.inr ((-1000000), x6.2))
  else
    (fX9_servedOf x6.2 43).bind fun q2 =>
    if (q2 &&& p1) = p1 then
      some (.inr (x6.1, x6.2))
    else
      (fX9_passes x6.2 43).bind fun q3 =>
      some (.inl ((x6.1 + 1), q3))
def fX9_allServed (Ww : Nat → Int32) (p1 : Int32) : Option (Int32 × (Nat → Int32)) :=
  (fX9_tries Ww).bind fun q1 =>
  lp (fX9_allServed_b6 p1) FU (0, q1)
def fX9_when (Ww : Nat → Int32) (p1 : Int32) : Option (Int32 × (Nat → Int32)) :=
  (fX9_isDish Ww p1).bind fun q1 =>
  if q1 = 0 then
    some ((-1000001), Ww)
  else
    (fX9_allServed Ww ((1 : Int32) <<< (p1 &&& 31))).bind fun q2 =>
    some (q2.1, q2.2)
def fX9_done (Ww : Nat → Int32) : Option (Int32 × (Nat → Int32)) :=
  (fX9_isHouse Ww).bind fun q1 =>
  if q1 = 0 then
    some ((-1000002), Ww)
  else
    (rd Ww 1247 0).bind fun v2 =>
    (fX9_allServed Ww (((1 : Int32) <<< (v2 &&& 31)) - 1)).bind fun q3 =>
    some (q3.1, q3.2)
def fX9_fineOf_b4 (Ww : Nat → Int32) (p1 : Int32) (x4 : Int32 × Int32) : Option ((Int32 × Int32) ⊕ (Int32)) :=
  (rd Ww 1247 (p1 + 0)).bind fun v2 =>
  if v2 ≤ x4.2 then
    some (.inr x4.1)
  else
    (rd Ww 1247 ((p1 + 13) + x4.2)).bind fun v3 =>
    if v3 = 11 then
      (rd Ww 1247 ((p1 + 7) + x4.2)).bind fun v4 =>
      (rd Ww 1247 ((p1 + 31) + x4.2)).bind fun v5 =>
      (fX9_isGood v4 v5).bind fun q6 =>
      if q6 = 0 then
        some (.inl ((x4.1 ||| 0), (x4.2 + 1)))
      else
        some (.inl ((x4.1 ||| ((1 : Int32) <<< (x4.2 &&& 31))), (x4.2 + 1)))
    else
      some (.inl ((x4.1 ||| 0), (x4.2 + 1)))
def fX9_fineOf (Ww : Nat → Int32) (p1 : Int32) : Option (Int32) :=
  (lp (fX9_fineOf_b4 Ww p1) FU (0, 0)).bind fun r1 =>
  some r1
def fX9_fine (Ww : Nat → Int32) (p1 : Int32) : Option (Int32 × (Nat → Int32)) :=
  (fX9_isHouse Ww).bind fun q1 =>
  if q1 = 0 then
    some ((-1000002), Ww)
  else
    (fX9_in p1.toInt64 0 60).bind fun q2 =>
    if q2 = 0 then
      some ((-1000001), Ww)
    else
      (fX9_tries Ww).bind fun q3 =>
      (fX9_goesOn q3 p1).bind fun q4 =>
      (fX9_fineOf q4 43).bind fun q5 =>
      some (q5, q4)
def fX9_site_b43 (p1 : Int32) (x43 : Int32 × Int32 × Int32 × (Nat → Int32)) : Option ((Int32 × Int32 × Int32 × (Nat → Int32)) ⊕ (Int32 × Int32 × (Nat → Int32))) :=
  (rd x43.2.2.2 1247 1).bind fun v5 =>
  if v5 ≤ x43.2.2.1 then
    some (.inr (x43.1, x43.2.1, x43.2.2.2))
  else
    (fX9_tries x43.2.2.2).bind fun q6 =>
    (wr q6 1247 47 x43.2.2.1).bind fun w7 =>
    (fX9_goesOn w7 p1).bind fun q8 =>
    (fX9_fineOf q8 43).bind fun q9 =>
    (fX9_ones q9).bind fun q10 =>
    (if q10 ≤ x43.2.1 then
      some x43.1
    else
      some x43.2.2.1 : Option (Int32)).bind fun j11 =>
    if q10 ≤ x43.2.1 then
      some (.inl (j11, x43.2.1, (x43.2.2.1 + 1), q8))
    else
      some (.inl (j11, q10, (x43.2.2.1 + 1), q8))
def fX9_site (Ww : Nat → Int32) (p1 : Int32) (p2 : Int32) : Option (Int32 × (Nat → Int32)) :=
  (fX9_isHouse Ww).bind fun q1 =>
  if q1 = 0 then
    some ((-1000002), Ww)
  else
    (fX9_in p1.toInt64 1 40).bind fun q2 =>
    if q2 = 0 then
      some ((-1000001), Ww)
    else
      (fX9_in p2.toInt64 0 1).bind fun q3 =>
      if q3 = 0 then
        some ((-1000001), Ww)
      else
        (lp (fX9_site_b43 p1) FU (0, (-1), 0, Ww)).bind fun r4 =>
        if p2 = 0 then
          some (r4.1, r4.2.2)
        else
          some (r4.2.1, r4.2.2)
def fX9_need_b49 (p1 : Int32) (p2 : Int32) (j4 : Int32) (x49 : Int32 × (Nat → Int32)) : Option ((Int32 × (Nat → Int32)) ⊕ (Int32 × (Nat → Int32))) :=
  if j4 < x49.1 then
    some (.inr ((-1000000), x49.2))
  else
    (fX9_tries x49.2).bind fun q5 =>
    (if p2 = 0 then
      some 2
    else
      some 3 : Option (Int32)).bind fun j6 =>
    (wr q5 1247 (43 + j6) x49.1).bind fun w7 =>
    (fX9_goesOn w7 p1).bind fun q8 =>
    (fX9_servedOf q8 43).bind fun q9 =>
    (rd q8 1247 0).bind fun v10 =>
    if q9 = (((1 : Int32) <<< (v10 &&& 31)) - 1) then
      some (.inr (x49.1, q8))
    else
      some (.inl ((x49.1 + 1), q8))
def fX9_need (Ww : Nat → Int32) (p1 : Int32) (p2 : Int32) : Option (Int32 × (Nat → Int32)) :=
  (fX9_isHouse Ww).bind fun q1 =>
  if q1 = 0 then
    some ((-1000002), Ww)
  else
    (fX9_in p1.toInt64 1 40).bind fun q2 =>
    if q2 = 0 then
      some ((-1000001), Ww)
    else
      (fX9_in p2.toInt64 0 1).bind fun q3 =>
      if q3 = 0 then
        some ((-1000001), Ww)
      else
        (if p2 = 0 then
          some 4
        else
          some 40 : Option (Int32)).bind fun j4 =>
        lp (fX9_need_b49 p1 p2 j4) FU (1, Ww)
def fX9_waitsBy_b41 (p1 : Int32) (x41 : Int32 × Int32 × (Nat → Int32)) : Option ((Int32 × Int32 × (Nat → Int32)) ⊕ (Int32 × (Nat → Int32))) :=
  if p1 < x41.2.1 then
    some (.inr (x41.1, x41.2.2))
  else
    (rd x41.2.2 1247 0).bind fun v4 =>
    (fX9_servedOf x41.2.2 43).bind fun q5 =>
    (fX9_ones q5).bind fun q6 =>
    (fX9_passes x41.2.2 43).bind fun q7 =>
    some (.inl ((x41.1 + (v4 - q6)), (x41.2.1 + 1), q7))
def fX9_waitsBy_b6 (OR : Nat → Int32) (x6 : Int32 × (Nat → Int32)) : Option ((Int32 × (Nat → Int32)) ⊕ ((Nat → Int32))) :=
  (rd x6.2 1247 0).bind fun v8 =>
  if v8 ≤ x6.1 then
    some (.inr x6.2)
  else
    (rd OR 7 x6.1).bind fun v9 =>
    (wr x6.2 1247 (80 + x6.1) v9).bind fun w10 =>
    some (.inl ((x6.1 + 1), w10))
def fX9_waitsBy (Ww : Nat → Int32) (OR : Nat → Int32) (p1 : Int32) : Option (Int32 × (Nat → Int32)) :=
  (fX9_tries Ww).bind fun q1 =>
  (lp (fX9_waitsBy_b6 OR) FU (0, q1)).bind fun r2 =>
  (lp (fX9_waitsBy_b41 p1) FU (0, 0, r2)).bind fun r3 =>
  some (r3.1, r3.2)
def fX9_bestRanks_b68 (x12 : Int32 × Int32 × (Nat → Int32) × (Nat → Int32) × (Nat → Int32)) (q5 : Int32 × (Nat → Int32)) (x68 : Int32 × (Nat → Int32)) : Option ((Int32 × (Nat → Int32)) ⊕ ((Nat → Int32))) :=
  (rd q5.2 1247 0).bind fun v7 =>
  if v7 ≤ x68.1 then
    some (.inr x68.2)
  else
    if x12.1 ≤ q5.1 then
      some (.inr x68.2)
    else
      (rd x12.2.2.2.1 7 x68.1).bind fun v8 =>
      (wr x68.2 6 x68.1 v8).bind fun w9 =>
      some (.inl ((x68.1 + 1), w9))
def fX9_bestRanks_b134 (x12 : Int32 × Int32 × (Nat → Int32) × (Nat → Int32) × (Nat → Int32)) (r3 : Int32) (x134 : Int32) : Option ((Int32) ⊕ (Int32)) :=
  (rd x12.2.2.1 1247 0).bind fun v17 =>
  if v17 ≤ x134 then
    some (.inr x134)
  else
    (fX9_has r3 x134).bind fun q18 =>
    if q18 = 0 then
      some (.inr x134)
    else
      some (.inl (x134 + 1))
def fX9_bestRanks_b22 (x12 : Int32 × Int32 × (Nat → Int32) × (Nat → Int32) × (Nat → Int32)) (x22 : Int32 × Int32) : Option ((Int32 × Int32) ⊕ (Int32)) :=
  if x12.2.1 ≤ x22.2 then
    some (.inr x22.1)
  else
    (rd x12.2.2.2.1 7 x22.2).bind fun v19 =>
    some (.inl ((x22.1 ||| ((1 : Int32) <<< (v19 &&& 31))), (x22.2 + 1)))
def fX9_bestRanks_b12 (p1 : Int32) (x12 : Int32 × Int32 × (Nat → Int32) × (Nat → Int32) × (Nat → Int32)) : Option ((Int32 × Int32 × (Nat → Int32) × (Nat → Int32) × (Nat → Int32)) ⊕ (Int32 × (Nat → Int32) × (Nat → Int32) × (Nat → Int32))) :=
  if x12.2.1 < 0 then
    some (.inr (x12.1, x12.2.2.1, x12.2.2.2.1, x12.2.2.2.2))
  else
    (lp (fX9_bestRanks_b22 x12) FU (0, 0)).bind fun r3 =>
    (rd x12.2.2.1 1247 0).bind fun v4 =>
    if x12.2.1 = v4 then
      (fX9_waitsBy x12.2.2.1 x12.2.2.2.1 p1).bind fun q5 =>
      (lp (fX9_bestRanks_b68 x12 q5) FU (0, x12.2.2.2.2)).bind fun r6 =>
      if x12.1 ≤ q5.1 then
        some (.inl (x12.1, (x12.2.1 + (-1)), q5.2, x12.2.2.2.1, r6))
      else
        some (.inl (q5.1, (x12.2.1 + (-1)), q5.2, x12.2.2.2.1, r6))
    else
      (rd x12.2.2.2.1 7 x12.2.1).bind fun v10 =>
      (lp (fX9_bestRanks_b134 x12 r3) FU (v10 + 1)).bind fun r11 =>
      (wr x12.2.2.2.1 7 x12.2.1 r11).bind fun w12 =>
      (rd x12.2.2.1 1247 0).bind fun v13 =>
      (if r11 = v13 then
        some (-1)
      else
        some 1 : Option (Int32)).bind fun j14 =>
      (rd x12.2.2.1 1247 0).bind fun v15 =>
      if v15 ≤ r11 then
        some (.inl (x12.1, (x12.2.1 + j14), x12.2.2.1, w12, x12.2.2.2.2))
      else
        (wr w12 7 (x12.2.1 + j14) (-1)).bind fun w16 =>
        some (.inl (x12.1, (x12.2.1 + j14), x12.2.2.1, w16, x12.2.2.2.2))
def fX9_bestRanks (Ww : Nat → Int32) (OR : Nat → Int32) (BO : Nat → Int32) (p1 : Int32) : Option (Int32 × (Nat → Int32) × (Nat → Int32) × (Nat → Int32)) :=
  (wr OR 7 0 (-1)).bind fun w1 =>
  (lp (fX9_bestRanks_b12 p1) FU (100000000, 0, Ww, w1, BO)).bind fun r2 =>
  some (r2.1, r2.2.1, r2.2.2.1, r2.2.2.2)
def fX9_ranks (Ww : Nat → Int32) (OR : Nat → Int32) (BO : Nat → Int32) (p1 : Int32) (p2 : Int32) : Option (Int32 × (Nat → Int32) × (Nat → Int32) × (Nat → Int32)) :=
  (fX9_isHouse Ww).bind fun q1 =>
  if q1 = 0 then
    some ((-1000002), Ww, OR, BO)
  else
    (fX9_in p1.toInt64 1 40).bind fun q2 =>
    if q2 = 0 then
      some ((-1000001), Ww, OR, BO)
    else
      if (-1) ≤ p2 then
        (fX9_bestRanks Ww OR BO p1).bind fun q3 =>
        if 0 ≤ p2 then
          (rd q3.2.1 1247 0).bind fun v4 =>
          if v4 ≤ p2 then
            some ((-1000000), q3.2.1, q3.2.2.1, q3.2.2.2)
          else
            (rd q3.2.2.2 6 p2).bind fun v5 =>
            some (v5, q3.2.1, q3.2.2.1, q3.2.2.2)
        else
          some (q3.1, q3.2.1, q3.2.2.1, q3.2.2.2)
      else
        some ((-1000001), Ww, OR, BO)
def fX9_holds_b32 (Ww : Nat → Int32) (x32 : Int32 × Int32 × Int32) : Option ((Int32 × Int32 × Int32) ⊕ (Int32 × Int32)) :=
  (rd Ww 1247 0).bind fun v5 =>
  if ((1 : Int32) <<< (v5 &&& 31)) ≤ x32.2.2 then
    some (.inr (x32.1, x32.2.1))
  else
    (fX9_weightOf Ww 0 x32.2.2).bind fun q6 =>
    (fX9_servedOf Ww 0).bind fun q7 =>
    if (x32.2.2 &&& q7) = 0 then
      (fX9_ones x32.2.2).bind fun q8 =>
      (rd Ww 1247 2).bind fun v9 =>
      if v9 < q8 then
        some (.inl (x32.1, x32.2.1, (x32.2.2 + 1)))
      else
        (rd Ww 1247 3).bind fun v10 =>
        if v10 < q6 then
          some (.inl (x32.1, x32.2.1, (x32.2.2 + 1)))
        else
          (fX9_weightOf Ww 0 x32.2.1).bind fun q11 =>
          if q11 < q6 then
            some (.inl ((x32.1 + 1), x32.2.2, (x32.2.2 + 1)))
          else
            if q6 = q11 then
              (fX9_ones x32.2.2).bind fun q12 =>
              (fX9_ones x32.2.1).bind fun q13 =>
              if q12 ≤ q13 then
                some (.inl ((x32.1 + 1), x32.2.1, (x32.2.2 + 1)))
              else
                some (.inl ((x32.1 + 1), x32.2.2, (x32.2.2 + 1)))
            else
              some (.inl ((x32.1 + 1), x32.2.1, (x32.2.2 + 1)))
    else
      some (.inl (x32.1, x32.2.1, (x32.2.2 + 1)))
def fX9_holds (Ww : Nat → Int32) (p1 : Int32) : Option (Int32) :=
  (fX9_isHouse Ww).bind fun q1 =>
  if q1 = 0 then
    some (-1000002)
  else
    (fX9_in p1.toInt64 0 2).bind fun q2 =>
    if q2 = 0 then
      some (-1000001)
    else
      (lp (fX9_holds_b32 Ww) FU (0, 0, 0)).bind fun r3 =>
      if p1 = 0 then
        some r3.1
      else
        if p1 = 1 then
          some r3.2
        else
          (fX9_weightOf Ww 0 r3.2).bind fun q4 =>
          some q4
def fX9_heatOf_b4 (Ww : Nat → Int32) (p1 : Int32) (x4 : Int32 × Int32) : Option ((Int32 × Int32) ⊕ (Int32)) :=
  (rd Ww 1247 (p1 + 0)).bind fun v2 =>
  if v2 ≤ x4.2 then
    some (.inr x4.1)
  else
    (rd Ww 1247 ((p1 + 31) + x4.2)).bind fun v3 =>
    some (.inl ((x4.1 + v3), (x4.2 + 1)))
def fX9_heatOf (Ww : Nat → Int32) (p1 : Int32) : Option (Int32) :=
  (lp (fX9_heatOf_b4 Ww p1) FU (0, 0)).bind fun r1 =>
  some r1
def fX9_heatServed_b4 (Ww : Nat → Int32) (p1 : Int32) (x4 : Int32 × Int32) : Option ((Int32 × Int32) ⊕ (Int32)) :=
  (rd Ww 1247 (p1 + 0)).bind fun v2 =>
  if v2 ≤ x4.2 then
    some (.inr x4.1)
  else
    (rd Ww 1247 ((p1 + 13) + x4.2)).bind fun v3 =>
    if v3 = 11 then
      (rd Ww 1247 ((p1 + 31) + x4.2)).bind fun v4 =>
      some (.inl ((x4.1 + v4), (x4.2 + 1)))
    else
      some (.inl ((x4.1 + 0), (x4.2 + 1)))
def fX9_heatServed (Ww : Nat → Int32) (p1 : Int32) : Option (Int32) :=
  (lp (fX9_heatServed_b4 Ww p1) FU (0, 0)).bind fun r1 =>
  some r1
def fX9_share_b72 (Ww : Nat → Int32) (p1 : Int32) (p2 : Int32) (q3 : Int32) (q4 : Int32) (x72 : Int32 × Int32 × Int32) : Option ((Int32 × Int32 × Int32) ⊕ (Int32 × Int32)) :=
  (rd Ww 1247 0).bind fun v10 =>
  if v10 ≤ x72.2.2 then
    some (.inr (x72.1, x72.2.1))
  else
    (rd Ww 1247 (13 + x72.2.2)).bind fun v11 =>
    (if v11 = 11 then
      some 0
    else
      (rd Ww 1247 (31 + x72.2.2)).bind fun v14 =>
      some v14 : Option (Int32)).bind fun j12 =>
    (gnz (q3 - q4)).bind fun g13 =>
    if p1 ≤ x72.2.2 then
      some (.inl ((x72.1 - ((p2 * j12) / (q3 - q4))), (x72.2.1 + 0), (x72.2.2 + 1)))
    else
      if j12 ≤ 0 then
        some (.inl ((x72.1 - ((p2 * j12) / (q3 - q4))), (x72.2.1 + 0), (x72.2.2 + 1)))
      else
        some (.inl ((x72.1 - ((p2 * j12) / (q3 - q4))), (x72.2.1 + 1), (x72.2.2 + 1)))
def fX9_share (Ww : Nat → Int32) (p1 : Int32) (p2 : Int32) : Option (Int32) :=
  (fX9_isDish Ww p1).bind fun q1 =>
  if q1 = 0 then
    some (-1000001)
  else
    (fX9_in p2.toInt64 0 999).bind fun q2 =>
    if q2 = 0 then
      some (-1000001)
    else
      (fX9_heatOf Ww 0).bind fun q3 =>
      (fX9_heatServed Ww 0).bind fun q4 =>
      (rd Ww 1247 (13 + p1)).bind fun v5 =>
      if v5 = 11 then
        some 0
      else
        (rd Ww 1247 (31 + p1)).bind fun v6 =>
        if v6 = 0 then
          some 0
        else
          (lp (fX9_share_b72 Ww p1 p2 q3 q4) FU (p2, 0, 0)).bind fun r7 =>
          (rd Ww 1247 (31 + p1)).bind fun v8 =>
          (gnz (q3 - q4)).bind fun g9 =>
          if r7.1 ≤ r7.2 then
            some (((p2 * v8) / (q3 - q4)) + 0)
          else
            some (((p2 * v8) / (q3 - q4)) + 1)
def fX9_heatFrom (Ww : Nat → Int32) (p1 : Int32) (p2 : Int32) : Option (Int32 × (Nat → Int32)) :=
  (fX9_tries Ww).bind fun q1 =>
  (wr q1 1247 47 p1).bind fun w2 =>
  (fX9_goesOn w2 p2).bind fun q3 =>
  (fX9_heatServed q3 43).bind fun q4 =>
  some (q4, q3)
def fX9_byTurns_b83 (r4 : (Nat → Int32) × (Nat → Int32)) (x76 : Int32 × (Nat → Int32)) (x83 : Int32 × (Nat → Int32)) : Option ((Int32 × (Nat → Int32)) ⊕ ((Nat → Int32))) :=
  (rd r4.1 1247 1).bind fun v9 =>
  if v9 ≤ x83.1 then
    some (.inr x83.2)
  else
    (rd x83.2 45 ((9 * (x76.1 + 1)) + x83.1)).bind fun v10 =>
    (if (x76.1 - x76.1 / 2 * 2) = 0 then
      some (x83.1 - 1)
    else
      some (x83.1 + 1) : Option (Int32)).bind fun j11 =>
    (fX9_isFloor r4.1 j11).bind fun q12 =>
    (if q12 = 0 then
      some v10
    else
      (rd x83.2 45 ((9 * (x76.1 + 1)) + j11)).bind fun v17 =>
      some v17 : Option (Int32)).bind fun j13 =>
    (if (x76.1 - x76.1 / 2 * 2) = 0 then
      if j13 ≤ v10 then
        some 0
      else
        some 1
    else
      if v10 ≤ j13 then
        some 0
      else
        some 1 : Option (Int32)).bind fun j14 =>
    (if j14 = 0 then
      some v10
    else
      some j13 : Option (Int32)).bind fun j15 =>
    (wr x83.2 45 ((9 * x76.1) + x83.1) j15).bind fun w16 =>
    some (.inl ((x83.1 + 1), w16))
def fX9_byTurns_b76 (r4 : (Nat → Int32) × (Nat → Int32)) (x76 : Int32 × (Nat → Int32)) : Option ((Int32 × (Nat → Int32)) ⊕ ((Nat → Int32))) :=
  if x76.1 < 0 then
    some (.inr x76.2)
  else
    (lp (fX9_byTurns_b83 r4 x76) FU (0, x76.2)).bind fun r8 =>
    some (.inl ((x76.1 + (-1)), r8))
def fX9_byTurns_b39 (p1 : Int32) (p2 : Int32) (x39 : Int32 × (Nat → Int32) × (Nat → Int32)) : Option ((Int32 × (Nat → Int32) × (Nat → Int32)) ⊕ ((Nat → Int32) × (Nat → Int32))) :=
  (rd x39.2.1 1247 1).bind fun v18 =>
  if v18 ≤ x39.1 then
    some (.inr (x39.2.1, x39.2.2))
  else
    (fX9_heatFrom x39.2.1 x39.1 p2).bind fun q19 =>
    (wr x39.2.2 45 ((9 * p1) + x39.1) q19.1).bind fun w20 =>
    some (.inl ((x39.1 + 1), q19.2, w20))
def fX9_byTurns (Ww : Nat → Int32) (VL : Nat → Int32) (p1 : Int32) (p2 : Int32) : Option (Int32 × (Nat → Int32) × (Nat → Int32)) :=
  (fX9_isHouse Ww).bind fun q1 =>
  if q1 = 0 then
    some ((-1000002), Ww, VL)
  else
    (fX9_in p1.toInt64 0 4).bind fun q2 =>
    if q2 = 0 then
      some ((-1000001), Ww, VL)
    else
      (fX9_in p2.toInt64 1 20).bind fun q3 =>
      if q3 = 0 then
        some ((-1000001), Ww, VL)
      else
        (lp (fX9_byTurns_b39 p1 p2) FU (0, Ww, VL)).bind fun r4 =>
        (lp (fX9_byTurns_b76 r4) FU ((p1 - 1), r4.2)).bind fun r5 =>
        (rd r4.1 1247 4).bind fun v6 =>
        (rd r5 45 v6).bind fun v7 =>
        some (v7, r4.1, r5)
def fX9_isSo_b6 (IT : Nat → Int32) (p1 : Int32) (p2 : Int32) (p3 : Int32) (x6 : Int32 × Int32 × (Nat → Int32)) : Option ((Int32 × Int32 × (Nat → Int32)) ⊕ (Int32 × (Nat → Int32))) :=
  if p3 ≤ x6.2.1 then
    some (.inr (x6.1, x6.2.2))
  else
    (fX9_passes x6.2.2 43).bind fun q3 =>
    if x6.1 = 0 then
      some (.inl (0, (x6.2.1 + 1), q3))
    else
      (rd q3 1247 (74 + p1)).bind fun v4 =>
      (rd IT 320 (p2 + x6.2.1)).bind fun v5 =>
      if v4 = v5 then
        some (.inl (1, (x6.2.1 + 1), q3))
      else
        some (.inl (0, (x6.2.1 + 1), q3))
def fX9_isSo (Ww : Nat → Int32) (IT : Nat → Int32) (p1 : Int32) (p2 : Int32) (p3 : Int32) : Option (Int32 × (Nat → Int32)) :=
  (lp (fX9_isSo_b6 IT p1 p2 p3) FU (1, 0, Ww)).bind fun r1 =>
  (gb r1.1).bind fun g2 =>
  some (r1.1, r1.2)
def fX9_who_b217 (IT : Nat → Int32) (p1 : Int32) (p2 : Int32) (p3 : Int32) (p4 : Int32) (p5 : Int32) (j6 : Int32) (x217 : Int32 × Int32 × Int32 × (Nat → Int32)) : Option ((Int32 × Int32 × Int32 × (Nat → Int32)) ⊕ (Int32 × Int32 × (Nat → Int32))) :=
  if j6 < x217.2.2.1 then
    some (.inr (x217.1, x217.2.1, x217.2.2.2))
  else
    (fX9_tries x217.2.2.2).bind fun q9 =>
    (if 4 ≤ p2 then
      some 3
    else
      some (31 + p1) : Option (Int32)).bind fun j10 =>
    (wr q9 1247 (43 + j10) x217.2.2.1).bind fun w11 =>
    (fX9_isSo w11 IT p1 ((40 * p3) + p4) p5).bind fun q12 =>
    if q12.1 = 0 then
      some (.inl (x217.1, x217.2.1, (x217.2.2.1 + 1), q12.2))
    else
      if x217.1 = 0 then
        some (.inl ((x217.1 + 1), x217.2.2.1, (x217.2.2.1 + 1), q12.2))
      else
        some (.inl ((x217.1 + 1), x217.2.1, (x217.2.2.1 + 1), q12.2))
def fX9_who_b117 (IT : Nat → Int32) (p1 : Int32) (p2 : Int32) (p3 : Int32) (p4 : Int32) (p5 : Int32) (j13 : Int32) (x117 : Int32 × Int32 × (Nat → Int32)) : Option ((Int32 × Int32 × (Nat → Int32)) ⊕ (Int32 × (Nat → Int32))) :=
  if j13 < x117.2.1 then
    some (.inr (x117.1, x117.2.2))
  else
    (fX9_tries x117.2.2).bind fun q16 =>
    (if p2 = 0 then
      some (7 + p1)
    else
      some 4 : Option (Int32)).bind fun j17 =>
    (wr q16 1247 (43 + j17) x117.2.1).bind fun w18 =>
    (fX9_isSo w18 IT p1 ((40 * p3) + p4) p5).bind fun q19 =>
    if q19.1 = 0 then
      some (.inl ((x117.1 ||| 0), (x117.2.1 + 1), q19.2))
    else
      some (.inl ((x117.1 ||| ((1 : Int32) <<< (x117.2.1 &&& 31))), (x117.2.1 + 1), q19.2))
def fX9_who (Ww : Nat → Int32) (MA : Nat → Int32) (IT : Nat → Int32) (fs : Int32) (p1 : Int32) (p2 : Int32) (p3 : Int32) (p4 : Int32) (p5 : Int32) : Option (Int32 × Int32 × (Nat → Int32)) :=
  (fX9_isDish Ww p1).bind fun q1 =>
  if q1 = 0 then
    some ((-1000001), fs, Ww)
  else
    (fX9_in p2.toInt64 0 5).bind fun q2 =>
    if q2 = 0 then
      some ((-1000001), fs, Ww)
    else
      (fX9_isRow p3).bind fun q3 =>
      if q3 = 0 then
        some ((-1000001), fs, Ww)
      else
        (fX9_in p5.toInt64 1 12).bind fun q4 =>
        if q4 = 0 then
          some ((-1000001), fs, Ww)
        else
          (fX9_against MA p3 p4 p5).bind fun q5 =>
          if q5 ≤ 0 then
            if 2 ≤ p2 then
              (if 4 ≤ p2 then
                some 40
              else
                some 60 : Option (Int32)).bind fun j6 =>
              (if 4 ≤ p2 then
                some 1
              else
                some 0 : Option (Int32)).bind fun j7 =>
              (lp (fX9_who_b217 IT p1 p2 p3 p4 p5 j6) FU (0, (-1000000), j7, Ww)).bind fun r8 =>
              if (p2 - p2 / 2 * 2) = 0 then
                some (r8.1, 0, r8.2.2)
              else
                some (r8.2.1, 0, r8.2.2)
            else
              (if p2 = 0 then
                some 5
              else
                (rd Ww 1247 1).bind fun v20 =>
                some (v20 - 1) : Option (Int32)).bind fun j13 =>
              (if p2 = 0 then
                some 1
              else
                some 0 : Option (Int32)).bind fun j14 =>
              (lp (fX9_who_b117 IT p1 p2 p3 p4 p5 j13) FU (0, j14, Ww)).bind fun r15 =>
              some (r15.1, 0, r15.2)
          else
            (fX9_finds q5).bind fun q21 =>
            some (q21.1, q21.2, Ww)
def fX9_stuck_b199  (x199 : Int64 × Int64) : Option ((Int64 × Int64) ⊕ (Int64)) :=
  if x199.2 = 0 then
    some (.inr x199.1)
  else
    (gnzL x199.2).bind fun g10 =>
    some (.inl (x199.2, (x199.1 - x199.1 / x199.2 * x199.2)))
def fX9_stuck_b97 (p2 : Int32) (p3 : Int32) (x79 : Int64 × Int32 × (Nat → Int32)) (x97 : Int64 × Int32 × (Nat → Int32)) : Option ((Int64 × Int32 × (Nat → Int32)) ⊕ (Int64 × (Nat → Int32))) :=
  if p2 ≤ x97.2.1 then
    some (.inr (x97.1, x97.2.2))
  else
    (fX9_has x79.2.1 x97.2.1).bind fun q14 =>
    (if q14 = 0 then
      some ((10 - p3).toInt64)
    else
      some p3.toInt64 : Option (Int64)).bind fun j15 =>
    (fX9_has x79.2.1 x97.2.1).bind fun q16 =>
    if q16 = 0 then
      (fX9_passes x97.2.2 43).bind fun q17 =>
      some (.inl ((x97.1 * j15), (x97.2.1 + 1), q17))
    else
      (fX9_cools x97.2.2 43 0).bind fun q18 =>
      some (.inl ((x97.1 * j15), (x97.2.1 + 1), q18))
def fX9_stuck_b79 (p1 : Int32) (p2 : Int32) (p3 : Int32) (x79 : Int64 × Int32 × (Nat → Int32)) : Option ((Int64 × Int32 × (Nat → Int32)) ⊕ (Int64 × (Nat → Int32))) :=
  if ((1 : Int32) <<< (p2 &&& 31)) ≤ x79.2.1 then
    some (.inr (x79.1, x79.2.2))
  else
    (fX9_tries x79.2.2).bind fun q11 =>
    (lp (fX9_stuck_b97 p2 p3 x79) FU (1, 0, q11)).bind fun r12 =>
    (rd r12.2 1247 (56 + p1)).bind fun v13 =>
    if v13 = 11 then
      some (.inl ((x79.1 + r12.1), (x79.2.1 + 1), r12.2))
    else
      some (.inl ((x79.1 + 0), (x79.2.1 + 1), r12.2))
def fX9_stuck_b56 (p2 : Int32) (x56 : Int64 × Int32) : Option ((Int64 × Int32) ⊕ (Int64)) :=
  if p2 ≤ x56.2 then
    some (.inr x56.1)
  else
    some (.inl ((x56.1 * 10), (x56.2 + 1)))
def fX9_stuck (Ww : Nat → Int32) (p1 : Int32) (p2 : Int32) (p3 : Int32) (p4 : Int32) : Option (Int64 × (Nat → Int32)) :=
  (fX9_isDish Ww p1).bind fun q1 =>
  if q1 = 0 then
    some ((-1000001), Ww)
  else
    (fX9_in p2.toInt64 0 8).bind fun q2 =>
    if q2 = 0 then
      some ((-1000001), Ww)
    else
      (fX9_in p3.toInt64 0 10).bind fun q3 =>
      if q3 = 0 then
        some ((-1000001), Ww)
      else
        (fX9_in p4.toInt64 0 1).bind fun q4 =>
        if q4 = 0 then
          some ((-1000001), Ww)
        else
          (lp (fX9_stuck_b56 p2) FU (1, 0)).bind fun r5 =>
          (lp (fX9_stuck_b79 p1 p2 p3) FU (0, 0, Ww)).bind fun r6 =>
          (lp (fX9_stuck_b199) FU (r6.1, r5)).bind fun r7 =>
          if p4 = 0 then
            (gnzL r7).bind fun g8 =>
            some ((r6.1 / r7), r6.2)
          else
            (gnzL r7).bind fun g9 =>
            some ((r5 / r7), r6.2)
def fX9_drawn_b61 (p1 : Int32) (x61 : Int64 × Int32 × Int32 × (Nat → Int32)) : Option ((Int64 × Int32 × Int32 × (Nat → Int32)) ⊕ (Int32 × (Nat → Int32))) :=
  if p1 ≤ x61.2.2.1 then
    some (.inr (x61.2.1, x61.2.2.2))
  else
    (rd x61.2.2.2 1247 0).bind fun v8 =>
    (gnzL v8.toInt64).bind fun g9 =>
    (rd x61.2.2.2 1247 1).bind fun v10 =>
    (gnzL v10.toInt64).bind fun g11 =>
    (rd x61.2.2.2 1247 (56 + (((x61.1 * 16807) - (x61.1 * 16807) / 2147483647 * 2147483647) - ((x61.1 * 16807) - (x61.1 * 16807) / 2147483647 * 2147483647) / v8.toInt64 * v8.toInt64).toInt32)).bind fun v12 =>
    (if v12 = 11 then
      (fX9_sendsBack x61.2.2.2 43 ((((x61.1 * 16807) - (x61.1 * 16807) / 2147483647 * 2147483647) - ((x61.1 * 16807) - (x61.1 * 16807) / 2147483647 * 2147483647) / v8.toInt64 * v8.toInt64).toInt32) ((((x61.1 * 16807) - (x61.1 * 16807) / 2147483647 * 2147483647) - ((x61.1 * 16807) - (x61.1 * 16807) / 2147483647 * 2147483647) / v10.toInt64 * v10.toInt64).toInt32) ((((x61.1 * 16807) - (x61.1 * 16807) / 2147483647 * 2147483647) - ((x61.1 * 16807) - (x61.1 * 16807) / 2147483647 * 2147483647) / 61 * 61).toInt32)).bind fun q18 =>
      some q18
    else
      if (((x61.1 * 16807) - (x61.1 * 16807) / 2147483647 * 2147483647) - ((x61.1 * 16807) - (x61.1 * 16807) / 2147483647 * 2147483647) / 4 * 4) = 0 then
        (wr x61.2.2.2 1247 47 (((x61.1 * 16807) - (x61.1 * 16807) / 2147483647 * 2147483647) - ((x61.1 * 16807) - (x61.1 * 16807) / 2147483647 * 2147483647) / v10.toInt64 * v10.toInt64).toInt32).bind fun w19 =>
        some w19
      else
        some x61.2.2.2 : Option ((Nat → Int32))).bind fun j13 =>
    (fX9_servedOf j13 43).bind fun q14 =>
    (fX9_passes j13 43).bind fun q15 =>
    (fX9_servedOf q15 43).bind fun q16 =>
    (fX9_ones (q16 &&& (q14 ^^^ (-1)))).bind fun q17 =>
    some (.inl (((x61.1 * 16807) - (x61.1 * 16807) / 2147483647 * 2147483647), (x61.2.1 + q17), (x61.2.2.1 + 1), q15))
def fX9_drawn (Ww : Nat → Int32) (p1 : Int32) (p2 : Int32) (p3 : Int32) : Option (Int32 × (Nat → Int32)) :=
  (fX9_isHouse Ww).bind fun q1 =>
  if q1 = 0 then
    some ((-1000002), Ww)
  else
    (fX9_in p1.toInt64 0 60).bind fun q2 =>
    if q2 = 0 then
      some ((-1000001), Ww)
    else
      (fX9_in p2.toInt64 1 999999).bind fun q3 =>
      if q3 = 0 then
        some ((-1000001), Ww)
      else
        (fX9_in p3.toInt64 0 1).bind fun q4 =>
        if q4 = 0 then
          some ((-1000001), Ww)
        else
          (fX9_tries Ww).bind fun q5 =>
          (lp (fX9_drawn_b61 p1) FU (p2.toInt64, 0, 0, q5)).bind fun r6 =>
          if p3 = 0 then
            some (r6.1, r6.2)
          else
            (fX9_heatOf r6.2 43).bind fun q7 =>
            some (q7, r6.2)
def fX9_image (Ww : Nat → Int32) (KP : Nat → Int32) (p1 : Int32) : Option (Int32 × (Nat → Int32) × (Nat → Int32)) :=
  (fX9_in p1.toInt64 0 1).bind fun q1 =>
  if q1 = 0 then
    some ((-1000001), Ww, KP)
  else
    (fX9_isHouse Ww).bind fun q2 =>
    if q2 = 0 then
      some ((-1000002), Ww, KP)
    else
      (fX9_copyOf Ww 0 (86 + (43 * p1))).bind fun q3 =>
      (wrZ KP 2 p1 1).bind fun w4 =>
      some (1, q3, w4)
def fX9_restore (Ww : Nat → Int32) (KP : Nat → Int32) (fu : Int32) (p1 : Int32) : Option (Int32 × Int32 × (Nat → Int32)) :=
  (fX9_in p1.toInt64 0 1).bind fun q1 =>
  if q1 = 0 then
    some ((-1000001), fu, Ww)
  else
    (rd KP 2 p1).bind fun v2 =>
    if v2 = 0 then
      some ((-1000002), fu, Ww)
    else
      (fX9_copyOf Ww (86 + (43 * p1)) 0).bind fun q3 =>
      some (1, 0, q3)
def fX9_kind (Ww : Nat → Int32) (p1 : Int32) : Option (Int32) :=
  (fX9_isDish Ww p1).bind fun q1 =>
  if q1 = 0 then
    some (-1000001)
  else
    (rd Ww 1247 (7 + p1)).bind fun v2 =>
    some v2
def fX9_isA (p0 : Int32) (p1 : Int32) : Option (Int32) :=
  if p1 = 0 then
    some 1
  else
    if p1 = p0 then
      some 1
    else
      if p1 = 1 then
        if p0 = 2 then
          some 1
        else
          if p0 = 3 then
            some 1
          else
            if p1 = 4 then
              if p0 = 5 then
                some 1
              else
                some 0
            else
              some 0
      else
        if p1 = 4 then
          if p0 = 5 then
            some 1
          else
            some 0
        else
          some 0
def fX9_as (Ww : Nat → Int32) (fs : Int32) (p1 : Int32) (p2 : Int32) : Option (Int32 × Int32) :=
  (fX9_isDish Ww p1).bind fun q1 =>
  if q1 = 0 then
    some ((-1000001), fs)
  else
    (fX9_in p2.toInt64 0 5).bind fun q2 =>
    if q2 = 0 then
      some ((-1000001), fs)
    else
      (rd Ww 1247 (7 + p1)).bind fun v3 =>
      (fX9_isA v3 p2).bind fun q4 =>
      if q4 = 0 then
        (fX9_finds 3).bind fun q5 =>
        some (q5.1, q5.2)
      else
        some (p1, 0)
def fX9_traces (TR : Nat → Int32) (fr : Int32) (p1 : Int32) : Option (Int32 × (Nat → Int32)) :=
  if 16 ≤ fr then
    some (fr, TR)
  else
    (wr TR 16 fr p1).bind fun w1 =>
    some ((fr + 1), w1)
def fX9_size10 (Ww : Nat → Int32) (TR : Nat → Int32) (fr : Int32) (p1 : Int32) : Option (Int32 × Int32 × (Nat → Int32)) :=
  (fX9_traces TR fr 10).bind fun q1 =>
  (rd Ww 1247 (25 + p1)).bind fun v2 =>
  some (v2, q1.1, q1.2)
def fX9_mark20 (TR : Nat → Int32) (fr : Int32) (p1 : Int32) : Option (Int32 × Int32 × (Nat → Int32)) :=
  (fX9_traces TR fr 20).bind fun q1 =>
  some (p1, q1.1, q1.2)
def fX9_mark21 (Ww : Nat → Int32) (TR : Nat → Int32) (fr : Int32) (p1 : Int32) : Option (Int32 × Int32 × (Nat → Int32)) :=
  (fX9_traces TR fr 21).bind fun q1 =>
  (fX9_mark20 q1.2 q1.1 p1).bind fun q2 =>
  (rd Ww 1247 (31 + p1)).bind fun v3 =>
  some ((q2.1 + v3), q2.2.1, q2.2.2)
def fX9_markOf (Ww : Nat → Int32) (TR : Nat → Int32) (fr : Int32) (p1 : Int32) : Option (Int32 × Int32 × (Nat → Int32)) :=
  (rd Ww 1247 (7 + p1)).bind fun v1 =>
  if v1 = 2 then
    (fX9_traces TR fr 24).bind fun q2 =>
    (fX9_mark21 Ww q2.2 q2.1 p1).bind fun q3 =>
    some ((2 * q3.1), q3.2.1, q3.2.2)
  else
    if v1 = 3 then
      (fX9_traces TR fr 22).bind fun q4 =>
      (fX9_mark21 Ww q4.2 q4.1 p1).bind fun q5 =>
      some ((q5.1 - 1000), q5.2.1, q5.2.2)
    else
      (fX9_mark21 Ww TR fr p1).bind fun q6 =>
      some (q6.1, q6.2.1, q6.2.2)
def fX9_size11 (Ww : Nat → Int32) (TR : Nat → Int32) (fr : Int32) (p1 : Int32) : Option (Int32 × Int32 × (Nat → Int32)) :=
  (fX9_traces TR fr 11).bind fun q1 =>
  (fX9_size10 Ww q1.2 q1.1 p1).bind fun q2 =>
  (fX9_markOf Ww q2.2.2 q2.2.1 p1).bind fun q3 =>
  some ((q2.1 + q3.1), q3.2.1, q3.2.2)
def fX9_size13 (Ww : Nat → Int32) (TR : Nat → Int32) (fr : Int32) (p1 : Int32) : Option (Int32 × Int32 × (Nat → Int32)) :=
  (fX9_traces TR fr 13).bind fun q1 =>
  (fX9_size10 Ww q1.2 q1.1 p1).bind fun q2 =>
  some ((q2.1 - 100), q2.2.1, q2.2.2)
def fX9_sizeOf (Ww : Nat → Int32) (TR : Nat → Int32) (fr : Int32) (p1 : Int32) : Option (Int32 × Int32 × (Nat → Int32)) :=
  (rd Ww 1247 (7 + p1)).bind fun v1 =>
  if v1 = 2 then
    (fX9_traces TR fr 12).bind fun q2 =>
    (fX9_size11 Ww q2.2 q2.1 p1).bind fun q3 =>
    some ((-q3.1), q3.2.1, q3.2.2)
  else
    if v1 = 3 then
      (fX9_size11 Ww TR fr p1).bind fun q4 =>
      some (q4.1, q4.2.1, q4.2.2)
    else
      if v1 = 4 then
        (fX9_size13 Ww TR fr p1).bind fun q5 =>
        some (q5.1, q5.2.1, q5.2.2)
      else
        if v1 = 5 then
          (fX9_traces TR fr 14).bind fun q6 =>
          (fX9_size13 Ww q6.2 q6.1 p1).bind fun q7 =>
          some ((2 * q7.1), q7.2.1, q7.2.2)
        else
          (fX9_size11 Ww TR fr p1).bind fun q8 =>
          some (q8.1, q8.2.1, q8.2.2)
def fX9_mark23 (Ww : Nat → Int32) (TR : Nat → Int32) (fr : Int32) (p1 : Int32) : Option (Int32 × Int32 × (Nat → Int32)) :=
  (fX9_traces TR fr 23).bind fun q1 =>
  (fX9_mark20 q1.2 q1.1 p1).bind fun q2 =>
  (fX9_sizeOf Ww q2.2.2 q2.2.1 p1).bind fun q3 =>
  some ((q2.1 - q3.1), q3.2.1, q3.2.2)
def fX9_ask (Ww : Nat → Int32) (TR : Nat → Int32) (fr : Int32) (p1 : Int32) (p2 : Int32) : Option (Int32 × Int32 × (Nat → Int32)) :=
  (fX9_isDish Ww p1).bind fun q1 =>
  if q1 = 0 then
    some ((-1000001), fr, TR)
  else
    (fX9_in p2.toInt64 0 1).bind fun q2 =>
    if q2 = 0 then
      some ((-1000001), fr, TR)
    else
      if p2 = 0 then
        (fX9_sizeOf Ww TR 0 p1).bind fun q3 =>
        some (q3.1, q3.2.1, q3.2.2)
      else
        (rd Ww 1247 (7 + p1)).bind fun v4 =>
        if v4 < 4 then
          (fX9_markOf Ww TR 0 p1).bind fun q5 =>
          some (q5.1, q5.2.1, q5.2.2)
        else
          (fX9_mark23 Ww TR 0 p1).bind fun q6 =>
          some (q6.1, q6.2.1, q6.2.2)
def fX9_trace (TR : Nat → Int32) (fr : Int32) (p1 : Int32) : Option (Int32) :=
  (fX9_in p1.toInt64 0 ((fr - 1).toInt64)).bind fun q1 =>
  if q1 = 0 then
    some (-1000000)
  else
    (rd TR 16 p1).bind fun v2 =>
    some v2
def fX9_rowsThere_b4 (MA : Nat → Int32) (x4 : Int32 × Int32) : Option ((Int32 × Int32) ⊕ (Int32)) :=
  if 8 ≤ x4.2 then
    some (.inr x4.1)
  else
    (rd MA 8 x4.2).bind fun v2 =>
    if v2 < 0 then
      some (.inl ((x4.1 + 0), (x4.2 + 1)))
    else
      some (.inl ((x4.1 + 1), (x4.2 + 1)))
def fX9_rowsThere (MA : Nat → Int32) : Option (Int32) :=
  (lp (fX9_rowsThere_b4 MA) FU (0, 0)).bind fun r1 =>
  some r1
def fX9_waiting_b4 (Ww : Nat → Int32) (x4 : Int32 × Int32) : Option ((Int32 × Int32) ⊕ (Int32)) :=
  (rd Ww 1247 0).bind fun v2 =>
  if v2 ≤ x4.2 then
    some (.inr x4.1)
  else
    (rd Ww 1247 (13 + x4.2)).bind fun v3 =>
    if 10 ≤ v3 then
      some (.inl ((x4.1 + 0), (x4.2 + 1)))
    else
      some (.inl ((x4.1 + 1), (x4.2 + 1)))
def fX9_waiting (Ww : Nat → Int32) : Option (Int32) :=
  (lp (fX9_waiting_b4 Ww) FU (0, 0)).bind fun r1 =>
  some r1
def fX9_count (Ww : Nat → Int32) (MA : Nat → Int32) (fu : Int32) (ft : Int32) (p1 : Int32) : Option (Int32) :=
  if p1 = 0 then
    (fX9_rowsThere MA).bind fun q1 =>
    some q1
  else
    if p1 = 1 then
      (rd Ww 1247 0).bind fun v2 =>
      some v2
    else
      if p1 = 2 then
        (rd Ww 1247 1).bind fun v3 =>
        some v3
      else
        if p1 = 3 then
          (rd Ww 1247 6).bind fun v4 =>
          some v4
        else
          if p1 = 4 then
            (fX9_waiting Ww).bind fun q5 =>
            some q5
          else
            if p1 = 5 then
              (fX9_servedOf Ww 0).bind fun q6 =>
              (fX9_ones q6).bind fun q7 =>
              some q7
            else
              if p1 = 6 then
                (fX9_heatOf Ww 0).bind fun q8 =>
                some q8
              else
                if p1 = 7 then
                  some fu
                else
                  if p1 = 8 then
                    some ft
                  else
                    some (-1000001)
def fX9_status (fs : Int32) : Option (Int32) :=
  some fs
