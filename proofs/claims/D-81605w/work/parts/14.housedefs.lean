def fX1_many (ln : Nat → Option Int32) (hla : Nat) : Option (Int32) :=
  (ln hla).bind fun v1 =>
  some v1
def fX1_dish (ln : Nat → Option Int32) (lf : Nat → Nat → Option Nat) (dk : Nat → Option Nat) (hla : Nat) (htf : Int32) (htk : Option Nat) (p1 : Int32) : Option (Nat) :=
  if p1 = htf then
    htk.bind fun e1 =>
    some e1
  else
    (lget ln lf hla p1).bind fun e2 =>
    (dk e2).bind fun k3 =>
    some e2
def fX1_areSo_b4 (ln : Nat → Option Int32) (hla : Nat) (hHO : Nat → Int32) (p1 : Int32) (x4 : Int32 × Int32) : Option ((Int32 × Int32) ⊕ (Int32)) :=
  (fX1_many ln hla).bind fun q2 =>
  if q2 ≤ x4.2 then
    some (.inr x4.1)
  else
    (rd hHO 6 x4.2).bind fun v3 =>
    if v3 = p1 then
      some (.inl ((x4.1 ||| ((1 : Int32) <<< (x4.2 &&& 31))), (x4.2 + 1)))
    else
      some (.inl ((x4.1 ||| 0), (x4.2 + 1)))
def fX1_areSo (ln : Nat → Option Int32) (hla : Nat) (hHO : Nat → Int32) (p1 : Int32) : Option (Int32) :=
  (lp (fX1_areSo_b4 ln hla hHO p1) FU (0, 0)).bind fun r1 =>
  some r1
def fX1_load_b4 (ln : Nat → Option Int32) (hla : Nat) (hHO : Nat → Int32) (hWE : Nat → Int32) (x4 : Int32 × Int32) : Option ((Int32 × Int32) ⊕ (Int32)) :=
  (fX1_many ln hla).bind fun q2 =>
  if q2 ≤ x4.2 then
    some (.inr x4.1)
  else
    (rd hHO 6 x4.2).bind fun v3 =>
    if v3 = 1 then
      (rd hWE 6 x4.2).bind fun v4 =>
      some (.inl ((x4.1 + v4), (x4.2 + 1)))
    else
      some (.inl ((x4.1 + 0), (x4.2 + 1)))
def fX1_load (ln : Nat → Option Int32) (hla : Nat) (hHO : Nat → Int32) (hWE : Nat → Int32) : Option (Int32) :=
  (lp (fX1_load_b4 ln hla hHO hWE) FU (0, 0)).bind fun r1 =>
  some r1
def fX1_stops_b71 (ln : Nat → Option Int32) (hro : Int32) (hrp : Int32) (hca : Int32) (hla : Nat) (hAT : Nat → Int32) (hWE : Nat → Int32) (hRA : Nat → Int32) (x71 : Int32 × (Nat → Int32)) : Option ((Int32 × (Nat → Int32)) ⊕ ((Nat → Int32))) :=
  (fX1_many ln hla).bind fun q3 =>
  if q3 ≤ x71.1 then
    some (.inr x71.2)
  else
    (rd hRA 6 x71.1).bind fun v4 =>
    (rd x71.2 6 v4).bind fun v5 =>
    if v5 = 0 then
      (rd hAT 6 v4).bind fun v6 =>
      if v6 = hca then
        (fX1_areSo ln hla x71.2 1).bind fun q7 =>
        (fJ15_bitCount q7).bind fun q8 =>
        if hro ≤ q8 then
          some (.inl ((x71.1 + 1), x71.2))
        else
          (fX1_load ln hla x71.2 hWE).bind fun q9 =>
          (rd hWE 6 v4).bind fun v10 =>
          if hrp < (q9 + v10) then
            some (.inl ((x71.1 + 1), x71.2))
          else
            (wr x71.2 6 v4 1).bind fun w11 =>
            some (.inl ((x71.1 + 1), w11))
      else
        some (.inl ((x71.1 + 1), x71.2))
    else
      some (.inl ((x71.1 + 1), x71.2))
def fX1_stops_b2 (ln : Nat → Option Int32) (hca : Int32) (hla : Nat) (hAT : Nat → Int32) (hTO : Nat → Int32) (x2 : Int32 × (Nat → Int32)) : Option ((Int32 × (Nat → Int32)) ⊕ ((Nat → Int32))) :=
  (fX1_many ln hla).bind fun q12 =>
  if q12 ≤ x2.1 then
    some (.inr x2.2)
  else
    (rd x2.2 6 x2.1).bind fun v13 =>
    if v13 = 2 then
      some (.inl ((x2.1 + 1), x2.2))
    else
      (rd hTO 6 x2.1).bind fun v14 =>
      if v14 = hca then
        (rd x2.2 6 x2.1).bind fun v15 =>
        if v15 = 1 then
          (wr x2.2 6 x2.1 2).bind fun w16 =>
          some (.inl ((x2.1 + 1), w16))
        else
          (rd hAT 6 x2.1).bind fun v17 =>
          if v17 = hca then
            (wr x2.2 6 x2.1 2).bind fun w18 =>
            some (.inl ((x2.1 + 1), w18))
          else
            some (.inl ((x2.1 + 1), x2.2))
      else
        some (.inl ((x2.1 + 1), x2.2))
def fX1_stops (ln : Nat → Option Int32) (hro : Int32) (hrp : Int32) (hca : Int32) (hla : Nat) (hHO : Nat → Int32) (hAT : Nat → Int32) (hTO : Nat → Int32) (hWE : Nat → Int32) (hRA : Nat → Int32) : Option ((Nat → Int32)) :=
  (lp (fX1_stops_b2 ln hca hla hAT hTO) FU (0, hHO)).bind fun r1 =>
  (lp (fX1_stops_b71 ln hro hrp hca hla hAT hWE hRA) FU (0, r1)).bind fun r2 =>
  some r2
def fX1_called_b4 (ln : Nat → Option Int32) (hrp : Int32) (hla : Nat) (hHO : Nat → Int32) (hAT : Nat → Int32) (hTO : Nat → Int32) (hWE : Nat → Int32) (x4 : Int32 × Int32) : Option ((Int32 × Int32) ⊕ (Int32)) :=
  (fX1_many ln hla).bind fun q2 =>
  if q2 ≤ x4.2 then
    some (.inr x4.1)
  else
    (rd hHO 6 x4.2).bind fun v3 =>
    (if v3 = 1 then
      (rd hTO 6 x4.2).bind fun v8 =>
      some (x4.1 ||| ((1 : Int32) <<< (v8 &&& 31)))
    else
      some x4.1 : Option (Int32)).bind fun j4 =>
    (rd hHO 6 x4.2).bind fun v5 =>
    if v5 = 0 then
      (rd hWE 6 x4.2).bind fun v6 =>
      if hrp < v6 then
        some (.inl (j4, (x4.2 + 1)))
      else
        (rd hAT 6 x4.2).bind fun v7 =>
        some (.inl ((j4 ||| ((1 : Int32) <<< (v7 &&& 31))), (x4.2 + 1)))
    else
      some (.inl (j4, (x4.2 + 1)))
def fX1_called (ln : Nat → Option Int32) (hrp : Int32) (hca : Int32) (hla : Nat) (hHO : Nat → Int32) (hAT : Nat → Int32) (hTO : Nat → Int32) (hWE : Nat → Int32) : Option (Int32) :=
  (lp (fX1_called_b4 ln hrp hla hHO hAT hTO hWE) FU (0, 0)).bind fun r1 =>
  some (r1 &&& (((1 : Int32) <<< (hca &&& 31)) ^^^ (-1)))
def fX1_goes (ln : Nat → Option Int32) (hrp : Int32) (hca : Int32) (hwy : Int32) (hla : Nat) (hHO : Nat → Int32) (hAT : Nat → Int32) (hTO : Nat → Int32) (hWE : Nat → Int32) : Option (Int32 × Int32 × Int32) :=
  (fX1_called ln hrp hca hla hHO hAT hTO hWE).bind fun q1 =>
  (fX1_called ln hrp hca hla hHO hAT hTO hWE).bind fun q2 =>
  if (q1 >>> (hca &&& 31)) = 0 then
    if (q2 &&& (((1 : Int32) <<< (hca &&& 31)) - 1)) = 0 then
      some (0, hca, hwy)
    else
      (if hwy = 1 then
        some (q1 >>> (hca &&& 31))
      else
        some (q2 &&& (((1 : Int32) <<< (hca &&& 31)) - 1)) : Option (Int32)).bind fun j3 =>
      (if j3 = 0 then
        some (1 - hwy)
      else
        some hwy : Option (Int32)).bind fun j4 =>
      some (1, (hca + ((2 * j4) - 1)), j4)
  else
    (if hwy = 1 then
      some (q1 >>> (hca &&& 31))
    else
      some (q2 &&& (((1 : Int32) <<< (hca &&& 31)) - 1)) : Option (Int32)).bind fun j5 =>
    (if j5 = 0 then
      some (1 - hwy)
    else
      some hwy : Option (Int32)).bind fun j6 =>
    some (1, (hca + ((2 * j6) - 1)), j6)
def fX1_cools_b2 (ln : Nat → Option Int32) (lf : Nat → Nat → Option Nat) (dk : Nat → Option Nat) (hla : Nat) (hmi : Int32) (htf : Int32) (htk : Option Nat) (hHO : Nat → Int32) (p1 : Int32) (x2 : Int32 × (Nat → Int32) × (Nat → Int32)) : Option ((Int32 × (Nat → Int32) × (Nat → Int32)) ⊕ ((Nat → Int32) × (Nat → Int32))) :=
  (fX1_many ln hla).bind fun q2 =>
  if q2 ≤ x2.1 then
    some (.inr (x2.2.1, x2.2.2))
  else
    (rd hHO 6 x2.1).bind fun v3 =>
    if v3 = 2 then
      some (.inl ((x2.1 + 1), x2.2.1, x2.2.2))
    else
      (fX1_dish ln lf dk hla htf htk x2.1).bind fun q4 =>
      (rd x2.2.2 6 x2.1).bind fun v5 =>
      (fdish_heatBehind dk q4 v5 hmi).bind fun v6 =>
      (wr x2.2.2 6 x2.1 v6).bind fun w7 =>
      (fX1_dish ln lf dk hla htf htk x2.1).bind fun q8 =>
      (rd x2.2.1 6 x2.1).bind fun v9 =>
      (rd w7 6 x2.1).bind fun v10 =>
      (if p1 = 0 then
        some 0
      else
        (rd hHO 6 x2.1).bind fun v14 =>
        if v14 = 1 then
          some 1
        else
          some 0 : Option (Int32)).bind fun j11 =>
      (fdish_weightBehind dk q8 v9 v10 j11).bind fun v12 =>
      (wr x2.2.1 6 x2.1 v12).bind fun w13 =>
      some (.inl ((x2.1 + 1), w13, w7))
def fX1_cools (ln : Nat → Option Int32) (lf : Nat → Nat → Option Nat) (dk : Nat → Option Nat) (hla : Nat) (hmi : Int32) (htf : Int32) (htk : Option Nat) (hHO : Nat → Int32) (hWE : Nat → Int32) (hHE : Nat → Int32) (p1 : Int32) : Option (Int32 × (Nat → Int32) × (Nat → Int32)) :=
  (lp (fX1_cools_b2 ln lf dk hla hmi htf htk hHO p1) FU (0, hWE, hHE)).bind fun r1 =>
  some ((hmi + 1), r1.1, r1.2)
def fX1_pass (ln : Nat → Option Int32) (lf : Nat → Nat → Option Nat) (dk : Nat → Option Nat) (hro : Int32) (hrp : Int32) (hca : Int32) (hwy : Int32) (hla : Nat) (hmi : Int32) (htf : Int32) (htk : Option Nat) (hHO : Nat → Int32) (hAT : Nat → Int32) (hTO : Nat → Int32) (hWE : Nat → Int32) (hHE : Nat → Int32) (hRA : Nat → Int32) : Option (Int32 × Int32 × Int32 × (Nat → Int32) × (Nat → Int32) × (Nat → Int32)) :=
  (fX1_stops ln hro hrp hca hla hHO hAT hTO hWE hRA).bind fun q1 =>
  (fX1_goes ln hrp hca hwy hla q1 hAT hTO hWE).bind fun q2 =>
  (fX1_cools ln lf dk hla hmi htf htk q1 hWE hHE q2.1).bind fun q3 =>
  some (q2.2.1, q2.2.2, q3.1, q1, q3.2.1, q3.2.2)
def fX1_sticks (ln : Nat → Option Int32) (lf : Nat → Nat → Option Nat) (dk : Nat → Option Nat) (hla : Nat) (hmi : Int32) (htf : Int32) (htk : Option Nat) (hHO : Nat → Int32) (hWE : Nat → Int32) (hHE : Nat → Int32) : Option (Int32 × (Nat → Int32) × (Nat → Int32)) :=
  (fX1_cools ln lf dk hla hmi htf htk hHO hWE hHE 0).bind fun q1 =>
  some (q1.1, q1.2.1, q1.2.2)
def fX1_fine_b4 (ln : Nat → Option Int32) (lf : Nat → Nat → Option Nat) (dk : Nat → Option Nat) (hla : Nat) (htf : Int32) (htk : Option Nat) (hHO : Nat → Int32) (hHE : Nat → Int32) (x4 : Int32 × Int32) : Option ((Int32 × Int32) ⊕ (Int32)) :=
  (fX1_many ln hla).bind fun q2 =>
  if q2 ≤ x4.2 then
    some (.inr x4.1)
  else
    (rd hHO 6 x4.2).bind fun v3 =>
    if v3 = 2 then
      (fX1_dish ln lf dk hla htf htk x4.2).bind fun q4 =>
      (rd hHE 6 x4.2).bind fun v5 =>
      (fdish_isGood dk q4 v5).bind fun v6 =>
      if v6 = 0 then
        some (.inl ((x4.1 ||| 0), (x4.2 + 1)))
      else
        some (.inl ((x4.1 ||| ((1 : Int32) <<< (x4.2 &&& 31))), (x4.2 + 1)))
    else
      some (.inl ((x4.1 ||| 0), (x4.2 + 1)))
def fX1_fine (ln : Nat → Option Int32) (lf : Nat → Nat → Option Nat) (dk : Nat → Option Nat) (hla : Nat) (htf : Int32) (htk : Option Nat) (hHO : Nat → Int32) (hHE : Nat → Int32) : Option (Int32) :=
  (lp (fX1_fine_b4 ln lf dk hla htf htk hHO hHE) FU (0, 0)).bind fun r1 =>
  some r1
def fX1_isDone (ln : Nat → Option Int32) (hla : Nat) (hHO : Nat → Int32) : Option (Int32) :=
  (fX1_areSo ln hla hHO 2).bind fun q1 =>
  (fX1_many ln hla).bind fun q2 =>
  if q1 = (((1 : Int32) <<< (q2 &&& 31)) - 1) then
    some 1
  else
    some 0
def fX1_heats_b4 (ln : Nat → Option Int32) (hla : Nat) (hHO : Nat → Int32) (hHE : Nat → Int32) (p1 : Int32) (x4 : Int32 × Int32) : Option ((Int32 × Int32) ⊕ (Int32)) :=
  (fX1_many ln hla).bind fun q2 =>
  if q2 ≤ x4.2 then
    some (.inr x4.1)
  else
    if p1 = 0 then
      (rd hHE 6 x4.2).bind fun v3 =>
      some (.inl ((x4.1 + v3), (x4.2 + 1)))
    else
      (rd hHO 6 x4.2).bind fun v4 =>
      if v4 = 2 then
        (rd hHE 6 x4.2).bind fun v5 =>
        some (.inl ((x4.1 + v5), (x4.2 + 1)))
      else
        some (.inl ((x4.1 + 0), (x4.2 + 1)))
def fX1_heats (ln : Nat → Option Int32) (hla : Nat) (hHO : Nat → Int32) (hHE : Nat → Int32) (p1 : Int32) : Option (Int32) :=
  (lp (fX1_heats_b4 ln hla hHO hHE p1) FU (0, 0)).bind fun r1 =>
  some r1
def fX1_send (hHO : Nat → Int32) (hAT : Nat → Int32) (hTO : Nat → Int32) (hHE : Nat → Int32) (p1 : Int32) (p2 : Int32) (p3 : Int32) : Option ((Nat → Int32) × (Nat → Int32) × (Nat → Int32) × (Nat → Int32)) :=
  (wr hHO 6 p1 0).bind fun w1 =>
  (rd hTO 6 p1).bind fun v2 =>
  (wr hAT 6 p1 v2).bind fun w3 =>
  (wr hTO 6 p1 p2).bind fun w4 =>
  (wr hHE 6 p1 p3).bind fun w5 =>
  some (w1, w3, w4, w5)
def fX1_become (hHO : Nat → Int32) (hAT : Nat → Int32) (hTO : Nat → Int32) (hWE : Nat → Int32) (hHE : Nat → Int32) (hRA : Nat → Int32) (ofl : Int32) (oro : Int32) (orp : Int32) (oca : Int32) (owy : Int32) (ola : Nat) (omi : Int32) (oHO : Nat → Int32) (oAT : Nat → Int32) (oTO : Nat → Int32) (oWE : Nat → Int32) (oHE : Nat → Int32) (oRA : Nat → Int32) : Option (Int32 × Int32 × Int32 × Int32 × Int32 × Nat × Int32 × Int32 × (Nat → Int32) × (Nat → Int32) × (Nat → Int32) × (Nat → Int32) × (Nat → Int32) × (Nat → Int32)) :=
  some (ofl, oro, orp, oca, owy, ola, omi, (-1000000), (va_cpy oHO hHO 0 0 6), (va_cpy oAT hAT 0 0 6), (va_cpy oTO hTO 0 0 6), (va_cpy oWE hWE 0 0 6), (va_cpy oHE hHE 0 0 6), (va_cpy oRA hRA 0 0 6))
