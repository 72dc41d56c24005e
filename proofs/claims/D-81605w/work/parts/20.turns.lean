set_option maxRecDepth 100000
def fX0_turnFrom_0 (ln : Nat → Option Int32) (lf : Nat → Nat → Option Nat) (dk : Nat → Option Nat) (hv : HV) (tv : HV) (p1 : Int32) (p2 : Int32) (p3 : Int32) (p4 : Int32) : Option (Int32 × HV) :=
  if p1 = p2 then
    (fX0_tried hv tv).bind fun q1 =>
    (some (Sca q1 p4)).bind fun b2 =>
    (fX0_goOn ln lf dk b2 p3).bind fun q3 =>
    (gX1_heats ln q3 1).bind fun q4 =>
    some (q4, q3)
  else
    none
def fX0_turnFrom_1 (ln : Nat → Option Int32) (lf : Nat → Nat → Option Nat) (dk : Nat → Option Nat) (hv : HV) (tv : HV) (p1 : Int32) (p2 : Int32) (p3 : Int32) (p4 : Int32) : Option (Int32 × HV) :=
  if p1 = p2 then
    (fX0_tried hv tv).bind fun q1 =>
    (some (Sca q1 p4)).bind fun b2 =>
    (fX0_goOn ln lf dk b2 p3).bind fun q3 =>
    (gX1_heats ln q3 1).bind fun q4 =>
    some (q4, q3)
  else
    (fX0_turnFrom_0 ln lf dk hv tv (p1 + 1) p2 p3 p4).bind fun q5 =>
    (if (p1 - p1 / 2 * 2) = 0 then
      some (p4 - 1)
    else
      some (p4 + 1) : Option (Int32)).bind fun j6 =>
    (fX0_isFloor hv j6).bind fun q7 =>
    if q7 = 0 then
      some (q5.1, q5.2)
    else
      (fX0_turnFrom_0 ln lf dk hv q5.2 (p1 + 1) p2 p3 j6).bind fun q8 =>
      if (p1 - p1 / 2 * 2) = 0 then
        some ((if q5.1 < q8.1 then q8.1 else q5.1), q8.2)
      else
        some ((if q8.1 < q5.1 then q8.1 else q5.1), q8.2)
def fX0_turnFrom_2 (ln : Nat → Option Int32) (lf : Nat → Nat → Option Nat) (dk : Nat → Option Nat) (hv : HV) (tv : HV) (p1 : Int32) (p2 : Int32) (p3 : Int32) (p4 : Int32) : Option (Int32 × HV) :=
  if p1 = p2 then
    (fX0_tried hv tv).bind fun q1 =>
    (some (Sca q1 p4)).bind fun b2 =>
    (fX0_goOn ln lf dk b2 p3).bind fun q3 =>
    (gX1_heats ln q3 1).bind fun q4 =>
    some (q4, q3)
  else
    (fX0_turnFrom_1 ln lf dk hv tv (p1 + 1) p2 p3 p4).bind fun q5 =>
    (if (p1 - p1 / 2 * 2) = 0 then
      some (p4 - 1)
    else
      some (p4 + 1) : Option (Int32)).bind fun j6 =>
    (fX0_isFloor hv j6).bind fun q7 =>
    if q7 = 0 then
      some (q5.1, q5.2)
    else
      (fX0_turnFrom_1 ln lf dk hv q5.2 (p1 + 1) p2 p3 j6).bind fun q8 =>
      if (p1 - p1 / 2 * 2) = 0 then
        some ((if q5.1 < q8.1 then q8.1 else q5.1), q8.2)
      else
        some ((if q8.1 < q5.1 then q8.1 else q5.1), q8.2)
def fX0_turnFrom_3 (ln : Nat → Option Int32) (lf : Nat → Nat → Option Nat) (dk : Nat → Option Nat) (hv : HV) (tv : HV) (p1 : Int32) (p2 : Int32) (p3 : Int32) (p4 : Int32) : Option (Int32 × HV) :=
  if p1 = p2 then
    (fX0_tried hv tv).bind fun q1 =>
    (some (Sca q1 p4)).bind fun b2 =>
    (fX0_goOn ln lf dk b2 p3).bind fun q3 =>
    (gX1_heats ln q3 1).bind fun q4 =>
    some (q4, q3)
  else
    (fX0_turnFrom_2 ln lf dk hv tv (p1 + 1) p2 p3 p4).bind fun q5 =>
    (if (p1 - p1 / 2 * 2) = 0 then
      some (p4 - 1)
    else
      some (p4 + 1) : Option (Int32)).bind fun j6 =>
    (fX0_isFloor hv j6).bind fun q7 =>
    if q7 = 0 then
      some (q5.1, q5.2)
    else
      (fX0_turnFrom_2 ln lf dk hv q5.2 (p1 + 1) p2 p3 j6).bind fun q8 =>
      if (p1 - p1 / 2 * 2) = 0 then
        some ((if q5.1 < q8.1 then q8.1 else q5.1), q8.2)
      else
        some ((if q8.1 < q5.1 then q8.1 else q5.1), q8.2)
def fX0_turnFrom_4 (ln : Nat → Option Int32) (lf : Nat → Nat → Option Nat) (dk : Nat → Option Nat) (hv : HV) (tv : HV) (p1 : Int32) (p2 : Int32) (p3 : Int32) (p4 : Int32) : Option (Int32 × HV) :=
  if p1 = p2 then
    (fX0_tried hv tv).bind fun q1 =>
    (some (Sca q1 p4)).bind fun b2 =>
    (fX0_goOn ln lf dk b2 p3).bind fun q3 =>
    (gX1_heats ln q3 1).bind fun q4 =>
    some (q4, q3)
  else
    (fX0_turnFrom_3 ln lf dk hv tv (p1 + 1) p2 p3 p4).bind fun q5 =>
    (if (p1 - p1 / 2 * 2) = 0 then
      some (p4 - 1)
    else
      some (p4 + 1) : Option (Int32)).bind fun j6 =>
    (fX0_isFloor hv j6).bind fun q7 =>
    if q7 = 0 then
      some (q5.1, q5.2)
    else
      (fX0_turnFrom_3 ln lf dk hv q5.2 (p1 + 1) p2 p3 j6).bind fun q8 =>
      if (p1 - p1 / 2 * 2) = 0 then
        some ((if q5.1 < q8.1 then q8.1 else q5.1), q8.2)
      else
        some ((if q8.1 < q5.1 then q8.1 else q5.1), q8.2)
def fX0_byTurns (ln : Nat → Option Int32) (lf : Nat → Nat → Option Nat) (dk : Nat → Option Nat) (hv : HV) (tv : HV) (p1 : Int32) (p2 : Int32) : Option (Int32 × HV) :=
  (fX0_isHouse hv).bind fun q1 =>
  if q1 = 0 then
    some ((-1000002), tv)
  else
    (fX0_isIn p1.toInt64 0 4).bind fun q2 =>
    if q2 = 0 then
      some ((-1000001), tv)
    else
      (fX0_isIn p2.toInt64 1 20).bind fun q3 =>
      if q3 = 0 then
        some ((-1000001), tv)
      else
        (fX0_turnFrom_4 ln lf dk hv tv 0 p1 p2 (Hca hv)).bind fun q4 =>
        some (q4.1, q4.2)
theorem hd_X0_turnFrom : yX0_turnFrom.cls = "DishLift" ∧ yX0_turnFrom.cls ≠ "java/lang/invoke/MethodHandle" ∧ yX0_turnFrom.cls ≠ "java/lang/invoke/VarHandle" ∧ (parseMethodDescriptor yX0_turnFrom.desc).map (fun d => d.parameters.length) = some 4 := by decide +kernel
set_option maxHeartbeats 4000000 in
theorem mX0_turnFrom_0 (l : Launch)  (D : va_G) (d : Nat → ClassId) (cs : Nat → Nat) (wi : va_W) (ln : Nat → Option Int32) (lf : Nat → Nat → Option Nat) (dk : Nat → Option Nat) (dn : Nat → Int32) (him : ImF d wi ln lf dk dn) (ha : Nat → Nat) (ta : Nat → Nat) (sa : Nat → Nat) (hv : HV) (tv : HV) (gt : Int32) (gf : Int32) (gc : Int32) (tra : Nat) (gs : Int32) (p1 : Int32) (p2 : Int32) (p3 : Int32) (p4 : Int32)  (res : Int32 × HV) (hf : fX0_turnFrom_0 ln lf dk hv tv p1 p2 p3 p4 = some res) : MetI l yX0_turnFrom (ws_ yX0_turnFrom cX0_turnFrom 8 (some .int)) { frames := 7, cells := 0, slots := 0, locals := 205 } [.ref (sa 0), .int p1, .int p2, .int p3, .int p4] (XI D cs wi) D d [oH ha (Hfl hv) (Hro hv) (Hrp hv) (Hca hv) (Hwy hv) (Hla hv) (Hmi hv) (Htf hv) (Htk hv), aV d ha 1 (HHO hv), aV d ha 2 (HAT hv), aV d ha 3 (HTO hv), aV d ha 4 (HWE hv), aV d ha 5 (HHE hv), aV d ha 6 (HRA hv), oS sa ha ta gt gf gc tra gs, oH ta (Hfl tv) (Hro tv) (Hrp tv) (Hca tv) (Hwy tv) (Hla tv) (Hmi tv) (Htf tv) (Htk tv), aV d ta 1 (HHO tv), aV d ta 2 (HAT tv), aV d ta 3 (HTO tv), aV d ta 4 (HWE tv), aV d ta 5 (HHE tv), aV d ta 6 (HRA tv)] (fun r (_ : Unit) => r = res.1) (fun _ => [oH ha (Hfl hv) (Hro hv) (Hrp hv) (Hca hv) (Hwy hv) (Hla hv) (Hmi hv) (Htf hv) (Htk hv), aV d ha 1 (HHO hv), aV d ha 2 (HAT hv), aV d ha 3 (HTO hv), aV d ha 4 (HWE hv), aV d ha 5 (HHE hv), aV d ha 6 (HRA hv), oS sa ha ta gt gf gc tra gs, oH ta (Hfl res.2) (Hro res.2) (Hrp res.2) (Hca res.2) (Hwy res.2) (Hla res.2) (Hmi res.2) (Htf res.2) (Htk res.2), aV d ta 1 (HHO res.2), aV d ta 2 (HAT res.2), aV d ta 3 (HTO res.2), aV d ta 4 (HWE res.2), aV d ta 5 (HHE res.2), aV d ta 6 (HRA res.2)]) := by
  have hX := XI.ok (D := D) (cs := cs) (wi := wi)
  refine MetI.of (by decide +kernel) (Nat.le_of_ble_eq_true rfl) ?_
  intro p e s m below meth c A cx hw ls hl
  have cx : Cx p s m _ meth c (XI D cs wi) D d A "DishLift" cX0_turnFrom 8 (some .int) "turnFrom" := cx
  have cx' := cx
  obtain ⟨hx, hb, hr, hlk, hml, hown, hts, hK, hA, hXs, hnm⟩ := cx'
  have hl : lv_has ls 8 [(0, .ref (sa 0)), (1, .int p1), (2, .int p2), (3, .int p3), (4, .int p4)] := hl
  unfold fX0_turnFrom_0 at hf
  refine lv_iload_n hx hb dX0_turnFrom_0 rfl (lv_at hl 1 rfl) ?_
  refine lv_iload_n hx hb dX0_turnFrom_1 rfl (lv_at hl 2 rfl) ?_
  refine lv_icmp_ne (tgt := 24) hx hb dX0_turnFrom_2 (by decide) (fun c2 => ?_) (fun c2 => ?_)
  · have hf := if_f hf c2
    refine lv_aload_n hx hb dX0_turnFrom_24 rfl (lv_at hl 0 rfl) ?_
    refine lv_iload_n hx hb dX0_turnFrom_25 rfl (lv_at hl 1 rfl) ?_
    refine lv_iconst (v := 1) hx hb dX0_turnFrom_26 (by decide) ?_
    refine lv_iadd hx hb dX0_turnFrom_27 ?_
    refine lv_iload_n hx hb dX0_turnFrom_28 rfl (lv_at hl 2 rfl) ?_
    refine lv_iload_n hx hb dX0_turnFrom_29 rfl (lv_at hl 3 rfl) ?_
    refine lv_iload hx hb dX0_turnFrom_30 (lv_at hl 4 rfl) ?_
    cases hf
  · have hf := if_t hf c2
    refine lv_aload_n hx hb dX0_turnFrom_5 rfl (lv_at hl 0 rfl) ?_
    obtain ⟨q1, hcq1, hf⟩ := op_e hf
    refine x_VA (wr := []) (rest := []) [] hX cx hw hl.1 (mX0_tried l  D d cs wi ln lf dk dn him ha ta sa hv tv gt gf gc tra gs q1 hcq1) (lw_V q932 q934 qs24 q82 q935) hd_X0_tried ⟨(Nat.le_of_ble_eq_true rfl), (Nat.le_of_ble_eq_true rfl)⟩ (va_recv hK hw.1 (ci := 1) (q0 := 7) rfl rfl) rfl rfl (Nat.le_of_ble_eq_true rfl) dX0_turnFrom_6 [0, 1, 2, 3, 4, 5, 6, 7, 8, 9, 10, 11, 12, 13, 14] [] rfl rfl rfl rfl (by decide) ⟨(Nat.le_of_ble_eq_true rfl), (Nat.le_of_ble_eq_true rfl)⟩ (fun u H locs hp hw => ?_)
    have hw : Wd D A s [oH ha (Hfl hv) (Hro hv) (Hrp hv) (Hca hv) (Hwy hv) (Hla hv) (Hmi hv) (Htf hv) (Htk hv), aV d ha 1 (HHO hv), aV d ha 2 (HAT hv), aV d ha 3 (HTO hv), aV d ha 4 (HWE hv), aV d ha 5 (HHE hv), aV d ha 6 (HRA hv), oS sa ha ta gt gf gc tra gs, oH ta (Hfl q1) (Hro q1) (Hrp q1) (Hca q1) (Hwy q1) (Hla q1) (Hmi q1) (Htf q1) (Htk q1), aV d ta 1 (HHO q1), aV d ta 2 (HAT q1), aV d ta 3 (HTO q1), aV d ta 4 (HWE q1), aV d ta 5 (HHE q1), aV d ta 6 (HRA q1)] H locs := hw
    refine lv_iload hx hb dX0_turnFrom_9 (lv_at hl 4 rfl) ?_
    refine va_put (ci := 2) (v := .int p4) (ty := .int) (C := RX1) (T := TX1) (N := 15) hx hb hts in_X1 tyX1 tyX1_ok nmX1 hown hK hw.1 hw.2.1 hw.2.2 8 rfl rfl 3 (by decide) (hts _ q169) (fun _ h9 => h9) rfl (by decide +kernel) rfl rfl (Nat.le_of_ble_eq_true rfl) dX0_turnFrom_11 (fun H locs hP hD hS => ?_)
    have hw : Wd D A s [oH ha (Hfl hv) (Hro hv) (Hrp hv) (Hca hv) (Hwy hv) (Hla hv) (Hmi hv) (Htf hv) (Htk hv), aV d ha 1 (HHO hv), aV d ha 2 (HAT hv), aV d ha 3 (HTO hv), aV d ha 4 (HWE hv), aV d ha 5 (HHE hv), aV d ha 6 (HRA hv), oS sa ha ta gt gf gc tra gs, oH ta (Hfl q1) (Hro q1) (Hrp q1) p4 (Hwy q1) (Hla q1) (Hmi q1) (Htf q1) (Htk q1), aV d ta 1 (HHO q1), aV d ta 2 (HAT q1), aV d ta 3 (HTO q1), aV d ta 4 (HWE q1), aV d ta 5 (HHE q1), aV d ta 6 (HRA q1)] H locs := ⟨hP, hD, hS⟩
    obtain ⟨b2, hb0, hf⟩ := op_e hf
    obtain ⟨e0, e1, e2, e3, e4, e5, e6, e7, e8, e9, e10, e11, e12, e13, e14⟩ := acca (sm_e hb0)
    have hw : Wd D A s [oH ha (Hfl hv) (Hro hv) (Hrp hv) (Hca hv) (Hwy hv) (Hla hv) (Hmi hv) (Htf hv) (Htk hv), aV d ha 1 (HHO hv), aV d ha 2 (HAT hv), aV d ha 3 (HTO hv), aV d ha 4 (HWE hv), aV d ha 5 (HHE hv), aV d ha 6 (HRA hv), oS sa ha ta gt gf gc tra gs, oH ta (Hfl b2) (Hro b2) (Hrp b2) (Hca b2) (Hwy b2) (Hla b2) (Hmi b2) (Htf b2) (Htk b2), aV d ta 1 (HHO b2), aV d ta 2 (HAT b2), aV d ta 3 (HTO b2), aV d ta 4 (HWE b2), aV d ta 5 (HHE b2), aV d ta 6 (HRA b2)] H locs := by rw [e0, e1, e2, e3, e4, e5, e6, e7, e8, e9, e10, e11, e12, e13, e14]; exact hw
    refine lv_aload_n hx hb dX0_turnFrom_14 rfl (lv_at hl 0 rfl) ?_
    refine lv_iload_n hx hb dX0_turnFrom_15 rfl (lv_at hl 3 rfl) ?_
    obtain ⟨q3, hcq3, hf⟩ := op_e hf
    refine x_VA (wr := [oH ha (Hfl hv) (Hro hv) (Hrp hv) (Hca hv) (Hwy hv) (Hla hv) (Hmi hv) (Htf hv) (Htk hv), aV d ha 1 (HHO hv), aV d ha 2 (HAT hv), aV d ha 3 (HTO hv), aV d ha 4 (HWE hv), aV d ha 5 (HHE hv), aV d ha 6 (HRA hv)]) (rest := []) [.int p3] hX cx hw hl.1 (mX0_goOn l  D d cs wi ln lf dk dn him ta sa ha b2 gt gf gc tra gs p3 q3 hcq3) (lw_V q936 q938 qs25 q82 q939) hd_X0_goOn ⟨(Nat.le_of_ble_eq_true rfl), (Nat.le_of_ble_eq_true rfl)⟩ (va_recv hK hw.1 (ci := 1) (q0 := 7) rfl rfl) rfl rfl (Nat.le_of_ble_eq_true rfl) dX0_turnFrom_16 [7, 8, 9, 10, 11, 12, 13, 14] [0, 1, 2, 3, 4, 5, 6] rfl rfl rfl rfl (by decide) ⟨(Nat.le_of_ble_eq_true rfl), (Nat.le_of_ble_eq_true rfl)⟩ (fun u H locs hp hw => ?_)
    have hw : Wd D A s [oH ha (Hfl hv) (Hro hv) (Hrp hv) (Hca hv) (Hwy hv) (Hla hv) (Hmi hv) (Htf hv) (Htk hv), aV d ha 1 (HHO hv), aV d ha 2 (HAT hv), aV d ha 3 (HTO hv), aV d ha 4 (HWE hv), aV d ha 5 (HHE hv), aV d ha 6 (HRA hv), oS sa ha ta gt gf gc tra gs, oH ta (Hfl q3) (Hro q3) (Hrp q3) (Hca q3) (Hwy q3) (Hla q3) (Hmi q3) (Htf q3) (Htk q3), aV d ta 1 (HHO q3), aV d ta 2 (HAT q3), aV d ta 3 (HTO q3), aV d ta 4 (HWE q3), aV d ta 5 (HHE q3), aV d ta 6 (HRA q3)] H locs := hw
    refine lv_iconst (v := 1) hx hb dX0_turnFrom_19 (by decide) ?_
    obtain ⟨q4, hcq4, hf⟩ := op_e hf
    refine x_VI (wr := [oH ha (Hfl hv) (Hro hv) (Hrp hv) (Hca hv) (Hwy hv) (Hla hv) (Hmi hv) (Htf hv) (Htk hv), aV d ha 1 (HHO hv), aV d ha 2 (HAT hv), aV d ha 3 (HTO hv), aV d ha 4 (HWE hv), aV d ha 5 (HHE hv), aV d ha 6 (HRA hv), oS sa ha ta gt gf gc tra gs]) (rest := []) [.int 1] hX cx hw hl.1 (vX1_heats l  D d cs wi ln lf dk dn him ta q3 1 q4 hcq4) (lw_V q1027 q1028 q1029 q83 q1030) hd_X1_heats ⟨(Nat.le_of_ble_eq_true rfl), (Nat.le_of_ble_eq_true rfl)⟩ (va_recv hK hw.1 (ci := 2) (q0 := 8) rfl rfl) rfl rfl (Nat.le_of_ble_eq_true rfl) dX0_turnFrom_20 [8, 9, 10, 11, 12, 13, 14] [0, 1, 2, 3, 4, 5, 6, 7] rfl rfl rfl rfl (by decide) ⟨(Nat.le_of_ble_eq_true rfl), (Nat.le_of_ble_eq_true rfl)⟩ (fun r u H locs hp hw => ?_)
    have hw : Wd D A s [oH ha (Hfl hv) (Hro hv) (Hrp hv) (Hca hv) (Hwy hv) (Hla hv) (Hmi hv) (Htf hv) (Htk hv), aV d ha 1 (HHO hv), aV d ha 2 (HAT hv), aV d ha 3 (HTO hv), aV d ha 4 (HWE hv), aV d ha 5 (HHE hv), aV d ha 6 (HRA hv), oS sa ha ta gt gf gc tra gs, oH ta (Hfl q3) (Hro q3) (Hrp q3) (Hca q3) (Hwy q3) (Hla q3) (Hmi q3) (Htf q3) (Htk q3), aV d ta 1 (HHO q3), aV d ta 2 (HAT q3), aV d ta 3 (HTO q3), aV d ta 4 (HWE q3), aV d ta 5 (HHE q3), aV d ta 6 (HRA q3)] H locs := hw
    subst r
    have hf := sm_e hf
    subst hf
    exact x_retI cx hw rfl () rfl [0, 1, 2, 3, 4, 5, 6, 7, 8, 9, 10, 11, 12, 13, 14] rfl rfl (Nat.le_of_ble_eq_true rfl) (Nat.le_of_ble_eq_true rfl) dX0_turnFrom_23
set_option maxHeartbeats 4000000 in
theorem mX0_turnFrom_1 (l : Launch)  (D : va_G) (d : Nat → ClassId) (cs : Nat → Nat) (wi : va_W) (ln : Nat → Option Int32) (lf : Nat → Nat → Option Nat) (dk : Nat → Option Nat) (dn : Nat → Int32) (him : ImF d wi ln lf dk dn) (ha : Nat → Nat) (ta : Nat → Nat) (sa : Nat → Nat) (hv : HV) (tv : HV) (gt : Int32) (gf : Int32) (gc : Int32) (tra : Nat) (gs : Int32) (p1 : Int32) (p2 : Int32) (p3 : Int32) (p4 : Int32)  (res : Int32 × HV) (hf : fX0_turnFrom_1 ln lf dk hv tv p1 p2 p3 p4 = some res) : MetI l yX0_turnFrom (ws_ yX0_turnFrom cX0_turnFrom 8 (some .int)) { frames := 8, cells := 0, slots := 0, locals := 232 } [.ref (sa 0), .int p1, .int p2, .int p3, .int p4] (XI D cs wi) D d [oH ha (Hfl hv) (Hro hv) (Hrp hv) (Hca hv) (Hwy hv) (Hla hv) (Hmi hv) (Htf hv) (Htk hv), aV d ha 1 (HHO hv), aV d ha 2 (HAT hv), aV d ha 3 (HTO hv), aV d ha 4 (HWE hv), aV d ha 5 (HHE hv), aV d ha 6 (HRA hv), oS sa ha ta gt gf gc tra gs, oH ta (Hfl tv) (Hro tv) (Hrp tv) (Hca tv) (Hwy tv) (Hla tv) (Hmi tv) (Htf tv) (Htk tv), aV d ta 1 (HHO tv), aV d ta 2 (HAT tv), aV d ta 3 (HTO tv), aV d ta 4 (HWE tv), aV d ta 5 (HHE tv), aV d ta 6 (HRA tv)] (fun r (_ : Unit) => r = res.1) (fun _ => [oH ha (Hfl hv) (Hro hv) (Hrp hv) (Hca hv) (Hwy hv) (Hla hv) (Hmi hv) (Htf hv) (Htk hv), aV d ha 1 (HHO hv), aV d ha 2 (HAT hv), aV d ha 3 (HTO hv), aV d ha 4 (HWE hv), aV d ha 5 (HHE hv), aV d ha 6 (HRA hv), oS sa ha ta gt gf gc tra gs, oH ta (Hfl res.2) (Hro res.2) (Hrp res.2) (Hca res.2) (Hwy res.2) (Hla res.2) (Hmi res.2) (Htf res.2) (Htk res.2), aV d ta 1 (HHO res.2), aV d ta 2 (HAT res.2), aV d ta 3 (HTO res.2), aV d ta 4 (HWE res.2), aV d ta 5 (HHE res.2), aV d ta 6 (HRA res.2)]) := by
  have hX := XI.ok (D := D) (cs := cs) (wi := wi)
  refine MetI.of (by decide +kernel) (Nat.le_of_ble_eq_true rfl) ?_
  intro p e s m below meth c A cx hw ls hl
  have cx : Cx p s m _ meth c (XI D cs wi) D d A "DishLift" cX0_turnFrom 8 (some .int) "turnFrom" := cx
  have cx' := cx
  obtain ⟨hx, hb, hr, hlk, hml, hown, hts, hK, hA, hXs, hnm⟩ := cx'
  have hl : lv_has ls 8 [(0, .ref (sa 0)), (1, .int p1), (2, .int p2), (3, .int p3), (4, .int p4)] := hl
  unfold fX0_turnFrom_1 at hf
  refine lv_iload_n hx hb dX0_turnFrom_0 rfl (lv_at hl 1 rfl) ?_
  refine lv_iload_n hx hb dX0_turnFrom_1 rfl (lv_at hl 2 rfl) ?_
  refine lv_icmp_ne (tgt := 24) hx hb dX0_turnFrom_2 (by decide) (fun c2 => ?_) (fun c2 => ?_)
  · have hf := if_f hf c2
    refine lv_aload_n hx hb dX0_turnFrom_24 rfl (lv_at hl 0 rfl) ?_
    refine lv_iload_n hx hb dX0_turnFrom_25 rfl (lv_at hl 1 rfl) ?_
    refine lv_iconst (v := 1) hx hb dX0_turnFrom_26 (by decide) ?_
    refine lv_iadd hx hb dX0_turnFrom_27 ?_
    refine lv_iload_n hx hb dX0_turnFrom_28 rfl (lv_at hl 2 rfl) ?_
    refine lv_iload_n hx hb dX0_turnFrom_29 rfl (lv_at hl 3 rfl) ?_
    refine lv_iload hx hb dX0_turnFrom_30 (lv_at hl 4 rfl) ?_
    obtain ⟨q5, hcq5, hf⟩ := op_e hf
    refine x_VI (wr := []) (rest := []) [.int (p1 + 1), .int p2, .int p3, .int p4] hX cx hw hl.1 (mX0_turnFrom_0 l  D d cs wi ln lf dk dn him ha ta sa hv tv gt gf gc tra gs (p1 + 1) p2 p3 p4 q5 hcq5) (lw_V q1023 q1025 qs31 q82 q1026) hd_X0_turnFrom ⟨(Nat.le_of_ble_eq_true rfl), (Nat.le_of_ble_eq_true rfl)⟩ (va_recv hK hw.1 (ci := 1) (q0 := 7) rfl rfl) rfl rfl (Nat.le_of_ble_eq_true rfl) dX0_turnFrom_32 [0, 1, 2, 3, 4, 5, 6, 7, 8, 9, 10, 11, 12, 13, 14] [] rfl rfl rfl rfl (by decide) ⟨(Nat.le_of_ble_eq_true rfl), (Nat.le_of_ble_eq_true rfl)⟩ (fun r u H locs hp hw => ?_)
    have hw : Wd D A s [oH ha (Hfl hv) (Hro hv) (Hrp hv) (Hca hv) (Hwy hv) (Hla hv) (Hmi hv) (Htf hv) (Htk hv), aV d ha 1 (HHO hv), aV d ha 2 (HAT hv), aV d ha 3 (HTO hv), aV d ha 4 (HWE hv), aV d ha 5 (HHE hv), aV d ha 6 (HRA hv), oS sa ha ta gt gf gc tra gs, oH ta (Hfl q5.2) (Hro q5.2) (Hrp q5.2) (Hca q5.2) (Hwy q5.2) (Hla q5.2) (Hmi q5.2) (Htf q5.2) (Htk q5.2), aV d ta 1 (HHO q5.2), aV d ta 2 (HAT q5.2), aV d ta 3 (HTO q5.2), aV d ta 4 (HWE q5.2), aV d ta 5 (HHE q5.2), aV d ta 6 (HRA q5.2)] H locs := hw
    subst r
    refine lv_istore (lv' := [(5, .int q5.1), (0, .ref (sa 0)), (1, .int p1), (2, .int p2), (3, .int p3), (4, .int p4)]) hx hb dX0_turnFrom_35 hl (by decide) rfl (fun ls hl => ?_)
    refine lv_iload_n hx hb dX0_turnFrom_37 rfl (lv_at hl 2 rfl) ?_
    refine lv_iconst (v := 2) hx hb dX0_turnFrom_38 (by decide) ?_
    refine lv_irem hx hb dX0_turnFrom_39 (by decide) ?_
    obtain ⟨j6, hjA, hjR⟩ := op_e hf
    refine x_join (A := A) (D := D) (J := 54) (nL := 8) (cells' := 0) (slots' := 0) (st := [.int j6]) [oH ha (Hfl hv) (Hro hv) (Hrp hv) (Hca hv) (Hwy hv) (Hla hv) (Hmi hv) (Htf hv) (Htk hv), aV d ha 1 (HHO hv), aV d ha 2 (HAT hv), aV d ha 3 (HTO hv), aV d ha 4 (HWE hv), aV d ha 5 (HHE hv), aV d ha 6 (HRA hv), oS sa ha ta gt gf gc tra gs, oH ta (Hfl q5.2) (Hro q5.2) (Hrp q5.2) (Hca q5.2) (Hwy q5.2) (Hla q5.2) (Hmi q5.2) (Htf q5.2) (Htk q5.2), aV d ta 1 (HHO q5.2), aV d ta 2 (HAT q5.2), aV d ta 3 (HTO q5.2), aV d ta 4 (HWE q5.2), aV d ta 5 (HHE q5.2), aV d ta 6 (HRA q5.2)] [(0, .ref (sa 0)), (1, .int p1), (2, .int p2), (3, .int p3), (5, .int q5.1)] (fun H locs ls hw hl => ?_) (fun hKj54_j6 => ?_)
    · have hf := hjR
      refine lv_istore (lv' := [(6, .int j6), (0, .ref (sa 0)), (1, .int p1), (2, .int p2), (3, .int p3), (5, .int q5.1)]) hx hb dX0_turnFrom_54 hl (by decide) rfl (fun ls hl => ?_)
      refine lv_aload_n hx hb dX0_turnFrom_56 rfl (lv_at hl 1 rfl) ?_
      refine lv_iload hx hb dX0_turnFrom_57 (lv_at hl 0 rfl) ?_
      obtain ⟨q7, hcq7, hf⟩ := op_e hf
      refine x_VI (wr := [oH ta (Hfl q5.2) (Hro q5.2) (Hrp q5.2) (Hca q5.2) (Hwy q5.2) (Hla q5.2) (Hmi q5.2) (Htf q5.2) (Htk q5.2), aV d ta 1 (HHO q5.2), aV d ta 2 (HAT q5.2), aV d ta 3 (HTO q5.2), aV d ta 4 (HWE q5.2), aV d ta 5 (HHE q5.2), aV d ta 6 (HRA q5.2)]) (rest := []) [.int j6] hX cx hw hl.1 (mX0_isFloor l  D d cs wi ln lf dk dn him ha sa ta hv gt gf gc tra gs j6 q7 hcq7) (lw_V q872 q874 qs22 q82 q875) hd_X0_isFloor ⟨(Nat.le_of_ble_eq_true rfl), (Nat.le_of_ble_eq_true rfl)⟩ (va_recv hK hw.1 (ci := 1) (q0 := 7) rfl rfl) rfl rfl (Nat.le_of_ble_eq_true rfl) dX0_turnFrom_59 [0, 1, 2, 3, 4, 5, 6, 7] [8, 9, 10, 11, 12, 13, 14] rfl rfl rfl rfl (by decide) ⟨(Nat.le_of_ble_eq_true rfl), (Nat.le_of_ble_eq_true rfl)⟩ (fun r u H locs hp hw => ?_)
      have hw : Wd D A s [oH ta (Hfl q5.2) (Hro q5.2) (Hrp q5.2) (Hca q5.2) (Hwy q5.2) (Hla q5.2) (Hmi q5.2) (Htf q5.2) (Htk q5.2), aV d ta 1 (HHO q5.2), aV d ta 2 (HAT q5.2), aV d ta 3 (HTO q5.2), aV d ta 4 (HWE q5.2), aV d ta 5 (HHE q5.2), aV d ta 6 (HRA q5.2), oH ha (Hfl hv) (Hro hv) (Hrp hv) (Hca hv) (Hwy hv) (Hla hv) (Hmi hv) (Htf hv) (Htk hv), aV d ha 1 (HHO hv), aV d ha 2 (HAT hv), aV d ha 3 (HTO hv), aV d ha 4 (HWE hv), aV d ha 5 (HHE hv), aV d ha 6 (HRA hv), oS sa ha ta gt gf gc tra gs] H locs := hw
      subst r
      refine lv_if_ne (tgt := 68) hx hb dX0_turnFrom_62 (by decide) (fun c62 => ?_) (fun c62 => ?_)
      · have hf := if_f hf c62
        refine lv_aload_n hx hb dX0_turnFrom_68 rfl (lv_at hl 1 rfl) ?_
        refine lv_iload_n hx hb dX0_turnFrom_69 rfl (lv_at hl 2 rfl) ?_
        refine lv_iconst (v := 1) hx hb dX0_turnFrom_70 (by decide) ?_
        refine lv_iadd hx hb dX0_turnFrom_71 ?_
        refine lv_iload_n hx hb dX0_turnFrom_72 rfl (lv_at hl 3 rfl) ?_
        refine lv_iload_n hx hb dX0_turnFrom_73 rfl (lv_at hl 4 rfl) ?_
        refine lv_iload hx hb dX0_turnFrom_74 (lv_at hl 0 rfl) ?_
        obtain ⟨q8, hcq8, hf⟩ := op_e hf
        refine x_VI (wr := []) (rest := []) [.int (p1 + 1), .int p2, .int p3, .int j6] hX cx hw hl.1 (mX0_turnFrom_0 l  D d cs wi ln lf dk dn him ha ta sa hv q5.2 gt gf gc tra gs (p1 + 1) p2 p3 j6 q8 hcq8) (lw_V q1023 q1025 qs31 q82 q1026) hd_X0_turnFrom ⟨(Nat.le_of_ble_eq_true rfl), (Nat.le_of_ble_eq_true rfl)⟩ (va_recv hK hw.1 (ci := 1) (q0 := 14) rfl rfl) rfl rfl (Nat.le_of_ble_eq_true rfl) dX0_turnFrom_76 [7, 8, 9, 10, 11, 12, 13, 14, 0, 1, 2, 3, 4, 5, 6] [] rfl rfl rfl rfl (by decide) ⟨(Nat.le_of_ble_eq_true rfl), (Nat.le_of_ble_eq_true rfl)⟩ (fun r u H locs hp hw => ?_)
        have hw : Wd D A s [oH ha (Hfl hv) (Hro hv) (Hrp hv) (Hca hv) (Hwy hv) (Hla hv) (Hmi hv) (Htf hv) (Htk hv), aV d ha 1 (HHO hv), aV d ha 2 (HAT hv), aV d ha 3 (HTO hv), aV d ha 4 (HWE hv), aV d ha 5 (HHE hv), aV d ha 6 (HRA hv), oS sa ha ta gt gf gc tra gs, oH ta (Hfl q8.2) (Hro q8.2) (Hrp q8.2) (Hca q8.2) (Hwy q8.2) (Hla q8.2) (Hmi q8.2) (Htf q8.2) (Htk q8.2), aV d ta 1 (HHO q8.2), aV d ta 2 (HAT q8.2), aV d ta 3 (HTO q8.2), aV d ta 4 (HWE q8.2), aV d ta 5 (HHE q8.2), aV d ta 6 (HRA q8.2)] H locs := hw
        subst r
        refine lv_istore (lv' := [(7, .int q8.1), (6, .int j6), (0, .ref (sa 0)), (1, .int p1), (2, .int p2), (3, .int p3), (5, .int q5.1)]) hx hb dX0_turnFrom_79 hl (by decide) rfl (fun ls hl => ?_)
        refine lv_iload_n hx hb dX0_turnFrom_81 rfl (lv_at hl 3 rfl) ?_
        refine lv_iconst (v := 2) hx hb dX0_turnFrom_82 (by decide) ?_
        refine lv_irem hx hb dX0_turnFrom_83 (by decide) ?_
        refine lv_if_ne (tgt := 97) hx hb dX0_turnFrom_84 (by decide) (fun c84 => ?_) (fun c84 => ?_)
        · have hf := if_f hf c84
          refine lv_iload hx hb dX0_turnFrom_97 (lv_at hl 6 rfl) ?_
          refine lv_iload hx hb dX0_turnFrom_99 (lv_at hl 0 rfl) ?_
          refine va_mmin hx hb (hml.trans hl.1.symm) hown (hts _ q1031) (hts _ q744) (hts _ q110) (hts _ q745) (Nat.le_of_ble_eq_true rfl) (Nat.le_of_ble_eq_true rfl) (Nat.le_of_ble_eq_true rfl) (Nat.le_of_ble_eq_true rfl) dX0_turnFrom_101 ?_
          have hf := sm_e hf
          subst hf
          exact x_retI cx hw rfl () rfl [0, 1, 2, 3, 4, 5, 6, 7, 8, 9, 10, 11, 12, 13, 14] rfl rfl (Nat.le_of_ble_eq_true rfl) (Nat.le_of_ble_eq_true rfl) dX0_turnFrom_104
        · have hf := if_t hf c84
          refine lv_iload hx hb dX0_turnFrom_87 (lv_at hl 6 rfl) ?_
          refine lv_iload hx hb dX0_turnFrom_89 (lv_at hl 0 rfl) ?_
          refine va_mmax hx hb (hml.trans hl.1.symm) hown (hts _ q977) (hts _ q708) (hts _ q110) (hts _ q709) (Nat.le_of_ble_eq_true rfl) (Nat.le_of_ble_eq_true rfl) (Nat.le_of_ble_eq_true rfl) (Nat.le_of_ble_eq_true rfl) dX0_turnFrom_91 ?_
          refine lv_goto (tgt := 104) hx hb dX0_turnFrom_94 (by decide) ?_
          have hf := sm_e hf
          subst hf
          exact x_retI cx hw rfl () rfl [0, 1, 2, 3, 4, 5, 6, 7, 8, 9, 10, 11, 12, 13, 14] rfl rfl (Nat.le_of_ble_eq_true rfl) (Nat.le_of_ble_eq_true rfl) dX0_turnFrom_104
      · have hf := if_t hf c62
        refine lv_iload hx hb dX0_turnFrom_65 (lv_at hl 5 rfl) ?_
        have hf := sm_e hf
        subst hf
        exact x_retI cx hw rfl () rfl [7, 8, 9, 10, 11, 12, 13, 14, 0, 1, 2, 3, 4, 5, 6] rfl rfl (Nat.le_of_ble_eq_true rfl) (Nat.le_of_ble_eq_true rfl) dX0_turnFrom_67
    · have hf := hjA
      refine lv_if_ne (tgt := 50) hx hb dX0_turnFrom_40 (by decide) (fun c40 => ?_) (fun c40 => ?_)
      · have hf := if_f hf c40
        refine lv_iload hx hb dX0_turnFrom_50 (lv_at hl 5 rfl) ?_
        refine lv_iconst (v := 1) hx hb dX0_turnFrom_52 (by decide) ?_
        refine lv_iadd hx hb dX0_turnFrom_53 ?_
        have hf := sm_e hf
        subst hf
        exact hKj54_j6 _ _ _ hw (lv_sub hl [1, 2, 3, 4, 0] rfl)
      · have hf := if_t hf c40
        refine lv_iload hx hb dX0_turnFrom_43 (lv_at hl 5 rfl) ?_
        refine lv_iconst (v := 1) hx hb dX0_turnFrom_45 (by decide) ?_
        refine lv_isub hx hb dX0_turnFrom_46 ?_
        refine lv_goto (tgt := 54) hx hb dX0_turnFrom_47 (by decide) ?_
        have hf := sm_e hf
        subst hf
        exact hKj54_j6 _ _ _ hw (lv_sub hl [1, 2, 3, 4, 0] rfl)
  · have hf := if_t hf c2
    refine lv_aload_n hx hb dX0_turnFrom_5 rfl (lv_at hl 0 rfl) ?_
    obtain ⟨q1, hcq1, hf⟩ := op_e hf
    refine x_VA (wr := []) (rest := []) [] hX cx hw hl.1 (mX0_tried l  D d cs wi ln lf dk dn him ha ta sa hv tv gt gf gc tra gs q1 hcq1) (lw_V q932 q934 qs24 q82 q935) hd_X0_tried ⟨(Nat.le_of_ble_eq_true rfl), (Nat.le_of_ble_eq_true rfl)⟩ (va_recv hK hw.1 (ci := 1) (q0 := 7) rfl rfl) rfl rfl (Nat.le_of_ble_eq_true rfl) dX0_turnFrom_6 [0, 1, 2, 3, 4, 5, 6, 7, 8, 9, 10, 11, 12, 13, 14] [] rfl rfl rfl rfl (by decide) ⟨(Nat.le_of_ble_eq_true rfl), (Nat.le_of_ble_eq_true rfl)⟩ (fun u H locs hp hw => ?_)
    have hw : Wd D A s [oH ha (Hfl hv) (Hro hv) (Hrp hv) (Hca hv) (Hwy hv) (Hla hv) (Hmi hv) (Htf hv) (Htk hv), aV d ha 1 (HHO hv), aV d ha 2 (HAT hv), aV d ha 3 (HTO hv), aV d ha 4 (HWE hv), aV d ha 5 (HHE hv), aV d ha 6 (HRA hv), oS sa ha ta gt gf gc tra gs, oH ta (Hfl q1) (Hro q1) (Hrp q1) (Hca q1) (Hwy q1) (Hla q1) (Hmi q1) (Htf q1) (Htk q1), aV d ta 1 (HHO q1), aV d ta 2 (HAT q1), aV d ta 3 (HTO q1), aV d ta 4 (HWE q1), aV d ta 5 (HHE q1), aV d ta 6 (HRA q1)] H locs := hw
    refine lv_iload hx hb dX0_turnFrom_9 (lv_at hl 4 rfl) ?_
    refine va_put (ci := 2) (v := .int p4) (ty := .int) (C := RX1) (T := TX1) (N := 15) hx hb hts in_X1 tyX1 tyX1_ok nmX1 hown hK hw.1 hw.2.1 hw.2.2 8 rfl rfl 3 (by decide) (hts _ q169) (fun _ h9 => h9) rfl (by decide +kernel) rfl rfl (Nat.le_of_ble_eq_true rfl) dX0_turnFrom_11 (fun H locs hP hD hS => ?_)
    have hw : Wd D A s [oH ha (Hfl hv) (Hro hv) (Hrp hv) (Hca hv) (Hwy hv) (Hla hv) (Hmi hv) (Htf hv) (Htk hv), aV d ha 1 (HHO hv), aV d ha 2 (HAT hv), aV d ha 3 (HTO hv), aV d ha 4 (HWE hv), aV d ha 5 (HHE hv), aV d ha 6 (HRA hv), oS sa ha ta gt gf gc tra gs, oH ta (Hfl q1) (Hro q1) (Hrp q1) p4 (Hwy q1) (Hla q1) (Hmi q1) (Htf q1) (Htk q1), aV d ta 1 (HHO q1), aV d ta 2 (HAT q1), aV d ta 3 (HTO q1), aV d ta 4 (HWE q1), aV d ta 5 (HHE q1), aV d ta 6 (HRA q1)] H locs := ⟨hP, hD, hS⟩
    obtain ⟨b2, hb0, hf⟩ := op_e hf
    obtain ⟨e0, e1, e2, e3, e4, e5, e6, e7, e8, e9, e10, e11, e12, e13, e14⟩ := acca (sm_e hb0)
    have hw : Wd D A s [oH ha (Hfl hv) (Hro hv) (Hrp hv) (Hca hv) (Hwy hv) (Hla hv) (Hmi hv) (Htf hv) (Htk hv), aV d ha 1 (HHO hv), aV d ha 2 (HAT hv), aV d ha 3 (HTO hv), aV d ha 4 (HWE hv), aV d ha 5 (HHE hv), aV d ha 6 (HRA hv), oS sa ha ta gt gf gc tra gs, oH ta (Hfl b2) (Hro b2) (Hrp b2) (Hca b2) (Hwy b2) (Hla b2) (Hmi b2) (Htf b2) (Htk b2), aV d ta 1 (HHO b2), aV d ta 2 (HAT b2), aV d ta 3 (HTO b2), aV d ta 4 (HWE b2), aV d ta 5 (HHE b2), aV d ta 6 (HRA b2)] H locs := by rw [e0, e1, e2, e3, e4, e5, e6, e7, e8, e9, e10, e11, e12, e13, e14]; exact hw
    refine lv_aload_n hx hb dX0_turnFrom_14 rfl (lv_at hl 0 rfl) ?_
    refine lv_iload_n hx hb dX0_turnFrom_15 rfl (lv_at hl 3 rfl) ?_
    obtain ⟨q3, hcq3, hf⟩ := op_e hf
    refine x_VA (wr := [oH ha (Hfl hv) (Hro hv) (Hrp hv) (Hca hv) (Hwy hv) (Hla hv) (Hmi hv) (Htf hv) (Htk hv), aV d ha 1 (HHO hv), aV d ha 2 (HAT hv), aV d ha 3 (HTO hv), aV d ha 4 (HWE hv), aV d ha 5 (HHE hv), aV d ha 6 (HRA hv)]) (rest := []) [.int p3] hX cx hw hl.1 (mX0_goOn l  D d cs wi ln lf dk dn him ta sa ha b2 gt gf gc tra gs p3 q3 hcq3) (lw_V q936 q938 qs25 q82 q939) hd_X0_goOn ⟨(Nat.le_of_ble_eq_true rfl), (Nat.le_of_ble_eq_true rfl)⟩ (va_recv hK hw.1 (ci := 1) (q0 := 7) rfl rfl) rfl rfl (Nat.le_of_ble_eq_true rfl) dX0_turnFrom_16 [7, 8, 9, 10, 11, 12, 13, 14] [0, 1, 2, 3, 4, 5, 6] rfl rfl rfl rfl (by decide) ⟨(Nat.le_of_ble_eq_true rfl), (Nat.le_of_ble_eq_true rfl)⟩ (fun u H locs hp hw => ?_)
    have hw : Wd D A s [oH ha (Hfl hv) (Hro hv) (Hrp hv) (Hca hv) (Hwy hv) (Hla hv) (Hmi hv) (Htf hv) (Htk hv), aV d ha 1 (HHO hv), aV d ha 2 (HAT hv), aV d ha 3 (HTO hv), aV d ha 4 (HWE hv), aV d ha 5 (HHE hv), aV d ha 6 (HRA hv), oS sa ha ta gt gf gc tra gs, oH ta (Hfl q3) (Hro q3) (Hrp q3) (Hca q3) (Hwy q3) (Hla q3) (Hmi q3) (Htf q3) (Htk q3), aV d ta 1 (HHO q3), aV d ta 2 (HAT q3), aV d ta 3 (HTO q3), aV d ta 4 (HWE q3), aV d ta 5 (HHE q3), aV d ta 6 (HRA q3)] H locs := hw
    refine lv_iconst (v := 1) hx hb dX0_turnFrom_19 (by decide) ?_
    obtain ⟨q4, hcq4, hf⟩ := op_e hf
    refine x_VI (wr := [oH ha (Hfl hv) (Hro hv) (Hrp hv) (Hca hv) (Hwy hv) (Hla hv) (Hmi hv) (Htf hv) (Htk hv), aV d ha 1 (HHO hv), aV d ha 2 (HAT hv), aV d ha 3 (HTO hv), aV d ha 4 (HWE hv), aV d ha 5 (HHE hv), aV d ha 6 (HRA hv), oS sa ha ta gt gf gc tra gs]) (rest := []) [.int 1] hX cx hw hl.1 (vX1_heats l  D d cs wi ln lf dk dn him ta q3 1 q4 hcq4) (lw_V q1027 q1028 q1029 q83 q1030) hd_X1_heats ⟨(Nat.le_of_ble_eq_true rfl), (Nat.le_of_ble_eq_true rfl)⟩ (va_recv hK hw.1 (ci := 2) (q0 := 8) rfl rfl) rfl rfl (Nat.le_of_ble_eq_true rfl) dX0_turnFrom_20 [8, 9, 10, 11, 12, 13, 14] [0, 1, 2, 3, 4, 5, 6, 7] rfl rfl rfl rfl (by decide) ⟨(Nat.le_of_ble_eq_true rfl), (Nat.le_of_ble_eq_true rfl)⟩ (fun r u H locs hp hw => ?_)
    have hw : Wd D A s [oH ha (Hfl hv) (Hro hv) (Hrp hv) (Hca hv) (Hwy hv) (Hla hv) (Hmi hv) (Htf hv) (Htk hv), aV d ha 1 (HHO hv), aV d ha 2 (HAT hv), aV d ha 3 (HTO hv), aV d ha 4 (HWE hv), aV d ha 5 (HHE hv), aV d ha 6 (HRA hv), oS sa ha ta gt gf gc tra gs, oH ta (Hfl q3) (Hro q3) (Hrp q3) (Hca q3) (Hwy q3) (Hla q3) (Hmi q3) (Htf q3) (Htk q3), aV d ta 1 (HHO q3), aV d ta 2 (HAT q3), aV d ta 3 (HTO q3), aV d ta 4 (HWE q3), aV d ta 5 (HHE q3), aV d ta 6 (HRA q3)] H locs := hw
    subst r
    have hf := sm_e hf
    subst hf
    exact x_retI cx hw rfl () rfl [0, 1, 2, 3, 4, 5, 6, 7, 8, 9, 10, 11, 12, 13, 14] rfl rfl (Nat.le_of_ble_eq_true rfl) (Nat.le_of_ble_eq_true rfl) dX0_turnFrom_23
set_option maxHeartbeats 4000000 in
theorem mX0_turnFrom_2 (l : Launch)  (D : va_G) (d : Nat → ClassId) (cs : Nat → Nat) (wi : va_W) (ln : Nat → Option Int32) (lf : Nat → Nat → Option Nat) (dk : Nat → Option Nat) (dn : Nat → Int32) (him : ImF d wi ln lf dk dn) (ha : Nat → Nat) (ta : Nat → Nat) (sa : Nat → Nat) (hv : HV) (tv : HV) (gt : Int32) (gf : Int32) (gc : Int32) (tra : Nat) (gs : Int32) (p1 : Int32) (p2 : Int32) (p3 : Int32) (p4 : Int32)  (res : Int32 × HV) (hf : fX0_turnFrom_2 ln lf dk hv tv p1 p2 p3 p4 = some res) : MetI l yX0_turnFrom (ws_ yX0_turnFrom cX0_turnFrom 8 (some .int)) { frames := 9, cells := 0, slots := 0, locals := 259 } [.ref (sa 0), .int p1, .int p2, .int p3, .int p4] (XI D cs wi) D d [oH ha (Hfl hv) (Hro hv) (Hrp hv) (Hca hv) (Hwy hv) (Hla hv) (Hmi hv) (Htf hv) (Htk hv), aV d ha 1 (HHO hv), aV d ha 2 (HAT hv), aV d ha 3 (HTO hv), aV d ha 4 (HWE hv), aV d ha 5 (HHE hv), aV d ha 6 (HRA hv), oS sa ha ta gt gf gc tra gs, oH ta (Hfl tv) (Hro tv) (Hrp tv) (Hca tv) (Hwy tv) (Hla tv) (Hmi tv) (Htf tv) (Htk tv), aV d ta 1 (HHO tv), aV d ta 2 (HAT tv), aV d ta 3 (HTO tv), aV d ta 4 (HWE tv), aV d ta 5 (HHE tv), aV d ta 6 (HRA tv)] (fun r (_ : Unit) => r = res.1) (fun _ => [oH ha (Hfl hv) (Hro hv) (Hrp hv) (Hca hv) (Hwy hv) (Hla hv) (Hmi hv) (Htf hv) (Htk hv), aV d ha 1 (HHO hv), aV d ha 2 (HAT hv), aV d ha 3 (HTO hv), aV d ha 4 (HWE hv), aV d ha 5 (HHE hv), aV d ha 6 (HRA hv), oS sa ha ta gt gf gc tra gs, oH ta (Hfl res.2) (Hro res.2) (Hrp res.2) (Hca res.2) (Hwy res.2) (Hla res.2) (Hmi res.2) (Htf res.2) (Htk res.2), aV d ta 1 (HHO res.2), aV d ta 2 (HAT res.2), aV d ta 3 (HTO res.2), aV d ta 4 (HWE res.2), aV d ta 5 (HHE res.2), aV d ta 6 (HRA res.2)]) := by
  have hX := XI.ok (D := D) (cs := cs) (wi := wi)
  refine MetI.of (by decide +kernel) (Nat.le_of_ble_eq_true rfl) ?_
  intro p e s m below meth c A cx hw ls hl
  have cx : Cx p s m _ meth c (XI D cs wi) D d A "DishLift" cX0_turnFrom 8 (some .int) "turnFrom" := cx
  have cx' := cx
  obtain ⟨hx, hb, hr, hlk, hml, hown, hts, hK, hA, hXs, hnm⟩ := cx'
  have hl : lv_has ls 8 [(0, .ref (sa 0)), (1, .int p1), (2, .int p2), (3, .int p3), (4, .int p4)] := hl
  unfold fX0_turnFrom_2 at hf
  refine lv_iload_n hx hb dX0_turnFrom_0 rfl (lv_at hl 1 rfl) ?_
  refine lv_iload_n hx hb dX0_turnFrom_1 rfl (lv_at hl 2 rfl) ?_
  refine lv_icmp_ne (tgt := 24) hx hb dX0_turnFrom_2 (by decide) (fun c2 => ?_) (fun c2 => ?_)
  · have hf := if_f hf c2
    refine lv_aload_n hx hb dX0_turnFrom_24 rfl (lv_at hl 0 rfl) ?_
    refine lv_iload_n hx hb dX0_turnFrom_25 rfl (lv_at hl 1 rfl) ?_
    refine lv_iconst (v := 1) hx hb dX0_turnFrom_26 (by decide) ?_
    refine lv_iadd hx hb dX0_turnFrom_27 ?_
    refine lv_iload_n hx hb dX0_turnFrom_28 rfl (lv_at hl 2 rfl) ?_
    refine lv_iload_n hx hb dX0_turnFrom_29 rfl (lv_at hl 3 rfl) ?_
    refine lv_iload hx hb dX0_turnFrom_30 (lv_at hl 4 rfl) ?_
    obtain ⟨q5, hcq5, hf⟩ := op_e hf
    refine x_VI (wr := []) (rest := []) [.int (p1 + 1), .int p2, .int p3, .int p4] hX cx hw hl.1 (mX0_turnFrom_1 l  D d cs wi ln lf dk dn him ha ta sa hv tv gt gf gc tra gs (p1 + 1) p2 p3 p4 q5 hcq5) (lw_V q1023 q1025 qs31 q82 q1026) hd_X0_turnFrom ⟨(Nat.le_of_ble_eq_true rfl), (Nat.le_of_ble_eq_true rfl)⟩ (va_recv hK hw.1 (ci := 1) (q0 := 7) rfl rfl) rfl rfl (Nat.le_of_ble_eq_true rfl) dX0_turnFrom_32 [0, 1, 2, 3, 4, 5, 6, 7, 8, 9, 10, 11, 12, 13, 14] [] rfl rfl rfl rfl (by decide) ⟨(Nat.le_of_ble_eq_true rfl), (Nat.le_of_ble_eq_true rfl)⟩ (fun r u H locs hp hw => ?_)
    have hw : Wd D A s [oH ha (Hfl hv) (Hro hv) (Hrp hv) (Hca hv) (Hwy hv) (Hla hv) (Hmi hv) (Htf hv) (Htk hv), aV d ha 1 (HHO hv), aV d ha 2 (HAT hv), aV d ha 3 (HTO hv), aV d ha 4 (HWE hv), aV d ha 5 (HHE hv), aV d ha 6 (HRA hv), oS sa ha ta gt gf gc tra gs, oH ta (Hfl q5.2) (Hro q5.2) (Hrp q5.2) (Hca q5.2) (Hwy q5.2) (Hla q5.2) (Hmi q5.2) (Htf q5.2) (Htk q5.2), aV d ta 1 (HHO q5.2), aV d ta 2 (HAT q5.2), aV d ta 3 (HTO q5.2), aV d ta 4 (HWE q5.2), aV d ta 5 (HHE q5.2), aV d ta 6 (HRA q5.2)] H locs := hw
    subst r
    refine lv_istore (lv' := [(5, .int q5.1), (0, .ref (sa 0)), (1, .int p1), (2, .int p2), (3, .int p3), (4, .int p4)]) hx hb dX0_turnFrom_35 hl (by decide) rfl (fun ls hl => ?_)
    refine lv_iload_n hx hb dX0_turnFrom_37 rfl (lv_at hl 2 rfl) ?_
    refine lv_iconst (v := 2) hx hb dX0_turnFrom_38 (by decide) ?_
    refine lv_irem hx hb dX0_turnFrom_39 (by decide) ?_
    obtain ⟨j6, hjA, hjR⟩ := op_e hf
    refine x_join (A := A) (D := D) (J := 54) (nL := 8) (cells' := 0) (slots' := 0) (st := [.int j6]) [oH ha (Hfl hv) (Hro hv) (Hrp hv) (Hca hv) (Hwy hv) (Hla hv) (Hmi hv) (Htf hv) (Htk hv), aV d ha 1 (HHO hv), aV d ha 2 (HAT hv), aV d ha 3 (HTO hv), aV d ha 4 (HWE hv), aV d ha 5 (HHE hv), aV d ha 6 (HRA hv), oS sa ha ta gt gf gc tra gs, oH ta (Hfl q5.2) (Hro q5.2) (Hrp q5.2) (Hca q5.2) (Hwy q5.2) (Hla q5.2) (Hmi q5.2) (Htf q5.2) (Htk q5.2), aV d ta 1 (HHO q5.2), aV d ta 2 (HAT q5.2), aV d ta 3 (HTO q5.2), aV d ta 4 (HWE q5.2), aV d ta 5 (HHE q5.2), aV d ta 6 (HRA q5.2)] [(0, .ref (sa 0)), (1, .int p1), (2, .int p2), (3, .int p3), (5, .int q5.1)] (fun H locs ls hw hl => ?_) (fun hKj54_j6 => ?_)
    · have hf := hjR
      refine lv_istore (lv' := [(6, .int j6), (0, .ref (sa 0)), (1, .int p1), (2, .int p2), (3, .int p3), (5, .int q5.1)]) hx hb dX0_turnFrom_54 hl (by decide) rfl (fun ls hl => ?_)
      refine lv_aload_n hx hb dX0_turnFrom_56 rfl (lv_at hl 1 rfl) ?_
      refine lv_iload hx hb dX0_turnFrom_57 (lv_at hl 0 rfl) ?_
      obtain ⟨q7, hcq7, hf⟩ := op_e hf
      refine x_VI (wr := [oH ta (Hfl q5.2) (Hro q5.2) (Hrp q5.2) (Hca q5.2) (Hwy q5.2) (Hla q5.2) (Hmi q5.2) (Htf q5.2) (Htk q5.2), aV d ta 1 (HHO q5.2), aV d ta 2 (HAT q5.2), aV d ta 3 (HTO q5.2), aV d ta 4 (HWE q5.2), aV d ta 5 (HHE q5.2), aV d ta 6 (HRA q5.2)]) (rest := []) [.int j6] hX cx hw hl.1 (mX0_isFloor l  D d cs wi ln lf dk dn him ha sa ta hv gt gf gc tra gs j6 q7 hcq7) (lw_V q872 q874 qs22 q82 q875) hd_X0_isFloor ⟨(Nat.le_of_ble_eq_true rfl), (Nat.le_of_ble_eq_true rfl)⟩ (va_recv hK hw.1 (ci := 1) (q0 := 7) rfl rfl) rfl rfl (Nat.le_of_ble_eq_true rfl) dX0_turnFrom_59 [0, 1, 2, 3, 4, 5, 6, 7] [8, 9, 10, 11, 12, 13, 14] rfl rfl rfl rfl (by decide) ⟨(Nat.le_of_ble_eq_true rfl), (Nat.le_of_ble_eq_true rfl)⟩ (fun r u H locs hp hw => ?_)
      have hw : Wd D A s [oH ta (Hfl q5.2) (Hro q5.2) (Hrp q5.2) (Hca q5.2) (Hwy q5.2) (Hla q5.2) (Hmi q5.2) (Htf q5.2) (Htk q5.2), aV d ta 1 (HHO q5.2), aV d ta 2 (HAT q5.2), aV d ta 3 (HTO q5.2), aV d ta 4 (HWE q5.2), aV d ta 5 (HHE q5.2), aV d ta 6 (HRA q5.2), oH ha (Hfl hv) (Hro hv) (Hrp hv) (Hca hv) (Hwy hv) (Hla hv) (Hmi hv) (Htf hv) (Htk hv), aV d ha 1 (HHO hv), aV d ha 2 (HAT hv), aV d ha 3 (HTO hv), aV d ha 4 (HWE hv), aV d ha 5 (HHE hv), aV d ha 6 (HRA hv), oS sa ha ta gt gf gc tra gs] H locs := hw
      subst r
      refine lv_if_ne (tgt := 68) hx hb dX0_turnFrom_62 (by decide) (fun c62 => ?_) (fun c62 => ?_)
      · have hf := if_f hf c62
        refine lv_aload_n hx hb dX0_turnFrom_68 rfl (lv_at hl 1 rfl) ?_
        refine lv_iload_n hx hb dX0_turnFrom_69 rfl (lv_at hl 2 rfl) ?_
        refine lv_iconst (v := 1) hx hb dX0_turnFrom_70 (by decide) ?_
        refine lv_iadd hx hb dX0_turnFrom_71 ?_
        refine lv_iload_n hx hb dX0_turnFrom_72 rfl (lv_at hl 3 rfl) ?_
        refine lv_iload_n hx hb dX0_turnFrom_73 rfl (lv_at hl 4 rfl) ?_
        refine lv_iload hx hb dX0_turnFrom_74 (lv_at hl 0 rfl) ?_
        obtain ⟨q8, hcq8, hf⟩ := op_e hf
        refine x_VI (wr := []) (rest := []) [.int (p1 + 1), .int p2, .int p3, .int j6] hX cx hw hl.1 (mX0_turnFrom_1 l  D d cs wi ln lf dk dn him ha ta sa hv q5.2 gt gf gc tra gs (p1 + 1) p2 p3 j6 q8 hcq8) (lw_V q1023 q1025 qs31 q82 q1026) hd_X0_turnFrom ⟨(Nat.le_of_ble_eq_true rfl), (Nat.le_of_ble_eq_true rfl)⟩ (va_recv hK hw.1 (ci := 1) (q0 := 14) rfl rfl) rfl rfl (Nat.le_of_ble_eq_true rfl) dX0_turnFrom_76 [7, 8, 9, 10, 11, 12, 13, 14, 0, 1, 2, 3, 4, 5, 6] [] rfl rfl rfl rfl (by decide) ⟨(Nat.le_of_ble_eq_true rfl), (Nat.le_of_ble_eq_true rfl)⟩ (fun r u H locs hp hw => ?_)
        have hw : Wd D A s [oH ha (Hfl hv) (Hro hv) (Hrp hv) (Hca hv) (Hwy hv) (Hla hv) (Hmi hv) (Htf hv) (Htk hv), aV d ha 1 (HHO hv), aV d ha 2 (HAT hv), aV d ha 3 (HTO hv), aV d ha 4 (HWE hv), aV d ha 5 (HHE hv), aV d ha 6 (HRA hv), oS sa ha ta gt gf gc tra gs, oH ta (Hfl q8.2) (Hro q8.2) (Hrp q8.2) (Hca q8.2) (Hwy q8.2) (Hla q8.2) (Hmi q8.2) (Htf q8.2) (Htk q8.2), aV d ta 1 (HHO q8.2), aV d ta 2 (HAT q8.2), aV d ta 3 (HTO q8.2), aV d ta 4 (HWE q8.2), aV d ta 5 (HHE q8.2), aV d ta 6 (HRA q8.2)] H locs := hw
        subst r
        refine lv_istore (lv' := [(7, .int q8.1), (6, .int j6), (0, .ref (sa 0)), (1, .int p1), (2, .int p2), (3, .int p3), (5, .int q5.1)]) hx hb dX0_turnFrom_79 hl (by decide) rfl (fun ls hl => ?_)
        refine lv_iload_n hx hb dX0_turnFrom_81 rfl (lv_at hl 3 rfl) ?_
        refine lv_iconst (v := 2) hx hb dX0_turnFrom_82 (by decide) ?_
        refine lv_irem hx hb dX0_turnFrom_83 (by decide) ?_
        refine lv_if_ne (tgt := 97) hx hb dX0_turnFrom_84 (by decide) (fun c84 => ?_) (fun c84 => ?_)
        · have hf := if_f hf c84
          refine lv_iload hx hb dX0_turnFrom_97 (lv_at hl 6 rfl) ?_
          refine lv_iload hx hb dX0_turnFrom_99 (lv_at hl 0 rfl) ?_
          refine va_mmin hx hb (hml.trans hl.1.symm) hown (hts _ q1031) (hts _ q744) (hts _ q110) (hts _ q745) (Nat.le_of_ble_eq_true rfl) (Nat.le_of_ble_eq_true rfl) (Nat.le_of_ble_eq_true rfl) (Nat.le_of_ble_eq_true rfl) dX0_turnFrom_101 ?_
          have hf := sm_e hf
          subst hf
          exact x_retI cx hw rfl () rfl [0, 1, 2, 3, 4, 5, 6, 7, 8, 9, 10, 11, 12, 13, 14] rfl rfl (Nat.le_of_ble_eq_true rfl) (Nat.le_of_ble_eq_true rfl) dX0_turnFrom_104
        · have hf := if_t hf c84
          refine lv_iload hx hb dX0_turnFrom_87 (lv_at hl 6 rfl) ?_
          refine lv_iload hx hb dX0_turnFrom_89 (lv_at hl 0 rfl) ?_
          refine va_mmax hx hb (hml.trans hl.1.symm) hown (hts _ q977) (hts _ q708) (hts _ q110) (hts _ q709) (Nat.le_of_ble_eq_true rfl) (Nat.le_of_ble_eq_true rfl) (Nat.le_of_ble_eq_true rfl) (Nat.le_of_ble_eq_true rfl) dX0_turnFrom_91 ?_
          refine lv_goto (tgt := 104) hx hb dX0_turnFrom_94 (by decide) ?_
          have hf := sm_e hf
          subst hf
          exact x_retI cx hw rfl () rfl [0, 1, 2, 3, 4, 5, 6, 7, 8, 9, 10, 11, 12, 13, 14] rfl rfl (Nat.le_of_ble_eq_true rfl) (Nat.le_of_ble_eq_true rfl) dX0_turnFrom_104
      · have hf := if_t hf c62
        refine lv_iload hx hb dX0_turnFrom_65 (lv_at hl 5 rfl) ?_
        have hf := sm_e hf
        subst hf
        exact x_retI cx hw rfl () rfl [7, 8, 9, 10, 11, 12, 13, 14, 0, 1, 2, 3, 4, 5, 6] rfl rfl (Nat.le_of_ble_eq_true rfl) (Nat.le_of_ble_eq_true rfl) dX0_turnFrom_67
    · have hf := hjA
      refine lv_if_ne (tgt := 50) hx hb dX0_turnFrom_40 (by decide) (fun c40 => ?_) (fun c40 => ?_)
      · have hf := if_f hf c40
        refine lv_iload hx hb dX0_turnFrom_50 (lv_at hl 5 rfl) ?_
        refine lv_iconst (v := 1) hx hb dX0_turnFrom_52 (by decide) ?_
        refine lv_iadd hx hb dX0_turnFrom_53 ?_
        have hf := sm_e hf
        subst hf
        exact hKj54_j6 _ _ _ hw (lv_sub hl [1, 2, 3, 4, 0] rfl)
      · have hf := if_t hf c40
        refine lv_iload hx hb dX0_turnFrom_43 (lv_at hl 5 rfl) ?_
        refine lv_iconst (v := 1) hx hb dX0_turnFrom_45 (by decide) ?_
        refine lv_isub hx hb dX0_turnFrom_46 ?_
        refine lv_goto (tgt := 54) hx hb dX0_turnFrom_47 (by decide) ?_
        have hf := sm_e hf
        subst hf
        exact hKj54_j6 _ _ _ hw (lv_sub hl [1, 2, 3, 4, 0] rfl)
  · have hf := if_t hf c2
    refine lv_aload_n hx hb dX0_turnFrom_5 rfl (lv_at hl 0 rfl) ?_
    obtain ⟨q1, hcq1, hf⟩ := op_e hf
    refine x_VA (wr := []) (rest := []) [] hX cx hw hl.1 (mX0_tried l  D d cs wi ln lf dk dn him ha ta sa hv tv gt gf gc tra gs q1 hcq1) (lw_V q932 q934 qs24 q82 q935) hd_X0_tried ⟨(Nat.le_of_ble_eq_true rfl), (Nat.le_of_ble_eq_true rfl)⟩ (va_recv hK hw.1 (ci := 1) (q0 := 7) rfl rfl) rfl rfl (Nat.le_of_ble_eq_true rfl) dX0_turnFrom_6 [0, 1, 2, 3, 4, 5, 6, 7, 8, 9, 10, 11, 12, 13, 14] [] rfl rfl rfl rfl (by decide) ⟨(Nat.le_of_ble_eq_true rfl), (Nat.le_of_ble_eq_true rfl)⟩ (fun u H locs hp hw => ?_)
    have hw : Wd D A s [oH ha (Hfl hv) (Hro hv) (Hrp hv) (Hca hv) (Hwy hv) (Hla hv) (Hmi hv) (Htf hv) (Htk hv), aV d ha 1 (HHO hv), aV d ha 2 (HAT hv), aV d ha 3 (HTO hv), aV d ha 4 (HWE hv), aV d ha 5 (HHE hv), aV d ha 6 (HRA hv), oS sa ha ta gt gf gc tra gs, oH ta (Hfl q1) (Hro q1) (Hrp q1) (Hca q1) (Hwy q1) (Hla q1) (Hmi q1) (Htf q1) (Htk q1), aV d ta 1 (HHO q1), aV d ta 2 (HAT q1), aV d ta 3 (HTO q1), aV d ta 4 (HWE q1), aV d ta 5 (HHE q1), aV d ta 6 (HRA q1)] H locs := hw
    refine lv_iload hx hb dX0_turnFrom_9 (lv_at hl 4 rfl) ?_
    refine va_put (ci := 2) (v := .int p4) (ty := .int) (C := RX1) (T := TX1) (N := 15) hx hb hts in_X1 tyX1 tyX1_ok nmX1 hown hK hw.1 hw.2.1 hw.2.2 8 rfl rfl 3 (by decide) (hts _ q169) (fun _ h9 => h9) rfl (by decide +kernel) rfl rfl (Nat.le_of_ble_eq_true rfl) dX0_turnFrom_11 (fun H locs hP hD hS => ?_)
    have hw : Wd D A s [oH ha (Hfl hv) (Hro hv) (Hrp hv) (Hca hv) (Hwy hv) (Hla hv) (Hmi hv) (Htf hv) (Htk hv), aV d ha 1 (HHO hv), aV d ha 2 (HAT hv), aV d ha 3 (HTO hv), aV d ha 4 (HWE hv), aV d ha 5 (HHE hv), aV d ha 6 (HRA hv), oS sa ha ta gt gf gc tra gs, oH ta (Hfl q1) (Hro q1) (Hrp q1) p4 (Hwy q1) (Hla q1) (Hmi q1) (Htf q1) (Htk q1), aV d ta 1 (HHO q1), aV d ta 2 (HAT q1), aV d ta 3 (HTO q1), aV d ta 4 (HWE q1), aV d ta 5 (HHE q1), aV d ta 6 (HRA q1)] H locs := ⟨hP, hD, hS⟩
    obtain ⟨b2, hb0, hf⟩ := op_e hf
    obtain ⟨e0, e1, e2, e3, e4, e5, e6, e7, e8, e9, e10, e11, e12, e13, e14⟩ := acca (sm_e hb0)
    have hw : Wd D A s [oH ha (Hfl hv) (Hro hv) (Hrp hv) (Hca hv) (Hwy hv) (Hla hv) (Hmi hv) (Htf hv) (Htk hv), aV d ha 1 (HHO hv), aV d ha 2 (HAT hv), aV d ha 3 (HTO hv), aV d ha 4 (HWE hv), aV d ha 5 (HHE hv), aV d ha 6 (HRA hv), oS sa ha ta gt gf gc tra gs, oH ta (Hfl b2) (Hro b2) (Hrp b2) (Hca b2) (Hwy b2) (Hla b2) (Hmi b2) (Htf b2) (Htk b2), aV d ta 1 (HHO b2), aV d ta 2 (HAT b2), aV d ta 3 (HTO b2), aV d ta 4 (HWE b2), aV d ta 5 (HHE b2), aV d ta 6 (HRA b2)] H locs := by rw [e0, e1, e2, e3, e4, e5, e6, e7, e8, e9, e10, e11, e12, e13, e14]; exact hw
    refine lv_aload_n hx hb dX0_turnFrom_14 rfl (lv_at hl 0 rfl) ?_
    refine lv_iload_n hx hb dX0_turnFrom_15 rfl (lv_at hl 3 rfl) ?_
    obtain ⟨q3, hcq3, hf⟩ := op_e hf
    refine x_VA (wr := [oH ha (Hfl hv) (Hro hv) (Hrp hv) (Hca hv) (Hwy hv) (Hla hv) (Hmi hv) (Htf hv) (Htk hv), aV d ha 1 (HHO hv), aV d ha 2 (HAT hv), aV d ha 3 (HTO hv), aV d ha 4 (HWE hv), aV d ha 5 (HHE hv), aV d ha 6 (HRA hv)]) (rest := []) [.int p3] hX cx hw hl.1 (mX0_goOn l  D d cs wi ln lf dk dn him ta sa ha b2 gt gf gc tra gs p3 q3 hcq3) (lw_V q936 q938 qs25 q82 q939) hd_X0_goOn ⟨(Nat.le_of_ble_eq_true rfl), (Nat.le_of_ble_eq_true rfl)⟩ (va_recv hK hw.1 (ci := 1) (q0 := 7) rfl rfl) rfl rfl (Nat.le_of_ble_eq_true rfl) dX0_turnFrom_16 [7, 8, 9, 10, 11, 12, 13, 14] [0, 1, 2, 3, 4, 5, 6] rfl rfl rfl rfl (by decide) ⟨(Nat.le_of_ble_eq_true rfl), (Nat.le_of_ble_eq_true rfl)⟩ (fun u H locs hp hw => ?_)
    have hw : Wd D A s [oH ha (Hfl hv) (Hro hv) (Hrp hv) (Hca hv) (Hwy hv) (Hla hv) (Hmi hv) (Htf hv) (Htk hv), aV d ha 1 (HHO hv), aV d ha 2 (HAT hv), aV d ha 3 (HTO hv), aV d ha 4 (HWE hv), aV d ha 5 (HHE hv), aV d ha 6 (HRA hv), oS sa ha ta gt gf gc tra gs, oH ta (Hfl q3) (Hro q3) (Hrp q3) (Hca q3) (Hwy q3) (Hla q3) (Hmi q3) (Htf q3) (Htk q3), aV d ta 1 (HHO q3), aV d ta 2 (HAT q3), aV d ta 3 (HTO q3), aV d ta 4 (HWE q3), aV d ta 5 (HHE q3), aV d ta 6 (HRA q3)] H locs := hw
    refine lv_iconst (v := 1) hx hb dX0_turnFrom_19 (by decide) ?_
    obtain ⟨q4, hcq4, hf⟩ := op_e hf
    refine x_VI (wr := [oH ha (Hfl hv) (Hro hv) (Hrp hv) (Hca hv) (Hwy hv) (Hla hv) (Hmi hv) (Htf hv) (Htk hv), aV d ha 1 (HHO hv), aV d ha 2 (HAT hv), aV d ha 3 (HTO hv), aV d ha 4 (HWE hv), aV d ha 5 (HHE hv), aV d ha 6 (HRA hv), oS sa ha ta gt gf gc tra gs]) (rest := []) [.int 1] hX cx hw hl.1 (vX1_heats l  D d cs wi ln lf dk dn him ta q3 1 q4 hcq4) (lw_V q1027 q1028 q1029 q83 q1030) hd_X1_heats ⟨(Nat.le_of_ble_eq_true rfl), (Nat.le_of_ble_eq_true rfl)⟩ (va_recv hK hw.1 (ci := 2) (q0 := 8) rfl rfl) rfl rfl (Nat.le_of_ble_eq_true rfl) dX0_turnFrom_20 [8, 9, 10, 11, 12, 13, 14] [0, 1, 2, 3, 4, 5, 6, 7] rfl rfl rfl rfl (by decide) ⟨(Nat.le_of_ble_eq_true rfl), (Nat.le_of_ble_eq_true rfl)⟩ (fun r u H locs hp hw => ?_)
    have hw : Wd D A s [oH ha (Hfl hv) (Hro hv) (Hrp hv) (Hca hv) (Hwy hv) (Hla hv) (Hmi hv) (Htf hv) (Htk hv), aV d ha 1 (HHO hv), aV d ha 2 (HAT hv), aV d ha 3 (HTO hv), aV d ha 4 (HWE hv), aV d ha 5 (HHE hv), aV d ha 6 (HRA hv), oS sa ha ta gt gf gc tra gs, oH ta (Hfl q3) (Hro q3) (Hrp q3) (Hca q3) (Hwy q3) (Hla q3) (Hmi q3) (Htf q3) (Htk q3), aV d ta 1 (HHO q3), aV d ta 2 (HAT q3), aV d ta 3 (HTO q3), aV d ta 4 (HWE q3), aV d ta 5 (HHE q3), aV d ta 6 (HRA q3)] H locs := hw
    subst r
    have hf := sm_e hf
    subst hf
    exact x_retI cx hw rfl () rfl [0, 1, 2, 3, 4, 5, 6, 7, 8, 9, 10, 11, 12, 13, 14] rfl rfl (Nat.le_of_ble_eq_true rfl) (Nat.le_of_ble_eq_true rfl) dX0_turnFrom_23
set_option maxHeartbeats 4000000 in
theorem mX0_turnFrom_3 (l : Launch)  (D : va_G) (d : Nat → ClassId) (cs : Nat → Nat) (wi : va_W) (ln : Nat → Option Int32) (lf : Nat → Nat → Option Nat) (dk : Nat → Option Nat) (dn : Nat → Int32) (him : ImF d wi ln lf dk dn) (ha : Nat → Nat) (ta : Nat → Nat) (sa : Nat → Nat) (hv : HV) (tv : HV) (gt : Int32) (gf : Int32) (gc : Int32) (tra : Nat) (gs : Int32) (p1 : Int32) (p2 : Int32) (p3 : Int32) (p4 : Int32)  (res : Int32 × HV) (hf : fX0_turnFrom_3 ln lf dk hv tv p1 p2 p3 p4 = some res) : MetI l yX0_turnFrom (ws_ yX0_turnFrom cX0_turnFrom 8 (some .int)) { frames := 10, cells := 0, slots := 0, locals := 286 } [.ref (sa 0), .int p1, .int p2, .int p3, .int p4] (XI D cs wi) D d [oH ha (Hfl hv) (Hro hv) (Hrp hv) (Hca hv) (Hwy hv) (Hla hv) (Hmi hv) (Htf hv) (Htk hv), aV d ha 1 (HHO hv), aV d ha 2 (HAT hv), aV d ha 3 (HTO hv), aV d ha 4 (HWE hv), aV d ha 5 (HHE hv), aV d ha 6 (HRA hv), oS sa ha ta gt gf gc tra gs, oH ta (Hfl tv) (Hro tv) (Hrp tv) (Hca tv) (Hwy tv) (Hla tv) (Hmi tv) (Htf tv) (Htk tv), aV d ta 1 (HHO tv), aV d ta 2 (HAT tv), aV d ta 3 (HTO tv), aV d ta 4 (HWE tv), aV d ta 5 (HHE tv), aV d ta 6 (HRA tv)] (fun r (_ : Unit) => r = res.1) (fun _ => [oH ha (Hfl hv) (Hro hv) (Hrp hv) (Hca hv) (Hwy hv) (Hla hv) (Hmi hv) (Htf hv) (Htk hv), aV d ha 1 (HHO hv), aV d ha 2 (HAT hv), aV d ha 3 (HTO hv), aV d ha 4 (HWE hv), aV d ha 5 (HHE hv), aV d ha 6 (HRA hv), oS sa ha ta gt gf gc tra gs, oH ta (Hfl res.2) (Hro res.2) (Hrp res.2) (Hca res.2) (Hwy res.2) (Hla res.2) (Hmi res.2) (Htf res.2) (Htk res.2), aV d ta 1 (HHO res.2), aV d ta 2 (HAT res.2), aV d ta 3 (HTO res.2), aV d ta 4 (HWE res.2), aV d ta 5 (HHE res.2), aV d ta 6 (HRA res.2)]) := by
  have hX := XI.ok (D := D) (cs := cs) (wi := wi)
  refine MetI.of (by decide +kernel) (Nat.le_of_ble_eq_true rfl) ?_
  intro p e s m below meth c A cx hw ls hl
  have cx : Cx p s m _ meth c (XI D cs wi) D d A "DishLift" cX0_turnFrom 8 (some .int) "turnFrom" := cx
  have cx' := cx
  obtain ⟨hx, hb, hr, hlk, hml, hown, hts, hK, hA, hXs, hnm⟩ := cx'
  have hl : lv_has ls 8 [(0, .ref (sa 0)), (1, .int p1), (2, .int p2), (3, .int p3), (4, .int p4)] := hl
  unfold fX0_turnFrom_3 at hf
  refine lv_iload_n hx hb dX0_turnFrom_0 rfl (lv_at hl 1 rfl) ?_
  refine lv_iload_n hx hb dX0_turnFrom_1 rfl (lv_at hl 2 rfl) ?_
  refine lv_icmp_ne (tgt := 24) hx hb dX0_turnFrom_2 (by decide) (fun c2 => ?_) (fun c2 => ?_)
  · have hf := if_f hf c2
    refine lv_aload_n hx hb dX0_turnFrom_24 rfl (lv_at hl 0 rfl) ?_
    refine lv_iload_n hx hb dX0_turnFrom_25 rfl (lv_at hl 1 rfl) ?_
    refine lv_iconst (v := 1) hx hb dX0_turnFrom_26 (by decide) ?_
    refine lv_iadd hx hb dX0_turnFrom_27 ?_
    refine lv_iload_n hx hb dX0_turnFrom_28 rfl (lv_at hl 2 rfl) ?_
    refine lv_iload_n hx hb dX0_turnFrom_29 rfl (lv_at hl 3 rfl) ?_
    refine lv_iload hx hb dX0_turnFrom_30 (lv_at hl 4 rfl) ?_
    obtain ⟨q5, hcq5, hf⟩ := op_e hf
    refine x_VI (wr := []) (rest := []) [.int (p1 + 1), .int p2, .int p3, .int p4] hX cx hw hl.1 (mX0_turnFrom_2 l  D d cs wi ln lf dk dn him ha ta sa hv tv gt gf gc tra gs (p1 + 1) p2 p3 p4 q5 hcq5) (lw_V q1023 q1025 qs31 q82 q1026) hd_X0_turnFrom ⟨(Nat.le_of_ble_eq_true rfl), (Nat.le_of_ble_eq_true rfl)⟩ (va_recv hK hw.1 (ci := 1) (q0 := 7) rfl rfl) rfl rfl (Nat.le_of_ble_eq_true rfl) dX0_turnFrom_32 [0, 1, 2, 3, 4, 5, 6, 7, 8, 9, 10, 11, 12, 13, 14] [] rfl rfl rfl rfl (by decide) ⟨(Nat.le_of_ble_eq_true rfl), (Nat.le_of_ble_eq_true rfl)⟩ (fun r u H locs hp hw => ?_)
    have hw : Wd D A s [oH ha (Hfl hv) (Hro hv) (Hrp hv) (Hca hv) (Hwy hv) (Hla hv) (Hmi hv) (Htf hv) (Htk hv), aV d ha 1 (HHO hv), aV d ha 2 (HAT hv), aV d ha 3 (HTO hv), aV d ha 4 (HWE hv), aV d ha 5 (HHE hv), aV d ha 6 (HRA hv), oS sa ha ta gt gf gc tra gs, oH ta (Hfl q5.2) (Hro q5.2) (Hrp q5.2) (Hca q5.2) (Hwy q5.2) (Hla q5.2) (Hmi q5.2) (Htf q5.2) (Htk q5.2), aV d ta 1 (HHO q5.2), aV d ta 2 (HAT q5.2), aV d ta 3 (HTO q5.2), aV d ta 4 (HWE q5.2), aV d ta 5 (HHE q5.2), aV d ta 6 (HRA q5.2)] H locs := hw
    subst r
    refine lv_istore (lv' := [(5, .int q5.1), (0, .ref (sa 0)), (1, .int p1), (2, .int p2), (3, .int p3), (4, .int p4)]) hx hb dX0_turnFrom_35 hl (by decide) rfl (fun ls hl => ?_)
    refine lv_iload_n hx hb dX0_turnFrom_37 rfl (lv_at hl 2 rfl) ?_
    refine lv_iconst (v := 2) hx hb dX0_turnFrom_38 (by decide) ?_
    refine lv_irem hx hb dX0_turnFrom_39 (by decide) ?_
    obtain ⟨j6, hjA, hjR⟩ := op_e hf
    refine x_join (A := A) (D := D) (J := 54) (nL := 8) (cells' := 0) (slots' := 0) (st := [.int j6]) [oH ha (Hfl hv) (Hro hv) (Hrp hv) (Hca hv) (Hwy hv) (Hla hv) (Hmi hv) (Htf hv) (Htk hv), aV d ha 1 (HHO hv), aV d ha 2 (HAT hv), aV d ha 3 (HTO hv), aV d ha 4 (HWE hv), aV d ha 5 (HHE hv), aV d ha 6 (HRA hv), oS sa ha ta gt gf gc tra gs, oH ta (Hfl q5.2) (Hro q5.2) (Hrp q5.2) (Hca q5.2) (Hwy q5.2) (Hla q5.2) (Hmi q5.2) (Htf q5.2) (Htk q5.2), aV d ta 1 (HHO q5.2), aV d ta 2 (HAT q5.2), aV d ta 3 (HTO q5.2), aV d ta 4 (HWE q5.2), aV d ta 5 (HHE q5.2), aV d ta 6 (HRA q5.2)] [(0, .ref (sa 0)), (1, .int p1), (2, .int p2), (3, .int p3), (5, .int q5.1)] (fun H locs ls hw hl => ?_) (fun hKj54_j6 => ?_)
    · have hf := hjR
      refine lv_istore (lv' := [(6, .int j6), (0, .ref (sa 0)), (1, .int p1), (2, .int p2), (3, .int p3), (5, .int q5.1)]) hx hb dX0_turnFrom_54 hl (by decide) rfl (fun ls hl => ?_)
      refine lv_aload_n hx hb dX0_turnFrom_56 rfl (lv_at hl 1 rfl) ?_
      refine lv_iload hx hb dX0_turnFrom_57 (lv_at hl 0 rfl) ?_
      obtain ⟨q7, hcq7, hf⟩ := op_e hf
      refine x_VI (wr := [oH ta (Hfl q5.2) (Hro q5.2) (Hrp q5.2) (Hca q5.2) (Hwy q5.2) (Hla q5.2) (Hmi q5.2) (Htf q5.2) (Htk q5.2), aV d ta 1 (HHO q5.2), aV d ta 2 (HAT q5.2), aV d ta 3 (HTO q5.2), aV d ta 4 (HWE q5.2), aV d ta 5 (HHE q5.2), aV d ta 6 (HRA q5.2)]) (rest := []) [.int j6] hX cx hw hl.1 (mX0_isFloor l  D d cs wi ln lf dk dn him ha sa ta hv gt gf gc tra gs j6 q7 hcq7) (lw_V q872 q874 qs22 q82 q875) hd_X0_isFloor ⟨(Nat.le_of_ble_eq_true rfl), (Nat.le_of_ble_eq_true rfl)⟩ (va_recv hK hw.1 (ci := 1) (q0 := 7) rfl rfl) rfl rfl (Nat.le_of_ble_eq_true rfl) dX0_turnFrom_59 [0, 1, 2, 3, 4, 5, 6, 7] [8, 9, 10, 11, 12, 13, 14] rfl rfl rfl rfl (by decide) ⟨(Nat.le_of_ble_eq_true rfl), (Nat.le_of_ble_eq_true rfl)⟩ (fun r u H locs hp hw => ?_)
      have hw : Wd D A s [oH ta (Hfl q5.2) (Hro q5.2) (Hrp q5.2) (Hca q5.2) (Hwy q5.2) (Hla q5.2) (Hmi q5.2) (Htf q5.2) (Htk q5.2), aV d ta 1 (HHO q5.2), aV d ta 2 (HAT q5.2), aV d ta 3 (HTO q5.2), aV d ta 4 (HWE q5.2), aV d ta 5 (HHE q5.2), aV d ta 6 (HRA q5.2), oH ha (Hfl hv) (Hro hv) (Hrp hv) (Hca hv) (Hwy hv) (Hla hv) (Hmi hv) (Htf hv) (Htk hv), aV d ha 1 (HHO hv), aV d ha 2 (HAT hv), aV d ha 3 (HTO hv), aV d ha 4 (HWE hv), aV d ha 5 (HHE hv), aV d ha 6 (HRA hv), oS sa ha ta gt gf gc tra gs] H locs := hw
      subst r
      refine lv_if_ne (tgt := 68) hx hb dX0_turnFrom_62 (by decide) (fun c62 => ?_) (fun c62 => ?_)
      · have hf := if_f hf c62
        refine lv_aload_n hx hb dX0_turnFrom_68 rfl (lv_at hl 1 rfl) ?_
        refine lv_iload_n hx hb dX0_turnFrom_69 rfl (lv_at hl 2 rfl) ?_
        refine lv_iconst (v := 1) hx hb dX0_turnFrom_70 (by decide) ?_
        refine lv_iadd hx hb dX0_turnFrom_71 ?_
        refine lv_iload_n hx hb dX0_turnFrom_72 rfl (lv_at hl 3 rfl) ?_
        refine lv_iload_n hx hb dX0_turnFrom_73 rfl (lv_at hl 4 rfl) ?_
        refine lv_iload hx hb dX0_turnFrom_74 (lv_at hl 0 rfl) ?_
        obtain ⟨q8, hcq8, hf⟩ := op_e hf
        refine x_VI (wr := []) (rest := []) [.int (p1 + 1), .int p2, .int p3, .int j6] hX cx hw hl.1 (mX0_turnFrom_2 l  D d cs wi ln lf dk dn him ha ta sa hv q5.2 gt gf gc tra gs (p1 + 1) p2 p3 j6 q8 hcq8) (lw_V q1023 q1025 qs31 q82 q1026) hd_X0_turnFrom ⟨(Nat.le_of_ble_eq_true rfl), (Nat.le_of_ble_eq_true rfl)⟩ (va_recv hK hw.1 (ci := 1) (q0 := 14) rfl rfl) rfl rfl (Nat.le_of_ble_eq_true rfl) dX0_turnFrom_76 [7, 8, 9, 10, 11, 12, 13, 14, 0, 1, 2, 3, 4, 5, 6] [] rfl rfl rfl rfl (by decide) ⟨(Nat.le_of_ble_eq_true rfl), (Nat.le_of_ble_eq_true rfl)⟩ (fun r u H locs hp hw => ?_)
        have hw : Wd D A s [oH ha (Hfl hv) (Hro hv) (Hrp hv) (Hca hv) (Hwy hv) (Hla hv) (Hmi hv) (Htf hv) (Htk hv), aV d ha 1 (HHO hv), aV d ha 2 (HAT hv), aV d ha 3 (HTO hv), aV d ha 4 (HWE hv), aV d ha 5 (HHE hv), aV d ha 6 (HRA hv), oS sa ha ta gt gf gc tra gs, oH ta (Hfl q8.2) (Hro q8.2) (Hrp q8.2) (Hca q8.2) (Hwy q8.2) (Hla q8.2) (Hmi q8.2) (Htf q8.2) (Htk q8.2), aV d ta 1 (HHO q8.2), aV d ta 2 (HAT q8.2), aV d ta 3 (HTO q8.2), aV d ta 4 (HWE q8.2), aV d ta 5 (HHE q8.2), aV d ta 6 (HRA q8.2)] H locs := hw
        subst r
        refine lv_istore (lv' := [(7, .int q8.1), (6, .int j6), (0, .ref (sa 0)), (1, .int p1), (2, .int p2), (3, .int p3), (5, .int q5.1)]) hx hb dX0_turnFrom_79 hl (by decide) rfl (fun ls hl => ?_)
        refine lv_iload_n hx hb dX0_turnFrom_81 rfl (lv_at hl 3 rfl) ?_
        refine lv_iconst (v := 2) hx hb dX0_turnFrom_82 (by decide) ?_
        refine lv_irem hx hb dX0_turnFrom_83 (by decide) ?_
        refine lv_if_ne (tgt := 97) hx hb dX0_turnFrom_84 (by decide) (fun c84 => ?_) (fun c84 => ?_)
        · have hf := if_f hf c84
          refine lv_iload hx hb dX0_turnFrom_97 (lv_at hl 6 rfl) ?_
          refine lv_iload hx hb dX0_turnFrom_99 (lv_at hl 0 rfl) ?_
          refine va_mmin hx hb (hml.trans hl.1.symm) hown (hts _ q1031) (hts _ q744) (hts _ q110) (hts _ q745) (Nat.le_of_ble_eq_true rfl) (Nat.le_of_ble_eq_true rfl) (Nat.le_of_ble_eq_true rfl) (Nat.le_of_ble_eq_true rfl) dX0_turnFrom_101 ?_
          have hf := sm_e hf
          subst hf
          exact x_retI cx hw rfl () rfl [0, 1, 2, 3, 4, 5, 6, 7, 8, 9, 10, 11, 12, 13, 14] rfl rfl (Nat.le_of_ble_eq_true rfl) (Nat.le_of_ble_eq_true rfl) dX0_turnFrom_104
        · have hf := if_t hf c84
          refine lv_iload hx hb dX0_turnFrom_87 (lv_at hl 6 rfl) ?_
          refine lv_iload hx hb dX0_turnFrom_89 (lv_at hl 0 rfl) ?_
          refine va_mmax hx hb (hml.trans hl.1.symm) hown (hts _ q977) (hts _ q708) (hts _ q110) (hts _ q709) (Nat.le_of_ble_eq_true rfl) (Nat.le_of_ble_eq_true rfl) (Nat.le_of_ble_eq_true rfl) (Nat.le_of_ble_eq_true rfl) dX0_turnFrom_91 ?_
          refine lv_goto (tgt := 104) hx hb dX0_turnFrom_94 (by decide) ?_
          have hf := sm_e hf
          subst hf
          exact x_retI cx hw rfl () rfl [0, 1, 2, 3, 4, 5, 6, 7, 8, 9, 10, 11, 12, 13, 14] rfl rfl (Nat.le_of_ble_eq_true rfl) (Nat.le_of_ble_eq_true rfl) dX0_turnFrom_104
      · have hf := if_t hf c62
        refine lv_iload hx hb dX0_turnFrom_65 (lv_at hl 5 rfl) ?_
        have hf := sm_e hf
        subst hf
        exact x_retI cx hw rfl () rfl [7, 8, 9, 10, 11, 12, 13, 14, 0, 1, 2, 3, 4, 5, 6] rfl rfl (Nat.le_of_ble_eq_true rfl) (Nat.le_of_ble_eq_true rfl) dX0_turnFrom_67
    · have hf := hjA
      refine lv_if_ne (tgt := 50) hx hb dX0_turnFrom_40 (by decide) (fun c40 => ?_) (fun c40 => ?_)
      · have hf := if_f hf c40
        refine lv_iload hx hb dX0_turnFrom_50 (lv_at hl 5 rfl) ?_
        refine lv_iconst (v := 1) hx hb dX0_turnFrom_52 (by decide) ?_
        refine lv_iadd hx hb dX0_turnFrom_53 ?_
        have hf := sm_e hf
        subst hf
        exact hKj54_j6 _ _ _ hw (lv_sub hl [1, 2, 3, 4, 0] rfl)
      · have hf := if_t hf c40
        refine lv_iload hx hb dX0_turnFrom_43 (lv_at hl 5 rfl) ?_
        refine lv_iconst (v := 1) hx hb dX0_turnFrom_45 (by decide) ?_
        refine lv_isub hx hb dX0_turnFrom_46 ?_
        refine lv_goto (tgt := 54) hx hb dX0_turnFrom_47 (by decide) ?_
        have hf := sm_e hf
        subst hf
        exact hKj54_j6 _ _ _ hw (lv_sub hl [1, 2, 3, 4, 0] rfl)
  · have hf := if_t hf c2
    refine lv_aload_n hx hb dX0_turnFrom_5 rfl (lv_at hl 0 rfl) ?_
    obtain ⟨q1, hcq1, hf⟩ := op_e hf
    refine x_VA (wr := []) (rest := []) [] hX cx hw hl.1 (mX0_tried l  D d cs wi ln lf dk dn him ha ta sa hv tv gt gf gc tra gs q1 hcq1) (lw_V q932 q934 qs24 q82 q935) hd_X0_tried ⟨(Nat.le_of_ble_eq_true rfl), (Nat.le_of_ble_eq_true rfl)⟩ (va_recv hK hw.1 (ci := 1) (q0 := 7) rfl rfl) rfl rfl (Nat.le_of_ble_eq_true rfl) dX0_turnFrom_6 [0, 1, 2, 3, 4, 5, 6, 7, 8, 9, 10, 11, 12, 13, 14] [] rfl rfl rfl rfl (by decide) ⟨(Nat.le_of_ble_eq_true rfl), (Nat.le_of_ble_eq_true rfl)⟩ (fun u H locs hp hw => ?_)
    have hw : Wd D A s [oH ha (Hfl hv) (Hro hv) (Hrp hv) (Hca hv) (Hwy hv) (Hla hv) (Hmi hv) (Htf hv) (Htk hv), aV d ha 1 (HHO hv), aV d ha 2 (HAT hv), aV d ha 3 (HTO hv), aV d ha 4 (HWE hv), aV d ha 5 (HHE hv), aV d ha 6 (HRA hv), oS sa ha ta gt gf gc tra gs, oH ta (Hfl q1) (Hro q1) (Hrp q1) (Hca q1) (Hwy q1) (Hla q1) (Hmi q1) (Htf q1) (Htk q1), aV d ta 1 (HHO q1), aV d ta 2 (HAT q1), aV d ta 3 (HTO q1), aV d ta 4 (HWE q1), aV d ta 5 (HHE q1), aV d ta 6 (HRA q1)] H locs := hw
    refine lv_iload hx hb dX0_turnFrom_9 (lv_at hl 4 rfl) ?_
    refine va_put (ci := 2) (v := .int p4) (ty := .int) (C := RX1) (T := TX1) (N := 15) hx hb hts in_X1 tyX1 tyX1_ok nmX1 hown hK hw.1 hw.2.1 hw.2.2 8 rfl rfl 3 (by decide) (hts _ q169) (fun _ h9 => h9) rfl (by decide +kernel) rfl rfl (Nat.le_of_ble_eq_true rfl) dX0_turnFrom_11 (fun H locs hP hD hS => ?_)
    have hw : Wd D A s [oH ha (Hfl hv) (Hro hv) (Hrp hv) (Hca hv) (Hwy hv) (Hla hv) (Hmi hv) (Htf hv) (Htk hv), aV d ha 1 (HHO hv), aV d ha 2 (HAT hv), aV d ha 3 (HTO hv), aV d ha 4 (HWE hv), aV d ha 5 (HHE hv), aV d ha 6 (HRA hv), oS sa ha ta gt gf gc tra gs, oH ta (Hfl q1) (Hro q1) (Hrp q1) p4 (Hwy q1) (Hla q1) (Hmi q1) (Htf q1) (Htk q1), aV d ta 1 (HHO q1), aV d ta 2 (HAT q1), aV d ta 3 (HTO q1), aV d ta 4 (HWE q1), aV d ta 5 (HHE q1), aV d ta 6 (HRA q1)] H locs := ⟨hP, hD, hS⟩
    obtain ⟨b2, hb0, hf⟩ := op_e hf
    obtain ⟨e0, e1, e2, e3, e4, e5, e6, e7, e8, e9, e10, e11, e12, e13, e14⟩ := acca (sm_e hb0)
    have hw : Wd D A s [oH ha (Hfl hv) (Hro hv) (Hrp hv) (Hca hv) (Hwy hv) (Hla hv) (Hmi hv) (Htf hv) (Htk hv), aV d ha 1 (HHO hv), aV d ha 2 (HAT hv), aV d ha 3 (HTO hv), aV d ha 4 (HWE hv), aV d ha 5 (HHE hv), aV d ha 6 (HRA hv), oS sa ha ta gt gf gc tra gs, oH ta (Hfl b2) (Hro b2) (Hrp b2) (Hca b2) (Hwy b2) (Hla b2) (Hmi b2) (Htf b2) (Htk b2), aV d ta 1 (HHO b2), aV d ta 2 (HAT b2), aV d ta 3 (HTO b2), aV d ta 4 (HWE b2), aV d ta 5 (HHE b2), aV d ta 6 (HRA b2)] H locs := by rw [e0, e1, e2, e3, e4, e5, e6, e7, e8, e9, e10, e11, e12, e13, e14]; exact hw
    refine lv_aload_n hx hb dX0_turnFrom_14 rfl (lv_at hl 0 rfl) ?_
    refine lv_iload_n hx hb dX0_turnFrom_15 rfl (lv_at hl 3 rfl) ?_
    obtain ⟨q3, hcq3, hf⟩ := op_e hf
    refine x_VA (wr := [oH ha (Hfl hv) (Hro hv) (Hrp hv) (Hca hv) (Hwy hv) (Hla hv) (Hmi hv) (Htf hv) (Htk hv), aV d ha 1 (HHO hv), aV d ha 2 (HAT hv), aV d ha 3 (HTO hv), aV d ha 4 (HWE hv), aV d ha 5 (HHE hv), aV d ha 6 (HRA hv)]) (rest := []) [.int p3] hX cx hw hl.1 (mX0_goOn l  D d cs wi ln lf dk dn him ta sa ha b2 gt gf gc tra gs p3 q3 hcq3) (lw_V q936 q938 qs25 q82 q939) hd_X0_goOn ⟨(Nat.le_of_ble_eq_true rfl), (Nat.le_of_ble_eq_true rfl)⟩ (va_recv hK hw.1 (ci := 1) (q0 := 7) rfl rfl) rfl rfl (Nat.le_of_ble_eq_true rfl) dX0_turnFrom_16 [7, 8, 9, 10, 11, 12, 13, 14] [0, 1, 2, 3, 4, 5, 6] rfl rfl rfl rfl (by decide) ⟨(Nat.le_of_ble_eq_true rfl), (Nat.le_of_ble_eq_true rfl)⟩ (fun u H locs hp hw => ?_)
    have hw : Wd D A s [oH ha (Hfl hv) (Hro hv) (Hrp hv) (Hca hv) (Hwy hv) (Hla hv) (Hmi hv) (Htf hv) (Htk hv), aV d ha 1 (HHO hv), aV d ha 2 (HAT hv), aV d ha 3 (HTO hv), aV d ha 4 (HWE hv), aV d ha 5 (HHE hv), aV d ha 6 (HRA hv), oS sa ha ta gt gf gc tra gs, oH ta (Hfl q3) (Hro q3) (Hrp q3) (Hca q3) (Hwy q3) (Hla q3) (Hmi q3) (Htf q3) (Htk q3), aV d ta 1 (HHO q3), aV d ta 2 (HAT q3), aV d ta 3 (HTO q3), aV d ta 4 (HWE q3), aV d ta 5 (HHE q3), aV d ta 6 (HRA q3)] H locs := hw
    refine lv_iconst (v := 1) hx hb dX0_turnFrom_19 (by decide) ?_
    obtain ⟨q4, hcq4, hf⟩ := op_e hf
    refine x_VI (wr := [oH ha (Hfl hv) (Hro hv) (Hrp hv) (Hca hv) (Hwy hv) (Hla hv) (Hmi hv) (Htf hv) (Htk hv), aV d ha 1 (HHO hv), aV d ha 2 (HAT hv), aV d ha 3 (HTO hv), aV d ha 4 (HWE hv), aV d ha 5 (HHE hv), aV d ha 6 (HRA hv), oS sa ha ta gt gf gc tra gs]) (rest := []) [.int 1] hX cx hw hl.1 (vX1_heats l  D d cs wi ln lf dk dn him ta q3 1 q4 hcq4) (lw_V q1027 q1028 q1029 q83 q1030) hd_X1_heats ⟨(Nat.le_of_ble_eq_true rfl), (Nat.le_of_ble_eq_true rfl)⟩ (va_recv hK hw.1 (ci := 2) (q0 := 8) rfl rfl) rfl rfl (Nat.le_of_ble_eq_true rfl) dX0_turnFrom_20 [8, 9, 10, 11, 12, 13, 14] [0, 1, 2, 3, 4, 5, 6, 7] rfl rfl rfl rfl (by decide) ⟨(Nat.le_of_ble_eq_true rfl), (Nat.le_of_ble_eq_true rfl)⟩ (fun r u H locs hp hw => ?_)
    have hw : Wd D A s [oH ha (Hfl hv) (Hro hv) (Hrp hv) (Hca hv) (Hwy hv) (Hla hv) (Hmi hv) (Htf hv) (Htk hv), aV d ha 1 (HHO hv), aV d ha 2 (HAT hv), aV d ha 3 (HTO hv), aV d ha 4 (HWE hv), aV d ha 5 (HHE hv), aV d ha 6 (HRA hv), oS sa ha ta gt gf gc tra gs, oH ta (Hfl q3) (Hro q3) (Hrp q3) (Hca q3) (Hwy q3) (Hla q3) (Hmi q3) (Htf q3) (Htk q3), aV d ta 1 (HHO q3), aV d ta 2 (HAT q3), aV d ta 3 (HTO q3), aV d ta 4 (HWE q3), aV d ta 5 (HHE q3), aV d ta 6 (HRA q3)] H locs := hw
    subst r
    have hf := sm_e hf
    subst hf
    exact x_retI cx hw rfl () rfl [0, 1, 2, 3, 4, 5, 6, 7, 8, 9, 10, 11, 12, 13, 14] rfl rfl (Nat.le_of_ble_eq_true rfl) (Nat.le_of_ble_eq_true rfl) dX0_turnFrom_23
set_option maxHeartbeats 4000000 in
theorem mX0_turnFrom_4 (l : Launch)  (D : va_G) (d : Nat → ClassId) (cs : Nat → Nat) (wi : va_W) (ln : Nat → Option Int32) (lf : Nat → Nat → Option Nat) (dk : Nat → Option Nat) (dn : Nat → Int32) (him : ImF d wi ln lf dk dn) (ha : Nat → Nat) (ta : Nat → Nat) (sa : Nat → Nat) (hv : HV) (tv : HV) (gt : Int32) (gf : Int32) (gc : Int32) (tra : Nat) (gs : Int32) (p1 : Int32) (p2 : Int32) (p3 : Int32) (p4 : Int32)  (res : Int32 × HV) (hf : fX0_turnFrom_4 ln lf dk hv tv p1 p2 p3 p4 = some res) : MetI l yX0_turnFrom (ws_ yX0_turnFrom cX0_turnFrom 8 (some .int)) { frames := 11, cells := 0, slots := 0, locals := 313 } [.ref (sa 0), .int p1, .int p2, .int p3, .int p4] (XI D cs wi) D d [oH ha (Hfl hv) (Hro hv) (Hrp hv) (Hca hv) (Hwy hv) (Hla hv) (Hmi hv) (Htf hv) (Htk hv), aV d ha 1 (HHO hv), aV d ha 2 (HAT hv), aV d ha 3 (HTO hv), aV d ha 4 (HWE hv), aV d ha 5 (HHE hv), aV d ha 6 (HRA hv), oS sa ha ta gt gf gc tra gs, oH ta (Hfl tv) (Hro tv) (Hrp tv) (Hca tv) (Hwy tv) (Hla tv) (Hmi tv) (Htf tv) (Htk tv), aV d ta 1 (HHO tv), aV d ta 2 (HAT tv), aV d ta 3 (HTO tv), aV d ta 4 (HWE tv), aV d ta 5 (HHE tv), aV d ta 6 (HRA tv)] (fun r (_ : Unit) => r = res.1) (fun _ => [oH ha (Hfl hv) (Hro hv) (Hrp hv) (Hca hv) (Hwy hv) (Hla hv) (Hmi hv) (Htf hv) (Htk hv), aV d ha 1 (HHO hv), aV d ha 2 (HAT hv), aV d ha 3 (HTO hv), aV d ha 4 (HWE hv), aV d ha 5 (HHE hv), aV d ha 6 (HRA hv), oS sa ha ta gt gf gc tra gs, oH ta (Hfl res.2) (Hro res.2) (Hrp res.2) (Hca res.2) (Hwy res.2) (Hla res.2) (Hmi res.2) (Htf res.2) (Htk res.2), aV d ta 1 (HHO res.2), aV d ta 2 (HAT res.2), aV d ta 3 (HTO res.2), aV d ta 4 (HWE res.2), aV d ta 5 (HHE res.2), aV d ta 6 (HRA res.2)]) := by
  have hX := XI.ok (D := D) (cs := cs) (wi := wi)
  refine MetI.of (by decide +kernel) (Nat.le_of_ble_eq_true rfl) ?_
  intro p e s m below meth c A cx hw ls hl
  have cx : Cx p s m _ meth c (XI D cs wi) D d A "DishLift" cX0_turnFrom 8 (some .int) "turnFrom" := cx
  have cx' := cx
  obtain ⟨hx, hb, hr, hlk, hml, hown, hts, hK, hA, hXs, hnm⟩ := cx'
  have hl : lv_has ls 8 [(0, .ref (sa 0)), (1, .int p1), (2, .int p2), (3, .int p3), (4, .int p4)] := hl
  unfold fX0_turnFrom_4 at hf
  refine lv_iload_n hx hb dX0_turnFrom_0 rfl (lv_at hl 1 rfl) ?_
  refine lv_iload_n hx hb dX0_turnFrom_1 rfl (lv_at hl 2 rfl) ?_
  refine lv_icmp_ne (tgt := 24) hx hb dX0_turnFrom_2 (by decide) (fun c2 => ?_) (fun c2 => ?_)
  · have hf := if_f hf c2
    refine lv_aload_n hx hb dX0_turnFrom_24 rfl (lv_at hl 0 rfl) ?_
    refine lv_iload_n hx hb dX0_turnFrom_25 rfl (lv_at hl 1 rfl) ?_
    refine lv_iconst (v := 1) hx hb dX0_turnFrom_26 (by decide) ?_
    refine lv_iadd hx hb dX0_turnFrom_27 ?_
    refine lv_iload_n hx hb dX0_turnFrom_28 rfl (lv_at hl 2 rfl) ?_
    refine lv_iload_n hx hb dX0_turnFrom_29 rfl (lv_at hl 3 rfl) ?_
    refine lv_iload hx hb dX0_turnFrom_30 (lv_at hl 4 rfl) ?_
    obtain ⟨q5, hcq5, hf⟩ := op_e hf
    refine x_VI (wr := []) (rest := []) [.int (p1 + 1), .int p2, .int p3, .int p4] hX cx hw hl.1 (mX0_turnFrom_3 l  D d cs wi ln lf dk dn him ha ta sa hv tv gt gf gc tra gs (p1 + 1) p2 p3 p4 q5 hcq5) (lw_V q1023 q1025 qs31 q82 q1026) hd_X0_turnFrom ⟨(Nat.le_of_ble_eq_true rfl), (Nat.le_of_ble_eq_true rfl)⟩ (va_recv hK hw.1 (ci := 1) (q0 := 7) rfl rfl) rfl rfl (Nat.le_of_ble_eq_true rfl) dX0_turnFrom_32 [0, 1, 2, 3, 4, 5, 6, 7, 8, 9, 10, 11, 12, 13, 14] [] rfl rfl rfl rfl (by decide) ⟨(Nat.le_of_ble_eq_true rfl), (Nat.le_of_ble_eq_true rfl)⟩ (fun r u H locs hp hw => ?_)
    have hw : Wd D A s [oH ha (Hfl hv) (Hro hv) (Hrp hv) (Hca hv) (Hwy hv) (Hla hv) (Hmi hv) (Htf hv) (Htk hv), aV d ha 1 (HHO hv), aV d ha 2 (HAT hv), aV d ha 3 (HTO hv), aV d ha 4 (HWE hv), aV d ha 5 (HHE hv), aV d ha 6 (HRA hv), oS sa ha ta gt gf gc tra gs, oH ta (Hfl q5.2) (Hro q5.2) (Hrp q5.2) (Hca q5.2) (Hwy q5.2) (Hla q5.2) (Hmi q5.2) (Htf q5.2) (Htk q5.2), aV d ta 1 (HHO q5.2), aV d ta 2 (HAT q5.2), aV d ta 3 (HTO q5.2), aV d ta 4 (HWE q5.2), aV d ta 5 (HHE q5.2), aV d ta 6 (HRA q5.2)] H locs := hw
    subst r
    refine lv_istore (lv' := [(5, .int q5.1), (0, .ref (sa 0)), (1, .int p1), (2, .int p2), (3, .int p3), (4, .int p4)]) hx hb dX0_turnFrom_35 hl (by decide) rfl (fun ls hl => ?_)
    refine lv_iload_n hx hb dX0_turnFrom_37 rfl (lv_at hl 2 rfl) ?_
    refine lv_iconst (v := 2) hx hb dX0_turnFrom_38 (by decide) ?_
    refine lv_irem hx hb dX0_turnFrom_39 (by decide) ?_
    obtain ⟨j6, hjA, hjR⟩ := op_e hf
    refine x_join (A := A) (D := D) (J := 54) (nL := 8) (cells' := 0) (slots' := 0) (st := [.int j6]) [oH ha (Hfl hv) (Hro hv) (Hrp hv) (Hca hv) (Hwy hv) (Hla hv) (Hmi hv) (Htf hv) (Htk hv), aV d ha 1 (HHO hv), aV d ha 2 (HAT hv), aV d ha 3 (HTO hv), aV d ha 4 (HWE hv), aV d ha 5 (HHE hv), aV d ha 6 (HRA hv), oS sa ha ta gt gf gc tra gs, oH ta (Hfl q5.2) (Hro q5.2) (Hrp q5.2) (Hca q5.2) (Hwy q5.2) (Hla q5.2) (Hmi q5.2) (Htf q5.2) (Htk q5.2), aV d ta 1 (HHO q5.2), aV d ta 2 (HAT q5.2), aV d ta 3 (HTO q5.2), aV d ta 4 (HWE q5.2), aV d ta 5 (HHE q5.2), aV d ta 6 (HRA q5.2)] [(0, .ref (sa 0)), (1, .int p1), (2, .int p2), (3, .int p3), (5, .int q5.1)] (fun H locs ls hw hl => ?_) (fun hKj54_j6 => ?_)
    · have hf := hjR
      refine lv_istore (lv' := [(6, .int j6), (0, .ref (sa 0)), (1, .int p1), (2, .int p2), (3, .int p3), (5, .int q5.1)]) hx hb dX0_turnFrom_54 hl (by decide) rfl (fun ls hl => ?_)
      refine lv_aload_n hx hb dX0_turnFrom_56 rfl (lv_at hl 1 rfl) ?_
      refine lv_iload hx hb dX0_turnFrom_57 (lv_at hl 0 rfl) ?_
      obtain ⟨q7, hcq7, hf⟩ := op_e hf
      refine x_VI (wr := [oH ta (Hfl q5.2) (Hro q5.2) (Hrp q5.2) (Hca q5.2) (Hwy q5.2) (Hla q5.2) (Hmi q5.2) (Htf q5.2) (Htk q5.2), aV d ta 1 (HHO q5.2), aV d ta 2 (HAT q5.2), aV d ta 3 (HTO q5.2), aV d ta 4 (HWE q5.2), aV d ta 5 (HHE q5.2), aV d ta 6 (HRA q5.2)]) (rest := []) [.int j6] hX cx hw hl.1 (mX0_isFloor l  D d cs wi ln lf dk dn him ha sa ta hv gt gf gc tra gs j6 q7 hcq7) (lw_V q872 q874 qs22 q82 q875) hd_X0_isFloor ⟨(Nat.le_of_ble_eq_true rfl), (Nat.le_of_ble_eq_true rfl)⟩ (va_recv hK hw.1 (ci := 1) (q0 := 7) rfl rfl) rfl rfl (Nat.le_of_ble_eq_true rfl) dX0_turnFrom_59 [0, 1, 2, 3, 4, 5, 6, 7] [8, 9, 10, 11, 12, 13, 14] rfl rfl rfl rfl (by decide) ⟨(Nat.le_of_ble_eq_true rfl), (Nat.le_of_ble_eq_true rfl)⟩ (fun r u H locs hp hw => ?_)
      have hw : Wd D A s [oH ta (Hfl q5.2) (Hro q5.2) (Hrp q5.2) (Hca q5.2) (Hwy q5.2) (Hla q5.2) (Hmi q5.2) (Htf q5.2) (Htk q5.2), aV d ta 1 (HHO q5.2), aV d ta 2 (HAT q5.2), aV d ta 3 (HTO q5.2), aV d ta 4 (HWE q5.2), aV d ta 5 (HHE q5.2), aV d ta 6 (HRA q5.2), oH ha (Hfl hv) (Hro hv) (Hrp hv) (Hca hv) (Hwy hv) (Hla hv) (Hmi hv) (Htf hv) (Htk hv), aV d ha 1 (HHO hv), aV d ha 2 (HAT hv), aV d ha 3 (HTO hv), aV d ha 4 (HWE hv), aV d ha 5 (HHE hv), aV d ha 6 (HRA hv), oS sa ha ta gt gf gc tra gs] H locs := hw
      subst r
      refine lv_if_ne (tgt := 68) hx hb dX0_turnFrom_62 (by decide) (fun c62 => ?_) (fun c62 => ?_)
      · have hf := if_f hf c62
        refine lv_aload_n hx hb dX0_turnFrom_68 rfl (lv_at hl 1 rfl) ?_
        refine lv_iload_n hx hb dX0_turnFrom_69 rfl (lv_at hl 2 rfl) ?_
        refine lv_iconst (v := 1) hx hb dX0_turnFrom_70 (by decide) ?_
        refine lv_iadd hx hb dX0_turnFrom_71 ?_
        refine lv_iload_n hx hb dX0_turnFrom_72 rfl (lv_at hl 3 rfl) ?_
        refine lv_iload_n hx hb dX0_turnFrom_73 rfl (lv_at hl 4 rfl) ?_
        refine lv_iload hx hb dX0_turnFrom_74 (lv_at hl 0 rfl) ?_
        obtain ⟨q8, hcq8, hf⟩ := op_e hf
        refine x_VI (wr := []) (rest := []) [.int (p1 + 1), .int p2, .int p3, .int j6] hX cx hw hl.1 (mX0_turnFrom_3 l  D d cs wi ln lf dk dn him ha ta sa hv q5.2 gt gf gc tra gs (p1 + 1) p2 p3 j6 q8 hcq8) (lw_V q1023 q1025 qs31 q82 q1026) hd_X0_turnFrom ⟨(Nat.le_of_ble_eq_true rfl), (Nat.le_of_ble_eq_true rfl)⟩ (va_recv hK hw.1 (ci := 1) (q0 := 14) rfl rfl) rfl rfl (Nat.le_of_ble_eq_true rfl) dX0_turnFrom_76 [7, 8, 9, 10, 11, 12, 13, 14, 0, 1, 2, 3, 4, 5, 6] [] rfl rfl rfl rfl (by decide) ⟨(Nat.le_of_ble_eq_true rfl), (Nat.le_of_ble_eq_true rfl)⟩ (fun r u H locs hp hw => ?_)
        have hw : Wd D A s [oH ha (Hfl hv) (Hro hv) (Hrp hv) (Hca hv) (Hwy hv) (Hla hv) (Hmi hv) (Htf hv) (Htk hv), aV d ha 1 (HHO hv), aV d ha 2 (HAT hv), aV d ha 3 (HTO hv), aV d ha 4 (HWE hv), aV d ha 5 (HHE hv), aV d ha 6 (HRA hv), oS sa ha ta gt gf gc tra gs, oH ta (Hfl q8.2) (Hro q8.2) (Hrp q8.2) (Hca q8.2) (Hwy q8.2) (Hla q8.2) (Hmi q8.2) (Htf q8.2) (Htk q8.2), aV d ta 1 (HHO q8.2), aV d ta 2 (HAT q8.2), aV d ta 3 (HTO q8.2), aV d ta 4 (HWE q8.2), aV d ta 5 (HHE q8.2), aV d ta 6 (HRA q8.2)] H locs := hw
        subst r
        refine lv_istore (lv' := [(7, .int q8.1), (6, .int j6), (0, .ref (sa 0)), (1, .int p1), (2, .int p2), (3, .int p3), (5, .int q5.1)]) hx hb dX0_turnFrom_79 hl (by decide) rfl (fun ls hl => ?_)
        refine lv_iload_n hx hb dX0_turnFrom_81 rfl (lv_at hl 3 rfl) ?_
        refine lv_iconst (v := 2) hx hb dX0_turnFrom_82 (by decide) ?_
        refine lv_irem hx hb dX0_turnFrom_83 (by decide) ?_
        refine lv_if_ne (tgt := 97) hx hb dX0_turnFrom_84 (by decide) (fun c84 => ?_) (fun c84 => ?_)
        · have hf := if_f hf c84
          refine lv_iload hx hb dX0_turnFrom_97 (lv_at hl 6 rfl) ?_
          refine lv_iload hx hb dX0_turnFrom_99 (lv_at hl 0 rfl) ?_
          refine va_mmin hx hb (hml.trans hl.1.symm) hown (hts _ q1031) (hts _ q744) (hts _ q110) (hts _ q745) (Nat.le_of_ble_eq_true rfl) (Nat.le_of_ble_eq_true rfl) (Nat.le_of_ble_eq_true rfl) (Nat.le_of_ble_eq_true rfl) dX0_turnFrom_101 ?_
          have hf := sm_e hf
          subst hf
          exact x_retI cx hw rfl () rfl [0, 1, 2, 3, 4, 5, 6, 7, 8, 9, 10, 11, 12, 13, 14] rfl rfl (Nat.le_of_ble_eq_true rfl) (Nat.le_of_ble_eq_true rfl) dX0_turnFrom_104
        · have hf := if_t hf c84
          refine lv_iload hx hb dX0_turnFrom_87 (lv_at hl 6 rfl) ?_
          refine lv_iload hx hb dX0_turnFrom_89 (lv_at hl 0 rfl) ?_
          refine va_mmax hx hb (hml.trans hl.1.symm) hown (hts _ q977) (hts _ q708) (hts _ q110) (hts _ q709) (Nat.le_of_ble_eq_true rfl) (Nat.le_of_ble_eq_true rfl) (Nat.le_of_ble_eq_true rfl) (Nat.le_of_ble_eq_true rfl) dX0_turnFrom_91 ?_
          refine lv_goto (tgt := 104) hx hb dX0_turnFrom_94 (by decide) ?_
          have hf := sm_e hf
          subst hf
          exact x_retI cx hw rfl () rfl [0, 1, 2, 3, 4, 5, 6, 7, 8, 9, 10, 11, 12, 13, 14] rfl rfl (Nat.le_of_ble_eq_true rfl) (Nat.le_of_ble_eq_true rfl) dX0_turnFrom_104
      · have hf := if_t hf c62
        refine lv_iload hx hb dX0_turnFrom_65 (lv_at hl 5 rfl) ?_
        have hf := sm_e hf
        subst hf
        exact x_retI cx hw rfl () rfl [7, 8, 9, 10, 11, 12, 13, 14, 0, 1, 2, 3, 4, 5, 6] rfl rfl (Nat.le_of_ble_eq_true rfl) (Nat.le_of_ble_eq_true rfl) dX0_turnFrom_67
    · have hf := hjA
      refine lv_if_ne (tgt := 50) hx hb dX0_turnFrom_40 (by decide) (fun c40 => ?_) (fun c40 => ?_)
      · have hf := if_f hf c40
        refine lv_iload hx hb dX0_turnFrom_50 (lv_at hl 5 rfl) ?_
        refine lv_iconst (v := 1) hx hb dX0_turnFrom_52 (by decide) ?_
        refine lv_iadd hx hb dX0_turnFrom_53 ?_
        have hf := sm_e hf
        subst hf
        exact hKj54_j6 _ _ _ hw (lv_sub hl [1, 2, 3, 4, 0] rfl)
      · have hf := if_t hf c40
        refine lv_iload hx hb dX0_turnFrom_43 (lv_at hl 5 rfl) ?_
        refine lv_iconst (v := 1) hx hb dX0_turnFrom_45 (by decide) ?_
        refine lv_isub hx hb dX0_turnFrom_46 ?_
        refine lv_goto (tgt := 54) hx hb dX0_turnFrom_47 (by decide) ?_
        have hf := sm_e hf
        subst hf
        exact hKj54_j6 _ _ _ hw (lv_sub hl [1, 2, 3, 4, 0] rfl)
  · have hf := if_t hf c2
    refine lv_aload_n hx hb dX0_turnFrom_5 rfl (lv_at hl 0 rfl) ?_
    obtain ⟨q1, hcq1, hf⟩ := op_e hf
    refine x_VA (wr := []) (rest := []) [] hX cx hw hl.1 (mX0_tried l  D d cs wi ln lf dk dn him ha ta sa hv tv gt gf gc tra gs q1 hcq1) (lw_V q932 q934 qs24 q82 q935) hd_X0_tried ⟨(Nat.le_of_ble_eq_true rfl), (Nat.le_of_ble_eq_true rfl)⟩ (va_recv hK hw.1 (ci := 1) (q0 := 7) rfl rfl) rfl rfl (Nat.le_of_ble_eq_true rfl) dX0_turnFrom_6 [0, 1, 2, 3, 4, 5, 6, 7, 8, 9, 10, 11, 12, 13, 14] [] rfl rfl rfl rfl (by decide) ⟨(Nat.le_of_ble_eq_true rfl), (Nat.le_of_ble_eq_true rfl)⟩ (fun u H locs hp hw => ?_)
    have hw : Wd D A s [oH ha (Hfl hv) (Hro hv) (Hrp hv) (Hca hv) (Hwy hv) (Hla hv) (Hmi hv) (Htf hv) (Htk hv), aV d ha 1 (HHO hv), aV d ha 2 (HAT hv), aV d ha 3 (HTO hv), aV d ha 4 (HWE hv), aV d ha 5 (HHE hv), aV d ha 6 (HRA hv), oS sa ha ta gt gf gc tra gs, oH ta (Hfl q1) (Hro q1) (Hrp q1) (Hca q1) (Hwy q1) (Hla q1) (Hmi q1) (Htf q1) (Htk q1), aV d ta 1 (HHO q1), aV d ta 2 (HAT q1), aV d ta 3 (HTO q1), aV d ta 4 (HWE q1), aV d ta 5 (HHE q1), aV d ta 6 (HRA q1)] H locs := hw
    refine lv_iload hx hb dX0_turnFrom_9 (lv_at hl 4 rfl) ?_
    refine va_put (ci := 2) (v := .int p4) (ty := .int) (C := RX1) (T := TX1) (N := 15) hx hb hts in_X1 tyX1 tyX1_ok nmX1 hown hK hw.1 hw.2.1 hw.2.2 8 rfl rfl 3 (by decide) (hts _ q169) (fun _ h9 => h9) rfl (by decide +kernel) rfl rfl (Nat.le_of_ble_eq_true rfl) dX0_turnFrom_11 (fun H locs hP hD hS => ?_)
    have hw : Wd D A s [oH ha (Hfl hv) (Hro hv) (Hrp hv) (Hca hv) (Hwy hv) (Hla hv) (Hmi hv) (Htf hv) (Htk hv), aV d ha 1 (HHO hv), aV d ha 2 (HAT hv), aV d ha 3 (HTO hv), aV d ha 4 (HWE hv), aV d ha 5 (HHE hv), aV d ha 6 (HRA hv), oS sa ha ta gt gf gc tra gs, oH ta (Hfl q1) (Hro q1) (Hrp q1) p4 (Hwy q1) (Hla q1) (Hmi q1) (Htf q1) (Htk q1), aV d ta 1 (HHO q1), aV d ta 2 (HAT q1), aV d ta 3 (HTO q1), aV d ta 4 (HWE q1), aV d ta 5 (HHE q1), aV d ta 6 (HRA q1)] H locs := ⟨hP, hD, hS⟩
    obtain ⟨b2, hb0, hf⟩ := op_e hf
    obtain ⟨e0, e1, e2, e3, e4, e5, e6, e7, e8, e9, e10, e11, e12, e13, e14⟩ := acca (sm_e hb0)
    have hw : Wd D A s [oH ha (Hfl hv) (Hro hv) (Hrp hv) (Hca hv) (Hwy hv) (Hla hv) (Hmi hv) (Htf hv) (Htk hv), aV d ha 1 (HHO hv), aV d ha 2 (HAT hv), aV d ha 3 (HTO hv), aV d ha 4 (HWE hv), aV d ha 5 (HHE hv), aV d ha 6 (HRA hv), oS sa ha ta gt gf gc tra gs, oH ta (Hfl b2) (Hro b2) (Hrp b2) (Hca b2) (Hwy b2) (Hla b2) (Hmi b2) (Htf b2) (Htk b2), aV d ta 1 (HHO b2), aV d ta 2 (HAT b2), aV d ta 3 (HTO b2), aV d ta 4 (HWE b2), aV d ta 5 (HHE b2), aV d ta 6 (HRA b2)] H locs := by rw [e0, e1, e2, e3, e4, e5, e6, e7, e8, e9, e10, e11, e12, e13, e14]; exact hw
    refine lv_aload_n hx hb dX0_turnFrom_14 rfl (lv_at hl 0 rfl) ?_
    refine lv_iload_n hx hb dX0_turnFrom_15 rfl (lv_at hl 3 rfl) ?_
    obtain ⟨q3, hcq3, hf⟩ := op_e hf
    refine x_VA (wr := [oH ha (Hfl hv) (Hro hv) (Hrp hv) (Hca hv) (Hwy hv) (Hla hv) (Hmi hv) (Htf hv) (Htk hv), aV d ha 1 (HHO hv), aV d ha 2 (HAT hv), aV d ha 3 (HTO hv), aV d ha 4 (HWE hv), aV d ha 5 (HHE hv), aV d ha 6 (HRA hv)]) (rest := []) [.int p3] hX cx hw hl.1 (mX0_goOn l  D d cs wi ln lf dk dn him ta sa ha b2 gt gf gc tra gs p3 q3 hcq3) (lw_V q936 q938 qs25 q82 q939) hd_X0_goOn ⟨(Nat.le_of_ble_eq_true rfl), (Nat.le_of_ble_eq_true rfl)⟩ (va_recv hK hw.1 (ci := 1) (q0 := 7) rfl rfl) rfl rfl (Nat.le_of_ble_eq_true rfl) dX0_turnFrom_16 [7, 8, 9, 10, 11, 12, 13, 14] [0, 1, 2, 3, 4, 5, 6] rfl rfl rfl rfl (by decide) ⟨(Nat.le_of_ble_eq_true rfl), (Nat.le_of_ble_eq_true rfl)⟩ (fun u H locs hp hw => ?_)
    have hw : Wd D A s [oH ha (Hfl hv) (Hro hv) (Hrp hv) (Hca hv) (Hwy hv) (Hla hv) (Hmi hv) (Htf hv) (Htk hv), aV d ha 1 (HHO hv), aV d ha 2 (HAT hv), aV d ha 3 (HTO hv), aV d ha 4 (HWE hv), aV d ha 5 (HHE hv), aV d ha 6 (HRA hv), oS sa ha ta gt gf gc tra gs, oH ta (Hfl q3) (Hro q3) (Hrp q3) (Hca q3) (Hwy q3) (Hla q3) (Hmi q3) (Htf q3) (Htk q3), aV d ta 1 (HHO q3), aV d ta 2 (HAT q3), aV d ta 3 (HTO q3), aV d ta 4 (HWE q3), aV d ta 5 (HHE q3), aV d ta 6 (HRA q3)] H locs := hw
    refine lv_iconst (v := 1) hx hb dX0_turnFrom_19 (by decide) ?_
    obtain ⟨q4, hcq4, hf⟩ := op_e hf
    refine x_VI (wr := [oH ha (Hfl hv) (Hro hv) (Hrp hv) (Hca hv) (Hwy hv) (Hla hv) (Hmi hv) (Htf hv) (Htk hv), aV d ha 1 (HHO hv), aV d ha 2 (HAT hv), aV d ha 3 (HTO hv), aV d ha 4 (HWE hv), aV d ha 5 (HHE hv), aV d ha 6 (HRA hv), oS sa ha ta gt gf gc tra gs]) (rest := []) [.int 1] hX cx hw hl.1 (vX1_heats l  D d cs wi ln lf dk dn him ta q3 1 q4 hcq4) (lw_V q1027 q1028 q1029 q83 q1030) hd_X1_heats ⟨(Nat.le_of_ble_eq_true rfl), (Nat.le_of_ble_eq_true rfl)⟩ (va_recv hK hw.1 (ci := 2) (q0 := 8) rfl rfl) rfl rfl (Nat.le_of_ble_eq_true rfl) dX0_turnFrom_20 [8, 9, 10, 11, 12, 13, 14] [0, 1, 2, 3, 4, 5, 6, 7] rfl rfl rfl rfl (by decide) ⟨(Nat.le_of_ble_eq_true rfl), (Nat.le_of_ble_eq_true rfl)⟩ (fun r u H locs hp hw => ?_)
    have hw : Wd D A s [oH ha (Hfl hv) (Hro hv) (Hrp hv) (Hca hv) (Hwy hv) (Hla hv) (Hmi hv) (Htf hv) (Htk hv), aV d ha 1 (HHO hv), aV d ha 2 (HAT hv), aV d ha 3 (HTO hv), aV d ha 4 (HWE hv), aV d ha 5 (HHE hv), aV d ha 6 (HRA hv), oS sa ha ta gt gf gc tra gs, oH ta (Hfl q3) (Hro q3) (Hrp q3) (Hca q3) (Hwy q3) (Hla q3) (Hmi q3) (Htf q3) (Htk q3), aV d ta 1 (HHO q3), aV d ta 2 (HAT q3), aV d ta 3 (HTO q3), aV d ta 4 (HWE q3), aV d ta 5 (HHE q3), aV d ta 6 (HRA q3)] H locs := hw
    subst r
    have hf := sm_e hf
    subst hf
    exact x_retI cx hw rfl () rfl [0, 1, 2, 3, 4, 5, 6, 7, 8, 9, 10, 11, 12, 13, 14] rfl rfl (Nat.le_of_ble_eq_true rfl) (Nat.le_of_ble_eq_true rfl) dX0_turnFrom_23
theorem hd_X0_byTurns : yX0_byTurns.cls = "DishLift" ∧ yX0_byTurns.cls ≠ "java/lang/invoke/MethodHandle" ∧ yX0_byTurns.cls ≠ "java/lang/invoke/VarHandle" ∧ (parseMethodDescriptor yX0_byTurns.desc).map (fun d => d.parameters.length) = some 2 := by decide +kernel
set_option maxHeartbeats 4000000 in
theorem mX0_byTurns (l : Launch)  (D : va_G) (d : Nat → ClassId) (cs : Nat → Nat) (wi : va_W) (ln : Nat → Option Int32) (lf : Nat → Nat → Option Nat) (dk : Nat → Option Nat) (dn : Nat → Int32) (him : ImF d wi ln lf dk dn) (ha : Nat → Nat) (ta : Nat → Nat) (sa : Nat → Nat) (hv : HV) (tv : HV) (gt : Int32) (gf : Int32) (gc : Int32) (tra : Nat) (gs : Int32) (p1 : Int32) (p2 : Int32)  (res : Int32 × HV) (hf : fX0_byTurns ln lf dk hv tv p1 p2 = some res) : MetI l yX0_byTurns (ws_ yX0_byTurns cX0_byTurns 3 (some .int)) { frames := 12, cells := 0, slots := 0, locals := 340 } [.ref (sa 0), .int p1, .int p2] (XI D cs wi) D d [oH ha (Hfl hv) (Hro hv) (Hrp hv) (Hca hv) (Hwy hv) (Hla hv) (Hmi hv) (Htf hv) (Htk hv), aV d ha 1 (HHO hv), aV d ha 2 (HAT hv), aV d ha 3 (HTO hv), aV d ha 4 (HWE hv), aV d ha 5 (HHE hv), aV d ha 6 (HRA hv), oS sa ha ta gt gf gc tra gs, oH ta (Hfl tv) (Hro tv) (Hrp tv) (Hca tv) (Hwy tv) (Hla tv) (Hmi tv) (Htf tv) (Htk tv), aV d ta 1 (HHO tv), aV d ta 2 (HAT tv), aV d ta 3 (HTO tv), aV d ta 4 (HWE tv), aV d ta 5 (HHE tv), aV d ta 6 (HRA tv)] (fun r (_ : Unit) => r = res.1) (fun _ => [oH ha (Hfl hv) (Hro hv) (Hrp hv) (Hca hv) (Hwy hv) (Hla hv) (Hmi hv) (Htf hv) (Htk hv), aV d ha 1 (HHO hv), aV d ha 2 (HAT hv), aV d ha 3 (HTO hv), aV d ha 4 (HWE hv), aV d ha 5 (HHE hv), aV d ha 6 (HRA hv), oS sa ha ta gt gf gc tra gs, oH ta (Hfl res.2) (Hro res.2) (Hrp res.2) (Hca res.2) (Hwy res.2) (Hla res.2) (Hmi res.2) (Htf res.2) (Htk res.2), aV d ta 1 (HHO res.2), aV d ta 2 (HAT res.2), aV d ta 3 (HTO res.2), aV d ta 4 (HWE res.2), aV d ta 5 (HHE res.2), aV d ta 6 (HRA res.2)]) := by
  have hX := XI.ok (D := D) (cs := cs) (wi := wi)
  refine MetI.of (by decide +kernel) (Nat.le_of_ble_eq_true rfl) ?_
  intro p e s m below meth c A cx hw ls hl
  have cx : Cx p s m _ meth c (XI D cs wi) D d A "DishLift" cX0_byTurns 3 (some .int) "byTurns" := cx
  have cx' := cx
  obtain ⟨hx, hb, hr, hlk, hml, hown, hts, hK, hA, hXs, hnm⟩ := cx'
  have hl : lv_has ls 3 [(0, .ref (sa 0)), (1, .int p1), (2, .int p2)] := hl
  unfold fX0_byTurns at hf
  refine lv_aload_n hx hb dX0_byTurns_0 rfl (lv_at hl 0 rfl) ?_
  obtain ⟨q1, hcq1, hf⟩ := op_e hf
  refine x_VI (wr := [oH ta (Hfl tv) (Hro tv) (Hrp tv) (Hca tv) (Hwy tv) (Hla tv) (Hmi tv) (Htf tv) (Htk tv), aV d ta 1 (HHO tv), aV d ta 2 (HAT tv), aV d ta 3 (HTO tv), aV d ta 4 (HWE tv), aV d ta 5 (HHE tv), aV d ta 6 (HRA tv)]) (rest := []) [] hX cx hw hl.1 (mX0_isHouse l  D d cs wi ln lf dk dn him ha sa ta hv gt gf gc tra gs q1 hcq1) (lw_V q769 q771 qs17 q82 q772) hd_X0_isHouse ⟨(Nat.le_of_ble_eq_true rfl), (Nat.le_of_ble_eq_true rfl)⟩ (va_recv hK hw.1 (ci := 1) (q0 := 7) rfl rfl) rfl rfl (Nat.le_of_ble_eq_true rfl) dX0_byTurns_1 [0, 1, 2, 3, 4, 5, 6, 7] [8, 9, 10, 11, 12, 13, 14] rfl rfl rfl rfl (by decide) ⟨(Nat.le_of_ble_eq_true rfl), (Nat.le_of_ble_eq_true rfl)⟩ (fun r u H locs hp hw => ?_)
  have hw : Wd D A s [oH ta (Hfl tv) (Hro tv) (Hrp tv) (Hca tv) (Hwy tv) (Hla tv) (Hmi tv) (Htf tv) (Htk tv), aV d ta 1 (HHO tv), aV d ta 2 (HAT tv), aV d ta 3 (HTO tv), aV d ta 4 (HWE tv), aV d ta 5 (HHE tv), aV d ta 6 (HRA tv), oH ha (Hfl hv) (Hro hv) (Hrp hv) (Hca hv) (Hwy hv) (Hla hv) (Hmi hv) (Htf hv) (Htk hv), aV d ha 1 (HHO hv), aV d ha 2 (HAT hv), aV d ha 3 (HTO hv), aV d ha 4 (HWE hv), aV d ha 5 (HHE hv), aV d ha 6 (HRA hv), oS sa ha ta gt gf gc tra gs] H locs := hw
  subst r
  refine lv_if_ne (tgt := 10) hx hb dX0_byTurns_4 (by decide) (fun c4 => ?_) (fun c4 => ?_)
  · have hf := if_f hf c4
    refine lv_iload_n hx hb dX0_byTurns_10 rfl (lv_at hl 1 rfl) ?_
    refine lv_i2l (v := p1.toInt64) hx hb dX0_byTurns_11 rfl ?_
    refine lv_lconst (v := 0) hx hb dX0_byTurns_12 (by decide) ?_
    refine lv_ldc2 (v := 4) hx hb hown (hts _ q885) dX0_byTurns_13 ?_
    obtain ⟨q2, hcq2, hf⟩ := op_e hf
    refine x_SI (wr := [oH ta (Hfl tv) (Hro tv) (Hrp tv) (Hca tv) (Hwy tv) (Hla tv) (Hmi tv) (Htf tv) (Htk tv), aV d ta 1 (HHO tv), aV d ta 2 (HAT tv), aV d ta 3 (HTO tv), aV d ta 4 (HWE tv), aV d ta 5 (HHE tv), aV d ta 6 (HRA tv), oH ha (Hfl hv) (Hro hv) (Hrp hv) (Hca hv) (Hwy hv) (Hla hv) (Hmi hv) (Htf hv) (Htk hv), aV d ha 1 (HHO hv), aV d ha 2 (HAT hv), aV d ha 3 (HTO hv), aV d ha 4 (HWE hv), aV d ha 5 (HHE hv), aV d ha 6 (HRA hv), oS sa ha ta gt gf gc tra gs]) (rest := []) [.long p1.toInt64, .long 0, .long 4] hX cx hw hl.1 (mX0_isIn l (XI D cs wi) hX D d  p1.toInt64 0 4 q2 hcq2) (lw_S q346 q347 q82 q348) hd_X0_isIn ⟨(Nat.le_of_ble_eq_true rfl), (Nat.le_of_ble_eq_true rfl)⟩ rfl rfl (Nat.le_of_ble_eq_true rfl) dX0_byTurns_16 [] [0, 1, 2, 3, 4, 5, 6, 7, 8, 9, 10, 11, 12, 13, 14] rfl rfl rfl rfl (by decide) ⟨(Nat.le_of_ble_eq_true rfl), (Nat.le_of_ble_eq_true rfl)⟩ (fun r u H locs hp hw => ?_)
    have hw : Wd D A s [oH ta (Hfl tv) (Hro tv) (Hrp tv) (Hca tv) (Hwy tv) (Hla tv) (Hmi tv) (Htf tv) (Htk tv), aV d ta 1 (HHO tv), aV d ta 2 (HAT tv), aV d ta 3 (HTO tv), aV d ta 4 (HWE tv), aV d ta 5 (HHE tv), aV d ta 6 (HRA tv), oH ha (Hfl hv) (Hro hv) (Hrp hv) (Hca hv) (Hwy hv) (Hla hv) (Hmi hv) (Htf hv) (Htk hv), aV d ha 1 (HHO hv), aV d ha 2 (HAT hv), aV d ha 3 (HTO hv), aV d ha 4 (HWE hv), aV d ha 5 (HHE hv), aV d ha 6 (HRA hv), oS sa ha ta gt gf gc tra gs] H locs := hw
    subst r
    refine lv_if_eq (tgt := 51) hx hb dX0_byTurns_19 (by decide) (fun c19 => ?_) (fun c19 => ?_)
    · have hf := if_t hf c19
      refine lv_ldc (v := (-1000001)) hx hb hown (hts _ q350) dX0_byTurns_51 ?_
      have hf := sm_e hf
      subst hf
      exact x_retI cx hw rfl () rfl [7, 8, 9, 10, 11, 12, 13, 14, 0, 1, 2, 3, 4, 5, 6] rfl rfl (Nat.le_of_ble_eq_true rfl) (Nat.le_of_ble_eq_true rfl) dX0_byTurns_53
    · have hf := if_f hf c19
      refine lv_iload_n hx hb dX0_byTurns_22 rfl (lv_at hl 2 rfl) ?_
      refine lv_i2l (v := p2.toInt64) hx hb dX0_byTurns_23 rfl ?_
      refine lv_lconst (v := 1) hx hb dX0_byTurns_24 (by decide) ?_
      refine lv_ldc2 (v := 20) hx hb hown (hts _ q1022) dX0_byTurns_25 ?_
      obtain ⟨q3, hcq3, hf⟩ := op_e hf
      refine x_SI (wr := [oH ta (Hfl tv) (Hro tv) (Hrp tv) (Hca tv) (Hwy tv) (Hla tv) (Hmi tv) (Htf tv) (Htk tv), aV d ta 1 (HHO tv), aV d ta 2 (HAT tv), aV d ta 3 (HTO tv), aV d ta 4 (HWE tv), aV d ta 5 (HHE tv), aV d ta 6 (HRA tv), oH ha (Hfl hv) (Hro hv) (Hrp hv) (Hca hv) (Hwy hv) (Hla hv) (Hmi hv) (Htf hv) (Htk hv), aV d ha 1 (HHO hv), aV d ha 2 (HAT hv), aV d ha 3 (HTO hv), aV d ha 4 (HWE hv), aV d ha 5 (HHE hv), aV d ha 6 (HRA hv), oS sa ha ta gt gf gc tra gs]) (rest := []) [.long p2.toInt64, .long 1, .long 20] hX cx hw hl.1 (mX0_isIn l (XI D cs wi) hX D d  p2.toInt64 1 20 q3 hcq3) (lw_S q346 q347 q82 q348) hd_X0_isIn ⟨(Nat.le_of_ble_eq_true rfl), (Nat.le_of_ble_eq_true rfl)⟩ rfl rfl (Nat.le_of_ble_eq_true rfl) dX0_byTurns_28 [] [0, 1, 2, 3, 4, 5, 6, 7, 8, 9, 10, 11, 12, 13, 14] rfl rfl rfl rfl (by decide) ⟨(Nat.le_of_ble_eq_true rfl), (Nat.le_of_ble_eq_true rfl)⟩ (fun r u H locs hp hw => ?_)
      have hw : Wd D A s [oH ta (Hfl tv) (Hro tv) (Hrp tv) (Hca tv) (Hwy tv) (Hla tv) (Hmi tv) (Htf tv) (Htk tv), aV d ta 1 (HHO tv), aV d ta 2 (HAT tv), aV d ta 3 (HTO tv), aV d ta 4 (HWE tv), aV d ta 5 (HHE tv), aV d ta 6 (HRA tv), oH ha (Hfl hv) (Hro hv) (Hrp hv) (Hca hv) (Hwy hv) (Hla hv) (Hmi hv) (Htf hv) (Htk hv), aV d ha 1 (HHO hv), aV d ha 2 (HAT hv), aV d ha 3 (HTO hv), aV d ha 4 (HWE hv), aV d ha 5 (HHE hv), aV d ha 6 (HRA hv), oS sa ha ta gt gf gc tra gs] H locs := hw
      subst r
      refine lv_if_eq (tgt := 51) hx hb dX0_byTurns_31 (by decide) (fun c31 => ?_) (fun c31 => ?_)
      · have hf := if_t hf c31
        refine lv_ldc (v := (-1000001)) hx hb hown (hts _ q350) dX0_byTurns_51 ?_
        have hf := sm_e hf
        subst hf
        exact x_retI cx hw rfl () rfl [7, 8, 9, 10, 11, 12, 13, 14, 0, 1, 2, 3, 4, 5, 6] rfl rfl (Nat.le_of_ble_eq_true rfl) (Nat.le_of_ble_eq_true rfl) dX0_byTurns_53
      · have hf := if_f hf c31
        refine lv_aload_n hx hb dX0_byTurns_34 rfl (lv_at hl 0 rfl) ?_
        refine lv_iconst (v := 0) hx hb dX0_byTurns_35 (by decide) ?_
        refine lv_iload_n hx hb dX0_byTurns_36 rfl (lv_at hl 1 rfl) ?_
        refine lv_iload_n hx hb dX0_byTurns_37 rfl (lv_at hl 2 rfl) ?_
        refine lv_aload_n hx hb dX0_byTurns_38 rfl (lv_at hl 0 rfl) ?_
        refine va_get (ci := 1) (C := RX0) (T := TX0) (N := 14) hx hb hts in_X0 hown hK hw.1 14 rfl rfl 4 (by decide) (hts _ q298) (fun _ h9 => h9) rfl dX0_byTurns_39 ?_
        refine va_get (ci := 2) (C := RX1) (T := TX1) (N := 15) hx hb hts in_X1 hown hK hw.1 7 rfl rfl 3 (by decide) (hts _ q169) (fun _ h9 => h9) rfl dX0_byTurns_42 ?_
        obtain ⟨q4, hcq4, hf⟩ := op_e hf
        refine x_VI (wr := []) (rest := []) [.int 0, .int p1, .int p2, .int (Hca hv)] hX cx hw hl.1 (mX0_turnFrom_4 l  D d cs wi ln lf dk dn him ha ta sa hv tv gt gf gc tra gs 0 p1 p2 (Hca hv) q4 hcq4) (lw_V q1023 q1025 qs31 q82 q1026) hd_X0_turnFrom ⟨(Nat.le_of_ble_eq_true rfl), (Nat.le_of_ble_eq_true rfl)⟩ (va_recv hK hw.1 (ci := 1) (q0 := 14) rfl rfl) rfl rfl (Nat.le_of_ble_eq_true rfl) dX0_byTurns_45 [7, 8, 9, 10, 11, 12, 13, 14, 0, 1, 2, 3, 4, 5, 6] [] rfl rfl rfl rfl (by decide) ⟨(Nat.le_of_ble_eq_true rfl), (Nat.le_of_ble_eq_true rfl)⟩ (fun r u H locs hp hw => ?_)
        have hw : Wd D A s [oH ha (Hfl hv) (Hro hv) (Hrp hv) (Hca hv) (Hwy hv) (Hla hv) (Hmi hv) (Htf hv) (Htk hv), aV d ha 1 (HHO hv), aV d ha 2 (HAT hv), aV d ha 3 (HTO hv), aV d ha 4 (HWE hv), aV d ha 5 (HHE hv), aV d ha 6 (HRA hv), oS sa ha ta gt gf gc tra gs, oH ta (Hfl q4.2) (Hro q4.2) (Hrp q4.2) (Hca q4.2) (Hwy q4.2) (Hla q4.2) (Hmi q4.2) (Htf q4.2) (Htk q4.2), aV d ta 1 (HHO q4.2), aV d ta 2 (HAT q4.2), aV d ta 3 (HTO q4.2), aV d ta 4 (HWE q4.2), aV d ta 5 (HHE q4.2), aV d ta 6 (HRA q4.2)] H locs := hw
        subst r
        refine lv_goto (tgt := 53) hx hb dX0_byTurns_48 (by decide) ?_
        have hf := sm_e hf
        subst hf
        exact x_retI cx hw rfl () rfl [0, 1, 2, 3, 4, 5, 6, 7, 8, 9, 10, 11, 12, 13, 14] rfl rfl (Nat.le_of_ble_eq_true rfl) (Nat.le_of_ble_eq_true rfl) dX0_byTurns_53
  · have hf := if_t hf c4
    refine lv_ldc (v := (-1000002)) hx hb hown (hts _ q764) dX0_byTurns_7 ?_
    have hf := sm_e hf
    subst hf
    exact x_retI cx hw rfl () rfl [7, 8, 9, 10, 11, 12, 13, 14, 0, 1, 2, 3, 4, 5, 6] rfl rfl (Nat.le_of_ble_eq_true rfl) (Nat.le_of_ble_eq_true rfl) dX0_byTurns_9
