set_option maxRecDepth 100000
def fX0_who_0 (ln : Nat → Option Int32) (hv : HV) (gs : Int32) (RW : Nat → Option Nat) (p1 : Int32) (p2 : Int32) (p3 : Int32) (p5 : Int32) : Option (Int32 × Int32) :=
  (fX0_isDish ln hv p1).bind fun q1 =>
  if q1 = 0 then
    some ((-1000001), gs)
  else
    (fX0_isIn p2.toInt64 0 5).bind fun q2 =>
    if q2 = 0 then
      some ((-1000001), gs)
    else
      (fX0_isRow p3).bind fun q3 =>
      if q3 = 0 then
        some ((-1000001), gs)
      else
        (fX0_isTold p5).bind fun q4 =>
        if q4 = 0 then
          some ((-1000001), gs)
        else
          (fX0_rowAt RW p3).bind fun r6 =>
          match r6 with
          | .inr e8 => (fX0_found e8).bind fun q9 =>
          some (q9.1, q9.2)
          | .inl q7 =>
            none
def fX0_who_1 (ln : Nat → Option Int32) (lf : Nat → Nat → Option Nat) (dk : Nat → Option Nat) (ra : Nat) (rn : Nat) (hv : HV) (tv : HV) (gs : Int32) (RW : Nat → Option Nat) (TK : Nat → Option Nat) (RI : Nat → Int32) (p1 : Int32) (p2 : Int32) (p3 : Int32) (p4 : Int32) (p5 : Int32) : Option (Int32 × Int32 × HV) :=
  (fX0_isDish ln hv p1).bind fun q1 =>
  if q1 = 0 then
    some ((-1000001), gs, tv)
  else
    (fX0_isIn p2.toInt64 0 5).bind fun q2 =>
    if q2 = 0 then
      some ((-1000001), gs, tv)
    else
      (fX0_isRow p3).bind fun q3 =>
      if q3 = 0 then
        some ((-1000001), gs, tv)
      else
        (fX0_isTold p5).bind fun q4 =>
        if q4 = 0 then
          some ((-1000001), gs, tv)
        else
          (fX0_rowAt RW p3).bind fun r6 =>
          match r6 with
          | .inr e8 => (fX0_found e8).bind fun q9 =>
          some (q9.1, q9.2, tv)
          | .inl q7 =>
            (eqa q7 ra).bind fun g10 =>
            (fX11_row rn RI p4 p5).bind fun r12 =>
            match r12 with
            | .inr e14 => (fX0_found e14).bind fun q15 =>
            some (q15.1, q15.2, tv)
            | .inl q13 =>
              (if 2 ≤ p2 then
                (fX0_numberOf ln lf dk p5.toNatClampNeg hv tv TK q13 p1 p2).bind fun q19 =>
                some (q19.1, q19.2)
              else
                (fX0_setOf ln lf dk p5.toNatClampNeg hv tv TK q13 p1 p2).bind fun q20 =>
                some (q20.1, q20.2) : Option (Int32 × HV)).bind fun j17 =>
              (fX0_well j17.1).bind fun q18 =>
              some (q18.1, q18.2, j17.2)
theorem hd_X0_who : yX0_who.cls = "DishLift" ∧ yX0_who.cls ≠ "java/lang/invoke/MethodHandle" ∧ yX0_who.cls ≠ "java/lang/invoke/VarHandle" ∧ (parseMethodDescriptor yX0_who.desc).map (fun d => d.parameters.length) = some 5 := by decide +kernel
set_option maxHeartbeats 4000000 in
theorem mX0_who_0 (l : Launch) (D : va_G) (d : Nat → ClassId) (cs : Nat → Nat) (wi : va_W) (ln : Nat → Option Int32) (lf : Nat → Nat → Option Nat) (dk : Nat → Option Nat) (dn : Nat → Int32) (him : ImF d wi ln lf dk dn) (ha : Nat → Nat) (ta : Nat → Nat) (sa : Nat → Nat) (hv : HV) (tv : HV) (gt : Int32) (gf : Int32) (gc : Int32) (tra : Nat) (gs : Int32) (RW : Nat → Option Nat) (BE : Nat → Int32) (LI : Nat → Int32) (TK : Nat → Option Nat) (p1 : Int32) (p2 : Int32) (p3 : Int32) (p4 : Int32) (p5 : Int32)  (res : Int32 × Int32) (hf : fX0_who_0 ln hv gs RW p1 p2 p3 p5 = some res) : MetI l yX0_who (wsW_ yX0_who cX0_who 7 (some .int) [(38, 80, 81, 74)]) { frames := 6, cells := 2, slots := 47, locals := 151 } [.ref (sa 0), .int p1, .int p2, .int p3, .int p4, .int p5] (XI D cs wi) D d [oH ha (Hfl hv) (Hro hv) (Hrp hv) (Hca hv) (Hwy hv) (Hla hv) (Hmi hv) (Htf hv) (Htk hv), aV d ha 1 (HHO hv), aV d ha 2 (HAT hv), aV d ha 3 (HTO hv), aV d ha 4 (HWE hv), aV d ha 5 (HHE hv), aV d ha 6 (HRA hv), oS sa ha ta gt gf gc tra gs, ((sa 1), .inl (d 3, 8, .inr (.inr (.inr (.inr RW))))), ((sa 5), .inl (d 0, 6, .inl LI)), ((sa 6), .inl (d 0, 6, .inl BE)), ((sa 7), .inl (d 5, 5, .inr (.inr (.inr (.inr TK))))), oH ta (Hfl tv) (Hro tv) (Hrp tv) (Hca tv) (Hwy tv) (Hla tv) (Hmi tv) (Htf tv) (Htk tv), aV d ta 1 (HHO tv), aV d ta 2 (HAT tv), aV d ta 3 (HTO tv), aV d ta 4 (HWE tv), aV d ta 5 (HHE tv), aV d ta 6 (HRA tv)] (fun r (_ : Unit) => r = res.1) (fun _ => [oH ha (Hfl hv) (Hro hv) (Hrp hv) (Hca hv) (Hwy hv) (Hla hv) (Hmi hv) (Htf hv) (Htk hv), aV d ha 1 (HHO hv), aV d ha 2 (HAT hv), aV d ha 3 (HTO hv), aV d ha 4 (HWE hv), aV d ha 5 (HHE hv), aV d ha 6 (HRA hv), oS sa ha ta gt gf gc tra res.2, ((sa 1), .inl (d 3, 8, .inr (.inr (.inr (.inr RW))))), ((sa 5), .inl (d 0, 6, .inl LI)), ((sa 6), .inl (d 0, 6, .inl BE)), ((sa 7), .inl (d 5, 5, .inr (.inr (.inr (.inr TK))))), oH ta (Hfl tv) (Hro tv) (Hrp tv) (Hca tv) (Hwy tv) (Hla tv) (Hmi tv) (Htf tv) (Htk tv), aV d ta 1 (HHO tv), aV d ta 2 (HAT tv), aV d ta 3 (HTO tv), aV d ta 4 (HWE tv), aV d ta 5 (HHE tv), aV d ta 6 (HRA tv)]) := by
  have hX := XI.ok (D := D) (cs := cs) (wi := wi)
  refine MetI.ofH (by decide +kernel) (Nat.le_of_ble_eq_true rfl) ?_
  intro p e s m below meth c A cx hET hw ls hl
  have cx : Cx p s m _ meth c (XI D cs wi) D d A "DishLift" cX0_who 7 (some .int) "who" := cx
  have cx' := cx
  obtain ⟨hx, hb, hr, hlk, hml, hown, hts, hK, hA, hXs, hnm⟩ := cx'
  have hl : lv_has ls 7 [(0, .ref (sa 0)), (1, .int p1), (2, .int p2), (3, .int p3), (4, .int p4), (5, .int p5)] := hl
  generalize hlo : ([] : List Loc) = locs at hw ⊢
  unfold fX0_who_0 at hf
  refine lv_aload_n hx hb dX0_who_0 rfl (lv_at hl 0 rfl) ?_
  refine lv_iload_n hx hb dX0_who_1 rfl (lv_at hl 1 rfl) ?_
  obtain ⟨q1, hcq1, hf⟩ := op_e hf
  refine x_VI (wr := [((sa 1), .inl (d 3, 8, .inr (.inr (.inr (.inr RW))))), ((sa 5), .inl (d 0, 6, .inl LI)), ((sa 6), .inl (d 0, 6, .inl BE)), ((sa 7), .inl (d 5, 5, .inr (.inr (.inr (.inr TK))))), oH ta (Hfl tv) (Hro tv) (Hrp tv) (Hca tv) (Hwy tv) (Hla tv) (Hmi tv) (Htf tv) (Htk tv), aV d ta 1 (HHO tv), aV d ta 2 (HAT tv), aV d ta 3 (HTO tv), aV d ta 4 (HWE tv), aV d ta 5 (HHE tv), aV d ta 6 (HRA tv)]) (rest := []) [.int p1] hX cx hw hl.1 (mX0_isDish l  D d cs wi ln lf dk dn him ha sa ta hv gt gf gc tra gs p1  q1 hcq1) (lw_V q890 q892 qs23 q82 q893) hd_X0_isDish ⟨(Nat.le_of_ble_eq_true rfl), (Nat.le_of_ble_eq_true rfl)⟩ (va_recv hK hw.1 (ci := 1) (q0 := 7) rfl rfl) rfl rfl (Nat.le_of_ble_eq_true rfl) dX0_who_2 [0, 1, 2, 3, 4, 5, 6, 7] [8, 9, 10, 11, 12, 13, 14, 15, 16, 17, 18] rfl rfl rfl rfl (by decide) ⟨(Nat.le_of_ble_eq_true rfl), (Nat.le_of_ble_eq_true rfl)⟩ (fun r u H locs hp hw => ?_)
  have hw : Wd D A s [((sa 1), .inl (d 3, 8, .inr (.inr (.inr (.inr RW))))), ((sa 5), .inl (d 0, 6, .inl LI)), ((sa 6), .inl (d 0, 6, .inl BE)), ((sa 7), .inl (d 5, 5, .inr (.inr (.inr (.inr TK))))), oH ta (Hfl tv) (Hro tv) (Hrp tv) (Hca tv) (Hwy tv) (Hla tv) (Hmi tv) (Htf tv) (Htk tv), aV d ta 1 (HHO tv), aV d ta 2 (HAT tv), aV d ta 3 (HTO tv), aV d ta 4 (HWE tv), aV d ta 5 (HHE tv), aV d ta 6 (HRA tv), oH ha (Hfl hv) (Hro hv) (Hrp hv) (Hca hv) (Hwy hv) (Hla hv) (Hmi hv) (Htf hv) (Htk hv), aV d ha 1 (HHO hv), aV d ha 2 (HAT hv), aV d ha 3 (HTO hv), aV d ha 4 (HWE hv), aV d ha 5 (HHE hv), aV d ha 6 (HRA hv), oS sa ha ta gt gf gc tra gs] H locs := hw
  subst r
  refine lv_if_eq (tgt := 35) hx hb dX0_who_5 (by decide) (fun c5 => ?_) (fun c5 => ?_)
  · have hf := if_t hf c5
    refine lv_ldc (v := (-1000001)) hx hb hown (hts _ q350) dX0_who_35 ?_
    have hf := sm_e hf
    subst hf
    exact x_retI cx hw rfl () rfl [11, 12, 13, 14, 15, 16, 17, 18, 0, 1, 2, 3, 4, 5, 6, 7, 8, 9, 10] rfl rfl (Nat.le_of_ble_eq_true rfl) (Nat.le_of_ble_eq_true rfl) dX0_who_37
  · have hf := if_f hf c5
    refine lv_iload_n hx hb dX0_who_8 rfl (lv_at hl 2 rfl) ?_
    refine lv_i2l (v := p2.toInt64) hx hb dX0_who_9 rfl ?_
    refine lv_lconst (v := 0) hx hb dX0_who_10 (by decide) ?_
    refine lv_ldc2 (v := 5) hx hb hown (hts _ q1036) dX0_who_11 ?_
    obtain ⟨q2, hcq2, hf⟩ := op_e hf
    refine x_SI (wr := [((sa 1), .inl (d 3, 8, .inr (.inr (.inr (.inr RW))))), ((sa 5), .inl (d 0, 6, .inl LI)), ((sa 6), .inl (d 0, 6, .inl BE)), ((sa 7), .inl (d 5, 5, .inr (.inr (.inr (.inr TK))))), oH ta (Hfl tv) (Hro tv) (Hrp tv) (Hca tv) (Hwy tv) (Hla tv) (Hmi tv) (Htf tv) (Htk tv), aV d ta 1 (HHO tv), aV d ta 2 (HAT tv), aV d ta 3 (HTO tv), aV d ta 4 (HWE tv), aV d ta 5 (HHE tv), aV d ta 6 (HRA tv), oH ha (Hfl hv) (Hro hv) (Hrp hv) (Hca hv) (Hwy hv) (Hla hv) (Hmi hv) (Htf hv) (Htk hv), aV d ha 1 (HHO hv), aV d ha 2 (HAT hv), aV d ha 3 (HTO hv), aV d ha 4 (HWE hv), aV d ha 5 (HHE hv), aV d ha 6 (HRA hv), oS sa ha ta gt gf gc tra gs]) (rest := []) [.long p2.toInt64, .long 0, .long 5] hX cx hw hl.1 (mX0_isIn l (XI D cs wi) hX D d  p2.toInt64 0 5  q2 hcq2) (lw_S q346 q347 q82 q348) hd_X0_isIn ⟨(Nat.le_of_ble_eq_true rfl), (Nat.le_of_ble_eq_true rfl)⟩ rfl rfl (Nat.le_of_ble_eq_true rfl) dX0_who_14 [] [0, 1, 2, 3, 4, 5, 6, 7, 8, 9, 10, 11, 12, 13, 14, 15, 16, 17, 18] rfl rfl rfl rfl (by decide) ⟨(Nat.le_of_ble_eq_true rfl), (Nat.le_of_ble_eq_true rfl)⟩ (fun r u H locs hp hw => ?_)
    have hw : Wd D A s [((sa 1), .inl (d 3, 8, .inr (.inr (.inr (.inr RW))))), ((sa 5), .inl (d 0, 6, .inl LI)), ((sa 6), .inl (d 0, 6, .inl BE)), ((sa 7), .inl (d 5, 5, .inr (.inr (.inr (.inr TK))))), oH ta (Hfl tv) (Hro tv) (Hrp tv) (Hca tv) (Hwy tv) (Hla tv) (Hmi tv) (Htf tv) (Htk tv), aV d ta 1 (HHO tv), aV d ta 2 (HAT tv), aV d ta 3 (HTO tv), aV d ta 4 (HWE tv), aV d ta 5 (HHE tv), aV d ta 6 (HRA tv), oH ha (Hfl hv) (Hro hv) (Hrp hv) (Hca hv) (Hwy hv) (Hla hv) (Hmi hv) (Htf hv) (Htk hv), aV d ha 1 (HHO hv), aV d ha 2 (HAT hv), aV d ha 3 (HTO hv), aV d ha 4 (HWE hv), aV d ha 5 (HHE hv), aV d ha 6 (HRA hv), oS sa ha ta gt gf gc tra gs] H locs := hw
    subst r
    refine lv_if_eq (tgt := 35) hx hb dX0_who_17 (by decide) (fun c17 => ?_) (fun c17 => ?_)
    · have hf := if_t hf c17
      refine lv_ldc (v := (-1000001)) hx hb hown (hts _ q350) dX0_who_35 ?_
      have hf := sm_e hf
      subst hf
      exact x_retI cx hw rfl () rfl [11, 12, 13, 14, 15, 16, 17, 18, 0, 1, 2, 3, 4, 5, 6, 7, 8, 9, 10] rfl rfl (Nat.le_of_ble_eq_true rfl) (Nat.le_of_ble_eq_true rfl) dX0_who_37
    · have hf := if_f hf c17
      refine lv_iload_n hx hb dX0_who_20 rfl (lv_at hl 3 rfl) ?_
      obtain ⟨q3, hcq3, hf⟩ := op_e hf
      refine x_SI (wr := [((sa 1), .inl (d 3, 8, .inr (.inr (.inr (.inr RW))))), ((sa 5), .inl (d 0, 6, .inl LI)), ((sa 6), .inl (d 0, 6, .inl BE)), ((sa 7), .inl (d 5, 5, .inr (.inr (.inr (.inr TK))))), oH ta (Hfl tv) (Hro tv) (Hrp tv) (Hca tv) (Hwy tv) (Hla tv) (Hmi tv) (Htf tv) (Htk tv), aV d ta 1 (HHO tv), aV d ta 2 (HAT tv), aV d ta 3 (HTO tv), aV d ta 4 (HWE tv), aV d ta 5 (HHE tv), aV d ta 6 (HRA tv), oH ha (Hfl hv) (Hro hv) (Hrp hv) (Hca hv) (Hwy hv) (Hla hv) (Hmi hv) (Htf hv) (Htk hv), aV d ha 1 (HHO hv), aV d ha 2 (HAT hv), aV d ha 3 (HTO hv), aV d ha 4 (HWE hv), aV d ha 5 (HHE hv), aV d ha 6 (HRA hv), oS sa ha ta gt gf gc tra gs]) (rest := []) [.int p3] hX cx hw hl.1 (mX0_isRow l (XI D cs wi) hX D d  p3  q3 hcq3) (lw_S q342 q343 q82 q344) hd_X0_isRow ⟨(Nat.le_of_ble_eq_true rfl), (Nat.le_of_ble_eq_true rfl)⟩ rfl rfl (Nat.le_of_ble_eq_true rfl) dX0_who_21 [] [0, 1, 2, 3, 4, 5, 6, 7, 8, 9, 10, 11, 12, 13, 14, 15, 16, 17, 18] rfl rfl rfl rfl (by decide) ⟨(Nat.le_of_ble_eq_true rfl), (Nat.le_of_ble_eq_true rfl)⟩ (fun r u H locs hp hw => ?_)
      have hw : Wd D A s [((sa 1), .inl (d 3, 8, .inr (.inr (.inr (.inr RW))))), ((sa 5), .inl (d 0, 6, .inl LI)), ((sa 6), .inl (d 0, 6, .inl BE)), ((sa 7), .inl (d 5, 5, .inr (.inr (.inr (.inr TK))))), oH ta (Hfl tv) (Hro tv) (Hrp tv) (Hca tv) (Hwy tv) (Hla tv) (Hmi tv) (Htf tv) (Htk tv), aV d ta 1 (HHO tv), aV d ta 2 (HAT tv), aV d ta 3 (HTO tv), aV d ta 4 (HWE tv), aV d ta 5 (HHE tv), aV d ta 6 (HRA tv), oH ha (Hfl hv) (Hro hv) (Hrp hv) (Hca hv) (Hwy hv) (Hla hv) (Hmi hv) (Htf hv) (Htk hv), aV d ha 1 (HHO hv), aV d ha 2 (HAT hv), aV d ha 3 (HTO hv), aV d ha 4 (HWE hv), aV d ha 5 (HHE hv), aV d ha 6 (HRA hv), oS sa ha ta gt gf gc tra gs] H locs := hw
      subst r
      refine lv_if_eq (tgt := 35) hx hb dX0_who_24 (by decide) (fun c24 => ?_) (fun c24 => ?_)
      · have hf := if_t hf c24
        refine lv_ldc (v := (-1000001)) hx hb hown (hts _ q350) dX0_who_35 ?_
        have hf := sm_e hf
        subst hf
        exact x_retI cx hw rfl () rfl [11, 12, 13, 14, 15, 16, 17, 18, 0, 1, 2, 3, 4, 5, 6, 7, 8, 9, 10] rfl rfl (Nat.le_of_ble_eq_true rfl) (Nat.le_of_ble_eq_true rfl) dX0_who_37
      · have hf := if_f hf c24
        refine lv_iload hx hb dX0_who_27 (lv_at hl 5 rfl) ?_
        obtain ⟨q4, hcq4, hf⟩ := op_e hf
        refine x_SI (wr := [((sa 1), .inl (d 3, 8, .inr (.inr (.inr (.inr RW))))), ((sa 5), .inl (d 0, 6, .inl LI)), ((sa 6), .inl (d 0, 6, .inl BE)), ((sa 7), .inl (d 5, 5, .inr (.inr (.inr (.inr TK))))), oH ta (Hfl tv) (Hro tv) (Hrp tv) (Hca tv) (Hwy tv) (Hla tv) (Hmi tv) (Htf tv) (Htk tv), aV d ta 1 (HHO tv), aV d ta 2 (HAT tv), aV d ta 3 (HTO tv), aV d ta 4 (HWE tv), aV d ta 5 (HHE tv), aV d ta 6 (HRA tv), oH ha (Hfl hv) (Hro hv) (Hrp hv) (Hca hv) (Hwy hv) (Hla hv) (Hmi hv) (Htf hv) (Htk hv), aV d ha 1 (HHO hv), aV d ha 2 (HAT hv), aV d ha 3 (HTO hv), aV d ha 4 (HWE hv), aV d ha 5 (HHE hv), aV d ha 6 (HRA hv), oS sa ha ta gt gf gc tra gs]) (rest := []) [.int p5] hX cx hw hl.1 (mX0_isTold l (XI D cs wi) hX D d  p5  q4 hcq4) (lw_S q1037 q1038 q82 q1039) hd_X0_isTold ⟨(Nat.le_of_ble_eq_true rfl), (Nat.le_of_ble_eq_true rfl)⟩ rfl rfl (Nat.le_of_ble_eq_true rfl) dX0_who_29 [] [0, 1, 2, 3, 4, 5, 6, 7, 8, 9, 10, 11, 12, 13, 14, 15, 16, 17, 18] rfl rfl rfl rfl (by decide) ⟨(Nat.le_of_ble_eq_true rfl), (Nat.le_of_ble_eq_true rfl)⟩ (fun r u H locs hp hw => ?_)
        have hw : Wd D A s [((sa 1), .inl (d 3, 8, .inr (.inr (.inr (.inr RW))))), ((sa 5), .inl (d 0, 6, .inl LI)), ((sa 6), .inl (d 0, 6, .inl BE)), ((sa 7), .inl (d 5, 5, .inr (.inr (.inr (.inr TK))))), oH ta (Hfl tv) (Hro tv) (Hrp tv) (Hca tv) (Hwy tv) (Hla tv) (Hmi tv) (Htf tv) (Htk tv), aV d ta 1 (HHO tv), aV d ta 2 (HAT tv), aV d ta 3 (HTO tv), aV d ta 4 (HWE tv), aV d ta 5 (HHE tv), aV d ta 6 (HRA tv), oH ha (Hfl hv) (Hro hv) (Hrp hv) (Hca hv) (Hwy hv) (Hla hv) (Hmi hv) (Htf hv) (Htk hv), aV d ha 1 (HHO hv), aV d ha 2 (HAT hv), aV d ha 3 (HTO hv), aV d ha 4 (HWE hv), aV d ha 5 (HHE hv), aV d ha 6 (HRA hv), oS sa ha ta gt gf gc tra gs] H locs := hw
        subst r
        refine lv_if_ne (tgt := 38) hx hb dX0_who_32 (by decide) (fun c32 => ?_) (fun c32 => ?_)
        · have hf := if_f hf c32
          refine lv_aload_n hx hb dX0_who_38 rfl (lv_at hl 0 rfl) ?_
          refine lv_iload_n hx hb dX0_who_39 rfl (lv_at hl 3 rfl) ?_
          obtain ⟨r6, hcr6, hf⟩ := op_e hf
          rcases r6 with q7 | e8
          · refine x_VA (wr := [((sa 5), .inl (d 0, 6, .inl LI)), ((sa 6), .inl (d 0, 6, .inl BE)), ((sa 7), .inl (d 5, 5, .inr (.inr (.inr (.inr TK))))), oH ta (Hfl tv) (Hro tv) (Hrp tv) (Hca tv) (Hwy tv) (Hla tv) (Hmi tv) (Htf tv) (Htk tv), aV d ta 1 (HHO tv), aV d ta 2 (HAT tv), aV d ta 3 (HTO tv), aV d ta 4 (HWE tv), aV d ta 5 (HHE tv), aV d ta 6 (HRA tv), oH ha (Hfl hv) (Hro hv) (Hrp hv) (Hca hv) (Hwy hv) (Hla hv) (Hmi hv) (Htf hv) (Htk hv), aV d ha 1 (HHO hv), aV d ha 2 (HAT hv), aV d ha 3 (HTO hv), aV d ha 4 (HWE hv), aV d ha 5 (HHE hv), aV d ha 6 (HRA hv)]) (rest := []) [.int p3] hX cx hw hl.1 (mX0_rowAt l D d cs wi ln lf dk dn him sa ha ta gt gf gc tra gs RW p3  q7 hcr6) (lw_V q446 q448 qs3 q82 q449) hd_X0_rowAt ⟨(Nat.le_of_ble_eq_true rfl), (Nat.le_of_ble_eq_true rfl)⟩ (va_recv hK hw.1 (ci := 1) (q0 := 18) rfl rfl) rfl rfl (Nat.le_of_ble_eq_true rfl) dX0_who_40 [18, 0] [1, 2, 3, 4, 5, 6, 7, 8, 9, 10, 11, 12, 13, 14, 15, 16, 17] rfl rfl rfl rfl (by decide) ⟨(Nat.le_of_ble_eq_true rfl), (Nat.le_of_ble_eq_true rfl)⟩ (fun u H locs hp hw => ?_)
            have hw : Wd D A s [((sa 5), .inl (d 0, 6, .inl LI)), ((sa 6), .inl (d 0, 6, .inl BE)), ((sa 7), .inl (d 5, 5, .inr (.inr (.inr (.inr TK))))), oH ta (Hfl tv) (Hro tv) (Hrp tv) (Hca tv) (Hwy tv) (Hla tv) (Hmi tv) (Htf tv) (Htk tv), aV d ta 1 (HHO tv), aV d ta 2 (HAT tv), aV d ta 3 (HTO tv), aV d ta 4 (HWE tv), aV d ta 5 (HHE tv), aV d ta 6 (HRA tv), oH ha (Hfl hv) (Hro hv) (Hrp hv) (Hca hv) (Hwy hv) (Hla hv) (Hmi hv) (Htf hv) (Htk hv), aV d ha 1 (HHO hv), aV d ha 2 (HAT hv), aV d ha 3 (HTO hv), aV d ha 4 (HWE hv), aV d ha 5 (HHE hv), aV d ha 6 (HRA hv), oS sa ha ta gt gf gc tra gs, ((sa 1), .inl (d 3, 8, .inr (.inr (.inr (.inr RW)))))] H locs := hw
            refine lv_iload hx hb dX0_who_43 (lv_at hl 4 rfl) ?_
            refine lv_iload hx hb dX0_who_45 (lv_at hl 5 rfl) ?_
            cases hf
          · refine x_TV (wr := [((sa 5), .inl (d 0, 6, .inl LI)), ((sa 6), .inl (d 0, 6, .inl BE)), ((sa 7), .inl (d 5, 5, .inr (.inr (.inr (.inr TK))))), oH ta (Hfl tv) (Hro tv) (Hrp tv) (Hca tv) (Hwy tv) (Hla tv) (Hmi tv) (Htf tv) (Htk tv), aV d ta 1 (HHO tv), aV d ta 2 (HAT tv), aV d ta 3 (HTO tv), aV d ta 4 (HWE tv), aV d ta 5 (HHE tv), aV d ta 6 (HRA tv), oH ha (Hfl hv) (Hro hv) (Hrp hv) (Hca hv) (Hwy hv) (Hla hv) (Hmi hv) (Htf hv) (Htk hv), aV d ha 1 (HHO hv), aV d ha 2 (HAT hv), aV d ha 3 (HTO hv), aV d ha 4 (HWE hv), aV d ha 5 (HHE hv), aV d ha 6 (HRA hv)]) (rest := []) [.int p3] hX cx hw hl.1 (tX0_rowAt l D d cs wi ln lf dk dn him sa ha ta gt gf gc tra gs RW p3  e8 hcr6) (lw_V q446 q448 qs3 q82 q449) hd_X0_rowAt ⟨(Nat.le_of_ble_eq_true rfl), (Nat.le_of_ble_eq_true rfl)⟩ (va_recv hK hw.1 (ci := 1) (q0 := 18) rfl rfl) rfl rfl (Nat.le_of_ble_eq_true rfl) dX0_who_40 [18, 0] [1, 2, 3, 4, 5, 6, 7, 8, 9, 10, 11, 12, 13, 14, 15, 16, 17] rfl rfl rfl rfl (by decide) ⟨(Nat.le_of_ble_eq_true rfl), (Nat.le_of_ble_eq_true rfl)⟩ (fun a5 ce u H locs hw g1 g2 g3 => ?_)
            have hw : Wd D A s [((sa 5), .inl (d 0, 6, .inl LI)), ((sa 6), .inl (d 0, 6, .inl BE)), ((sa 7), .inl (d 5, 5, .inr (.inr (.inr (.inr TK))))), oH ta (Hfl tv) (Hro tv) (Hrp tv) (Hca tv) (Hwy tv) (Hla tv) (Hmi tv) (Htf tv) (Htk tv), aV d ta 1 (HHO tv), aV d ta 2 (HAT tv), aV d ta 3 (HTO tv), aV d ta 4 (HWE tv), aV d ta 5 (HHE tv), aV d ta 6 (HRA tv), oH ha (Hfl hv) (Hro hv) (Hrp hv) (Hca hv) (Hwy hv) (Hla hv) (Hmi hv) (Htf hv) (Htk hv), aV d ha 1 (HHO hv), aV d ha 2 (HAT hv), aV d ha 3 (HTO hv), aV d ha 4 (HWE hv), aV d ha 5 (HHE hv), aV d ha 6 (HRA hv), oS sa ha ta gt gf gc tra gs, ((sa 1), .inl (d 3, 8, .inr (.inr (.inr (.inr RW))))), (a5, .inr (12, [.null, .null, .null, .null, .null, .int 0, .int e8]))] H locs := hw
            refine vx_catch (E := "DishLift$Finding") (ce := ce) hown [] ⟨38, 80, 81, 74⟩ [] hET (fun z hz => absurd hz List.not_mem_nil) rfl (by decide) (hts _ q341) (va_tabs rfl rfl (Tb.cast q355 hXs.1)) g1 g2 g3 ?_
            refine W.eq (g2 := F0 m 81 ls [.ref a5]) rfl ?_
            refine W.widen (k := 1) (n := 7) (Nat.le_of_ble_eq_true rfl) (Nat.le_of_ble_eq_true rfl) ?_
            refine lv_astore (lv' := [(6, .ref a5), (0, .ref (sa 0)), (1, .int p1), (2, .int p2), (3, .int p3), (4, .int p4), (5, .int p5)]) hx hb dX0_who_81 hl (by decide) rfl (fun ls hl => ?_)
            refine lv_aload_n hx hb dX0_who_83 rfl (lv_at hl 1 rfl) ?_
            refine lv_aload hx hb dX0_who_84 (lv_at hl 0 rfl) ?_
            obtain ⟨q9, hcq9, hf⟩ := op_e hf
            refine x_VI (wr := [((sa 5), .inl (d 0, 6, .inl LI)), ((sa 6), .inl (d 0, 6, .inl BE)), ((sa 7), .inl (d 5, 5, .inr (.inr (.inr (.inr TK))))), oH ta (Hfl tv) (Hro tv) (Hrp tv) (Hca tv) (Hwy tv) (Hla tv) (Hmi tv) (Htf tv) (Htk tv), aV d ta 1 (HHO tv), aV d ta 2 (HAT tv), aV d ta 3 (HTO tv), aV d ta 4 (HWE tv), aV d ta 5 (HHE tv), aV d ta 6 (HRA tv), oH ha (Hfl hv) (Hro hv) (Hrp hv) (Hca hv) (Hwy hv) (Hla hv) (Hmi hv) (Htf hv) (Htk hv), aV d ha 1 (HHO hv), aV d ha 2 (HAT hv), aV d ha 3 (HTO hv), aV d ha 4 (HWE hv), aV d ha 5 (HHE hv), aV d ha 6 (HRA hv), ((sa 1), .inl (d 3, 8, .inr (.inr (.inr (.inr RW)))))]) (rest := []) [.ref a5] hX cx hw hl.1 (mX0_found l  D d cs wi ln lf dk dn him sa ha ta a5 gt gf gc tra gs e8  q9 hcq9) (lw_V q437 q439 qs2 q82 q440) hd_X0_found ⟨(Nat.le_of_ble_eq_true rfl), (Nat.le_of_ble_eq_true rfl)⟩ (va_recv hK hw.1 (ci := 1) (q0 := 17) rfl rfl) rfl rfl (Nat.le_of_ble_eq_true rfl) dX0_who_86 [19, 17] [0, 1, 2, 3, 4, 5, 6, 7, 8, 9, 10, 11, 12, 13, 14, 15, 16, 18] rfl rfl rfl rfl (by decide) ⟨(Nat.le_of_ble_eq_true rfl), (Nat.le_of_ble_eq_true rfl)⟩ (fun r u H locs hp hw => ?_)
            have hw : Wd D A s [((sa 5), .inl (d 0, 6, .inl LI)), ((sa 6), .inl (d 0, 6, .inl BE)), ((sa 7), .inl (d 5, 5, .inr (.inr (.inr (.inr TK))))), oH ta (Hfl tv) (Hro tv) (Hrp tv) (Hca tv) (Hwy tv) (Hla tv) (Hmi tv) (Htf tv) (Htk tv), aV d ta 1 (HHO tv), aV d ta 2 (HAT tv), aV d ta 3 (HTO tv), aV d ta 4 (HWE tv), aV d ta 5 (HHE tv), aV d ta 6 (HRA tv), oH ha (Hfl hv) (Hro hv) (Hrp hv) (Hca hv) (Hwy hv) (Hla hv) (Hmi hv) (Htf hv) (Htk hv), aV d ha 1 (HHO hv), aV d ha 2 (HAT hv), aV d ha 3 (HTO hv), aV d ha 4 (HWE hv), aV d ha 5 (HHE hv), aV d ha 6 (HRA hv), ((sa 1), .inl (d 3, 8, .inr (.inr (.inr (.inr RW))))), (a5, .inr (12, [.null, .null, .null, .null, .null, .int 0, .int e8])), oS sa ha ta gt gf gc tra q9.2] H locs := hw
            subst r
            have hf := sm_e hf
            subst hf
            exact x_retI cx hw rfl () rfl [10, 11, 12, 13, 14, 15, 16, 19, 17, 0, 1, 2, 3, 4, 5, 6, 7, 8, 9] rfl rfl (Nat.le_of_ble_eq_true rfl) (Nat.le_of_ble_eq_true rfl) dX0_who_89
        · have hf := if_t hf c32
          refine lv_ldc (v := (-1000001)) hx hb hown (hts _ q350) dX0_who_35 ?_
          have hf := sm_e hf
          subst hf
          exact x_retI cx hw rfl () rfl [11, 12, 13, 14, 15, 16, 17, 18, 0, 1, 2, 3, 4, 5, 6, 7, 8, 9, 10] rfl rfl (Nat.le_of_ble_eq_true rfl) (Nat.le_of_ble_eq_true rfl) dX0_who_37
set_option maxHeartbeats 4000000 in
theorem mX0_who_1 (l : Launch) (D : va_G) (d : Nat → ClassId) (cs : Nat → Nat) (wi : va_W) (ln : Nat → Option Int32) (lf : Nat → Nat → Option Nat) (dk : Nat → Option Nat) (dn : Nat → Int32) (him : ImF d wi ln lf dk dn) (ha : Nat → Nat) (ta : Nat → Nat) (sa : Nat → Nat) (ra : Nat) (ria : Nat) (rn : Nat) (hv : HV) (tv : HV) (gt : Int32) (gf : Int32) (gc : Int32) (tra : Nat) (gs : Int32) (RW : Nat → Option Nat) (BE : Nat → Int32) (LI : Nat → Int32) (TK : Nat → Option Nat) (rl : Int32) (RI : Nat → Int32) (p1 : Int32) (p2 : Int32) (p3 : Int32) (p4 : Int32) (p5 : Int32)  (res : Int32 × Int32 × HV) (hf : fX0_who_1 ln lf dk ra rn hv tv gs RW TK RI p1 p2 p3 p4 p5 = some res) : MetI l yX0_who (wsW_ yX0_who cX0_who 7 (some .int) [(38, 80, 81, 74)]) { frames := 8, cells := 2, slots := 47, locals := 234 } [.ref (sa 0), .int p1, .int p2, .int p3, .int p4, .int p5] (XI D cs wi) D d [oH ha (Hfl hv) (Hro hv) (Hrp hv) (Hca hv) (Hwy hv) (Hla hv) (Hmi hv) (Htf hv) (Htk hv), aV d ha 1 (HHO hv), aV d ha 2 (HAT hv), aV d ha 3 (HTO hv), aV d ha 4 (HWE hv), aV d ha 5 (HHE hv), aV d ha 6 (HRA hv), (ra, .inr (10, [.int rl, .ref ria])), (ria, .inl (d 0, rn, .inl RI)), oS sa ha ta gt gf gc tra gs, ((sa 1), .inl (d 3, 8, .inr (.inr (.inr (.inr RW))))), ((sa 5), .inl (d 0, 6, .inl LI)), ((sa 6), .inl (d 0, 6, .inl BE)), ((sa 7), .inl (d 5, 5, .inr (.inr (.inr (.inr TK))))), oH ta (Hfl tv) (Hro tv) (Hrp tv) (Hca tv) (Hwy tv) (Hla tv) (Hmi tv) (Htf tv) (Htk tv), aV d ta 1 (HHO tv), aV d ta 2 (HAT tv), aV d ta 3 (HTO tv), aV d ta 4 (HWE tv), aV d ta 5 (HHE tv), aV d ta 6 (HRA tv)] (fun r (_ : Unit) => r = res.1) (fun _ => [oH ha (Hfl hv) (Hro hv) (Hrp hv) (Hca hv) (Hwy hv) (Hla hv) (Hmi hv) (Htf hv) (Htk hv), aV d ha 1 (HHO hv), aV d ha 2 (HAT hv), aV d ha 3 (HTO hv), aV d ha 4 (HWE hv), aV d ha 5 (HHE hv), aV d ha 6 (HRA hv), (ra, .inr (10, [.int rl, .ref ria])), (ria, .inl (d 0, rn, .inl RI)), oS sa ha ta gt gf gc tra res.2.1, ((sa 1), .inl (d 3, 8, .inr (.inr (.inr (.inr RW))))), ((sa 5), .inl (d 0, 6, .inl LI)), ((sa 6), .inl (d 0, 6, .inl BE)), ((sa 7), .inl (d 5, 5, .inr (.inr (.inr (.inr TK))))), oH ta (Hfl res.2.2) (Hro res.2.2) (Hrp res.2.2) (Hca res.2.2) (Hwy res.2.2) (Hla res.2.2) (Hmi res.2.2) (Htf res.2.2) (Htk res.2.2), aV d ta 1 (HHO res.2.2), aV d ta 2 (HAT res.2.2), aV d ta 3 (HTO res.2.2), aV d ta 4 (HWE res.2.2), aV d ta 5 (HHE res.2.2), aV d ta 6 (HRA res.2.2)]) := by
  have hX := XI.ok (D := D) (cs := cs) (wi := wi)
  refine MetI.ofH (by decide +kernel) (Nat.le_of_ble_eq_true rfl) ?_
  intro p e s m below meth c A cx hET hw ls hl
  have cx : Cx p s m _ meth c (XI D cs wi) D d A "DishLift" cX0_who 7 (some .int) "who" := cx
  have cx' := cx
  obtain ⟨hx, hb, hr, hlk, hml, hown, hts, hK, hA, hXs, hnm⟩ := cx'
  have hl : lv_has ls 7 [(0, .ref (sa 0)), (1, .int p1), (2, .int p2), (3, .int p3), (4, .int p4), (5, .int p5)] := hl
  generalize hlo : ([] : List Loc) = locs at hw ⊢
  unfold fX0_who_1 at hf
  refine lv_aload_n hx hb dX0_who_0 rfl (lv_at hl 0 rfl) ?_
  refine lv_iload_n hx hb dX0_who_1 rfl (lv_at hl 1 rfl) ?_
  obtain ⟨q1, hcq1, hf⟩ := op_e hf
  refine x_VI (wr := [(ra, .inr (10, [.int rl, .ref ria])), (ria, .inl (d 0, rn, .inl RI)), ((sa 1), .inl (d 3, 8, .inr (.inr (.inr (.inr RW))))), ((sa 5), .inl (d 0, 6, .inl LI)), ((sa 6), .inl (d 0, 6, .inl BE)), ((sa 7), .inl (d 5, 5, .inr (.inr (.inr (.inr TK))))), oH ta (Hfl tv) (Hro tv) (Hrp tv) (Hca tv) (Hwy tv) (Hla tv) (Hmi tv) (Htf tv) (Htk tv), aV d ta 1 (HHO tv), aV d ta 2 (HAT tv), aV d ta 3 (HTO tv), aV d ta 4 (HWE tv), aV d ta 5 (HHE tv), aV d ta 6 (HRA tv)]) (rest := []) [.int p1] hX cx hw hl.1 (mX0_isDish l  D d cs wi ln lf dk dn him ha sa ta hv gt gf gc tra gs p1  q1 hcq1) (lw_V q890 q892 qs23 q82 q893) hd_X0_isDish ⟨(Nat.le_of_ble_eq_true rfl), (Nat.le_of_ble_eq_true rfl)⟩ (va_recv hK hw.1 (ci := 1) (q0 := 9) rfl rfl) rfl rfl (Nat.le_of_ble_eq_true rfl) dX0_who_2 [0, 1, 2, 3, 4, 5, 6, 9] [7, 8, 10, 11, 12, 13, 14, 15, 16, 17, 18, 19, 20] rfl rfl rfl rfl (by decide) ⟨(Nat.le_of_ble_eq_true rfl), (Nat.le_of_ble_eq_true rfl)⟩ (fun r u H locs hp hw => ?_)
  have hw : Wd D A s [(ra, .inr (10, [.int rl, .ref ria])), (ria, .inl (d 0, rn, .inl RI)), ((sa 1), .inl (d 3, 8, .inr (.inr (.inr (.inr RW))))), ((sa 5), .inl (d 0, 6, .inl LI)), ((sa 6), .inl (d 0, 6, .inl BE)), ((sa 7), .inl (d 5, 5, .inr (.inr (.inr (.inr TK))))), oH ta (Hfl tv) (Hro tv) (Hrp tv) (Hca tv) (Hwy tv) (Hla tv) (Hmi tv) (Htf tv) (Htk tv), aV d ta 1 (HHO tv), aV d ta 2 (HAT tv), aV d ta 3 (HTO tv), aV d ta 4 (HWE tv), aV d ta 5 (HHE tv), aV d ta 6 (HRA tv), oH ha (Hfl hv) (Hro hv) (Hrp hv) (Hca hv) (Hwy hv) (Hla hv) (Hmi hv) (Htf hv) (Htk hv), aV d ha 1 (HHO hv), aV d ha 2 (HAT hv), aV d ha 3 (HTO hv), aV d ha 4 (HWE hv), aV d ha 5 (HHE hv), aV d ha 6 (HRA hv), oS sa ha ta gt gf gc tra gs] H locs := hw
  subst r
  refine lv_if_eq (tgt := 35) hx hb dX0_who_5 (by decide) (fun c5 => ?_) (fun c5 => ?_)
  · have hf := if_t hf c5
    refine lv_ldc (v := (-1000001)) hx hb hown (hts _ q350) dX0_who_35 ?_
    have hf := sm_e hf
    subst hf
    exact x_retI cx hw rfl () rfl [13, 14, 15, 16, 17, 18, 19, 0, 1, 20, 2, 3, 4, 5, 6, 7, 8, 9, 10, 11, 12] rfl rfl (Nat.le_of_ble_eq_true rfl) (Nat.le_of_ble_eq_true rfl) dX0_who_37
  · have hf := if_f hf c5
    refine lv_iload_n hx hb dX0_who_8 rfl (lv_at hl 2 rfl) ?_
    refine lv_i2l (v := p2.toInt64) hx hb dX0_who_9 rfl ?_
    refine lv_lconst (v := 0) hx hb dX0_who_10 (by decide) ?_
    refine lv_ldc2 (v := 5) hx hb hown (hts _ q1036) dX0_who_11 ?_
    obtain ⟨q2, hcq2, hf⟩ := op_e hf
    refine x_SI (wr := [(ra, .inr (10, [.int rl, .ref ria])), (ria, .inl (d 0, rn, .inl RI)), ((sa 1), .inl (d 3, 8, .inr (.inr (.inr (.inr RW))))), ((sa 5), .inl (d 0, 6, .inl LI)), ((sa 6), .inl (d 0, 6, .inl BE)), ((sa 7), .inl (d 5, 5, .inr (.inr (.inr (.inr TK))))), oH ta (Hfl tv) (Hro tv) (Hrp tv) (Hca tv) (Hwy tv) (Hla tv) (Hmi tv) (Htf tv) (Htk tv), aV d ta 1 (HHO tv), aV d ta 2 (HAT tv), aV d ta 3 (HTO tv), aV d ta 4 (HWE tv), aV d ta 5 (HHE tv), aV d ta 6 (HRA tv), oH ha (Hfl hv) (Hro hv) (Hrp hv) (Hca hv) (Hwy hv) (Hla hv) (Hmi hv) (Htf hv) (Htk hv), aV d ha 1 (HHO hv), aV d ha 2 (HAT hv), aV d ha 3 (HTO hv), aV d ha 4 (HWE hv), aV d ha 5 (HHE hv), aV d ha 6 (HRA hv), oS sa ha ta gt gf gc tra gs]) (rest := []) [.long p2.toInt64, .long 0, .long 5] hX cx hw hl.1 (mX0_isIn l (XI D cs wi) hX D d  p2.toInt64 0 5  q2 hcq2) (lw_S q346 q347 q82 q348) hd_X0_isIn ⟨(Nat.le_of_ble_eq_true rfl), (Nat.le_of_ble_eq_true rfl)⟩ rfl rfl (Nat.le_of_ble_eq_true rfl) dX0_who_14 [] [0, 1, 2, 3, 4, 5, 6, 7, 8, 9, 10, 11, 12, 13, 14, 15, 16, 17, 18, 19, 20] rfl rfl rfl rfl (by decide) ⟨(Nat.le_of_ble_eq_true rfl), (Nat.le_of_ble_eq_true rfl)⟩ (fun r u H locs hp hw => ?_)
    have hw : Wd D A s [(ra, .inr (10, [.int rl, .ref ria])), (ria, .inl (d 0, rn, .inl RI)), ((sa 1), .inl (d 3, 8, .inr (.inr (.inr (.inr RW))))), ((sa 5), .inl (d 0, 6, .inl LI)), ((sa 6), .inl (d 0, 6, .inl BE)), ((sa 7), .inl (d 5, 5, .inr (.inr (.inr (.inr TK))))), oH ta (Hfl tv) (Hro tv) (Hrp tv) (Hca tv) (Hwy tv) (Hla tv) (Hmi tv) (Htf tv) (Htk tv), aV d ta 1 (HHO tv), aV d ta 2 (HAT tv), aV d ta 3 (HTO tv), aV d ta 4 (HWE tv), aV d ta 5 (HHE tv), aV d ta 6 (HRA tv), oH ha (Hfl hv) (Hro hv) (Hrp hv) (Hca hv) (Hwy hv) (Hla hv) (Hmi hv) (Htf hv) (Htk hv), aV d ha 1 (HHO hv), aV d ha 2 (HAT hv), aV d ha 3 (HTO hv), aV d ha 4 (HWE hv), aV d ha 5 (HHE hv), aV d ha 6 (HRA hv), oS sa ha ta gt gf gc tra gs] H locs := hw
    subst r
    refine lv_if_eq (tgt := 35) hx hb dX0_who_17 (by decide) (fun c17 => ?_) (fun c17 => ?_)
    · have hf := if_t hf c17
      refine lv_ldc (v := (-1000001)) hx hb hown (hts _ q350) dX0_who_35 ?_
      have hf := sm_e hf
      subst hf
      exact x_retI cx hw rfl () rfl [13, 14, 15, 16, 17, 18, 19, 0, 1, 20, 2, 3, 4, 5, 6, 7, 8, 9, 10, 11, 12] rfl rfl (Nat.le_of_ble_eq_true rfl) (Nat.le_of_ble_eq_true rfl) dX0_who_37
    · have hf := if_f hf c17
      refine lv_iload_n hx hb dX0_who_20 rfl (lv_at hl 3 rfl) ?_
      obtain ⟨q3, hcq3, hf⟩ := op_e hf
      refine x_SI (wr := [(ra, .inr (10, [.int rl, .ref ria])), (ria, .inl (d 0, rn, .inl RI)), ((sa 1), .inl (d 3, 8, .inr (.inr (.inr (.inr RW))))), ((sa 5), .inl (d 0, 6, .inl LI)), ((sa 6), .inl (d 0, 6, .inl BE)), ((sa 7), .inl (d 5, 5, .inr (.inr (.inr (.inr TK))))), oH ta (Hfl tv) (Hro tv) (Hrp tv) (Hca tv) (Hwy tv) (Hla tv) (Hmi tv) (Htf tv) (Htk tv), aV d ta 1 (HHO tv), aV d ta 2 (HAT tv), aV d ta 3 (HTO tv), aV d ta 4 (HWE tv), aV d ta 5 (HHE tv), aV d ta 6 (HRA tv), oH ha (Hfl hv) (Hro hv) (Hrp hv) (Hca hv) (Hwy hv) (Hla hv) (Hmi hv) (Htf hv) (Htk hv), aV d ha 1 (HHO hv), aV d ha 2 (HAT hv), aV d ha 3 (HTO hv), aV d ha 4 (HWE hv), aV d ha 5 (HHE hv), aV d ha 6 (HRA hv), oS sa ha ta gt gf gc tra gs]) (rest := []) [.int p3] hX cx hw hl.1 (mX0_isRow l (XI D cs wi) hX D d  p3  q3 hcq3) (lw_S q342 q343 q82 q344) hd_X0_isRow ⟨(Nat.le_of_ble_eq_true rfl), (Nat.le_of_ble_eq_true rfl)⟩ rfl rfl (Nat.le_of_ble_eq_true rfl) dX0_who_21 [] [0, 1, 2, 3, 4, 5, 6, 7, 8, 9, 10, 11, 12, 13, 14, 15, 16, 17, 18, 19, 20] rfl rfl rfl rfl (by decide) ⟨(Nat.le_of_ble_eq_true rfl), (Nat.le_of_ble_eq_true rfl)⟩ (fun r u H locs hp hw => ?_)
      have hw : Wd D A s [(ra, .inr (10, [.int rl, .ref ria])), (ria, .inl (d 0, rn, .inl RI)), ((sa 1), .inl (d 3, 8, .inr (.inr (.inr (.inr RW))))), ((sa 5), .inl (d 0, 6, .inl LI)), ((sa 6), .inl (d 0, 6, .inl BE)), ((sa 7), .inl (d 5, 5, .inr (.inr (.inr (.inr TK))))), oH ta (Hfl tv) (Hro tv) (Hrp tv) (Hca tv) (Hwy tv) (Hla tv) (Hmi tv) (Htf tv) (Htk tv), aV d ta 1 (HHO tv), aV d ta 2 (HAT tv), aV d ta 3 (HTO tv), aV d ta 4 (HWE tv), aV d ta 5 (HHE tv), aV d ta 6 (HRA tv), oH ha (Hfl hv) (Hro hv) (Hrp hv) (Hca hv) (Hwy hv) (Hla hv) (Hmi hv) (Htf hv) (Htk hv), aV d ha 1 (HHO hv), aV d ha 2 (HAT hv), aV d ha 3 (HTO hv), aV d ha 4 (HWE hv), aV d ha 5 (HHE hv), aV d ha 6 (HRA hv), oS sa ha ta gt gf gc tra gs] H locs := hw
      subst r
      refine lv_if_eq (tgt := 35) hx hb dX0_who_24 (by decide) (fun c24 => ?_) (fun c24 => ?_)
      · have hf := if_t hf c24
        refine lv_ldc (v := (-1000001)) hx hb hown (hts _ q350) dX0_who_35 ?_
        have hf := sm_e hf
        subst hf
        exact x_retI cx hw rfl () rfl [13, 14, 15, 16, 17, 18, 19, 0, 1, 20, 2, 3, 4, 5, 6, 7, 8, 9, 10, 11, 12] rfl rfl (Nat.le_of_ble_eq_true rfl) (Nat.le_of_ble_eq_true rfl) dX0_who_37
      · have hf := if_f hf c24
        refine lv_iload hx hb dX0_who_27 (lv_at hl 5 rfl) ?_
        obtain ⟨q4, hcq4, hf⟩ := op_e hf
        refine x_SI (wr := [(ra, .inr (10, [.int rl, .ref ria])), (ria, .inl (d 0, rn, .inl RI)), ((sa 1), .inl (d 3, 8, .inr (.inr (.inr (.inr RW))))), ((sa 5), .inl (d 0, 6, .inl LI)), ((sa 6), .inl (d 0, 6, .inl BE)), ((sa 7), .inl (d 5, 5, .inr (.inr (.inr (.inr TK))))), oH ta (Hfl tv) (Hro tv) (Hrp tv) (Hca tv) (Hwy tv) (Hla tv) (Hmi tv) (Htf tv) (Htk tv), aV d ta 1 (HHO tv), aV d ta 2 (HAT tv), aV d ta 3 (HTO tv), aV d ta 4 (HWE tv), aV d ta 5 (HHE tv), aV d ta 6 (HRA tv), oH ha (Hfl hv) (Hro hv) (Hrp hv) (Hca hv) (Hwy hv) (Hla hv) (Hmi hv) (Htf hv) (Htk hv), aV d ha 1 (HHO hv), aV d ha 2 (HAT hv), aV d ha 3 (HTO hv), aV d ha 4 (HWE hv), aV d ha 5 (HHE hv), aV d ha 6 (HRA hv), oS sa ha ta gt gf gc tra gs]) (rest := []) [.int p5] hX cx hw hl.1 (mX0_isTold l (XI D cs wi) hX D d  p5  q4 hcq4) (lw_S q1037 q1038 q82 q1039) hd_X0_isTold ⟨(Nat.le_of_ble_eq_true rfl), (Nat.le_of_ble_eq_true rfl)⟩ rfl rfl (Nat.le_of_ble_eq_true rfl) dX0_who_29 [] [0, 1, 2, 3, 4, 5, 6, 7, 8, 9, 10, 11, 12, 13, 14, 15, 16, 17, 18, 19, 20] rfl rfl rfl rfl (by decide) ⟨(Nat.le_of_ble_eq_true rfl), (Nat.le_of_ble_eq_true rfl)⟩ (fun r u H locs hp hw => ?_)
        have hw : Wd D A s [(ra, .inr (10, [.int rl, .ref ria])), (ria, .inl (d 0, rn, .inl RI)), ((sa 1), .inl (d 3, 8, .inr (.inr (.inr (.inr RW))))), ((sa 5), .inl (d 0, 6, .inl LI)), ((sa 6), .inl (d 0, 6, .inl BE)), ((sa 7), .inl (d 5, 5, .inr (.inr (.inr (.inr TK))))), oH ta (Hfl tv) (Hro tv) (Hrp tv) (Hca tv) (Hwy tv) (Hla tv) (Hmi tv) (Htf tv) (Htk tv), aV d ta 1 (HHO tv), aV d ta 2 (HAT tv), aV d ta 3 (HTO tv), aV d ta 4 (HWE tv), aV d ta 5 (HHE tv), aV d ta 6 (HRA tv), oH ha (Hfl hv) (Hro hv) (Hrp hv) (Hca hv) (Hwy hv) (Hla hv) (Hmi hv) (Htf hv) (Htk hv), aV d ha 1 (HHO hv), aV d ha 2 (HAT hv), aV d ha 3 (HTO hv), aV d ha 4 (HWE hv), aV d ha 5 (HHE hv), aV d ha 6 (HRA hv), oS sa ha ta gt gf gc tra gs] H locs := hw
        subst r
        refine lv_if_ne (tgt := 38) hx hb dX0_who_32 (by decide) (fun c32 => ?_) (fun c32 => ?_)
        · have hf := if_f hf c32
          refine lv_aload_n hx hb dX0_who_38 rfl (lv_at hl 0 rfl) ?_
          refine lv_iload_n hx hb dX0_who_39 rfl (lv_at hl 3 rfl) ?_
          obtain ⟨r6, hcr6, hf⟩ := op_e hf
          rcases r6 with q7 | e8
          · refine x_VA (wr := [(ra, .inr (10, [.int rl, .ref ria])), (ria, .inl (d 0, rn, .inl RI)), ((sa 5), .inl (d 0, 6, .inl LI)), ((sa 6), .inl (d 0, 6, .inl BE)), ((sa 7), .inl (d 5, 5, .inr (.inr (.inr (.inr TK))))), oH ta (Hfl tv) (Hro tv) (Hrp tv) (Hca tv) (Hwy tv) (Hla tv) (Hmi tv) (Htf tv) (Htk tv), aV d ta 1 (HHO tv), aV d ta 2 (HAT tv), aV d ta 3 (HTO tv), aV d ta 4 (HWE tv), aV d ta 5 (HHE tv), aV d ta 6 (HRA tv), oH ha (Hfl hv) (Hro hv) (Hrp hv) (Hca hv) (Hwy hv) (Hla hv) (Hmi hv) (Htf hv) (Htk hv), aV d ha 1 (HHO hv), aV d ha 2 (HAT hv), aV d ha 3 (HTO hv), aV d ha 4 (HWE hv), aV d ha 5 (HHE hv), aV d ha 6 (HRA hv)]) (rest := []) [.int p3] hX cx hw hl.1 (mX0_rowAt l D d cs wi ln lf dk dn him sa ha ta gt gf gc tra gs RW p3  q7 hcr6) (lw_V q446 q448 qs3 q82 q449) hd_X0_rowAt ⟨(Nat.le_of_ble_eq_true rfl), (Nat.le_of_ble_eq_true rfl)⟩ (va_recv hK hw.1 (ci := 1) (q0 := 20) rfl rfl) rfl rfl (Nat.le_of_ble_eq_true rfl) dX0_who_40 [20, 2] [0, 1, 3, 4, 5, 6, 7, 8, 9, 10, 11, 12, 13, 14, 15, 16, 17, 18, 19] rfl rfl rfl rfl (by decide) ⟨(Nat.le_of_ble_eq_true rfl), (Nat.le_of_ble_eq_true rfl)⟩ (fun u H locs hp hw => ?_)
            have hw : Wd D A s [(ra, .inr (10, [.int rl, .ref ria])), (ria, .inl (d 0, rn, .inl RI)), ((sa 5), .inl (d 0, 6, .inl LI)), ((sa 6), .inl (d 0, 6, .inl BE)), ((sa 7), .inl (d 5, 5, .inr (.inr (.inr (.inr TK))))), oH ta (Hfl tv) (Hro tv) (Hrp tv) (Hca tv) (Hwy tv) (Hla tv) (Hmi tv) (Htf tv) (Htk tv), aV d ta 1 (HHO tv), aV d ta 2 (HAT tv), aV d ta 3 (HTO tv), aV d ta 4 (HWE tv), aV d ta 5 (HHE tv), aV d ta 6 (HRA tv), oH ha (Hfl hv) (Hro hv) (Hrp hv) (Hca hv) (Hwy hv) (Hla hv) (Hmi hv) (Htf hv) (Htk hv), aV d ha 1 (HHO hv), aV d ha 2 (HAT hv), aV d ha 3 (HTO hv), aV d ha 4 (HWE hv), aV d ha 5 (HHE hv), aV d ha 6 (HRA hv), oS sa ha ta gt gf gc tra gs, ((sa 1), .inl (d 3, 8, .inr (.inr (.inr (.inr RW)))))] H locs := hw
            obtain ⟨g10, hgq, hf⟩ := op_e hf
            have hgq := eqa_spec hgq
            refine W.eq (g2 := F0 m 43 ls [.ref ra]) (by rw [hgq]) ?_
            refine lv_iload hx hb dX0_who_43 (lv_at hl 4 rfl) ?_
            refine lv_iload hx hb dX0_who_45 (lv_at hl 5 rfl) ?_
            obtain ⟨r12, hcr12, hf⟩ := op_e hf
            rcases r12 with q13 | e14
            · refine x_VR (wr := [((sa 5), .inl (d 0, 6, .inl LI)), ((sa 6), .inl (d 0, 6, .inl BE)), ((sa 7), .inl (d 5, 5, .inr (.inr (.inr (.inr TK))))), oH ta (Hfl tv) (Hro tv) (Hrp tv) (Hca tv) (Hwy tv) (Hla tv) (Hmi tv) (Htf tv) (Htk tv), aV d ta 1 (HHO tv), aV d ta 2 (HAT tv), aV d ta 3 (HTO tv), aV d ta 4 (HWE tv), aV d ta 5 (HHE tv), aV d ta 6 (HRA tv), oH ha (Hfl hv) (Hro hv) (Hrp hv) (Hca hv) (Hwy hv) (Hla hv) (Hmi hv) (Htf hv) (Htk hv), aV d ha 1 (HHO hv), aV d ha 2 (HAT hv), aV d ha 3 (HTO hv), aV d ha 4 (HWE hv), aV d ha 5 (HHE hv), aV d ha 6 (HRA hv), oS sa ha ta gt gf gc tra gs, ((sa 1), .inl (d 3, 8, .inr (.inr (.inr (.inr RW)))))]) (rest := []) [.int p4, .int p5] hX cx hw hl.1 (mX11_row l D d cs wi ln lf dk dn him ra ria rn rl RI p4 p5  q13 hcr12) (lw_V q1041 q1042 q1043 q98 q1044) hd_X11_row ⟨(Nat.le_of_ble_eq_true rfl), (Nat.le_of_ble_eq_true rfl)⟩ (va_recv hK hw.1 (ci := 10) (q0 := 0) rfl rfl) rfl rfl (Nat.le_of_ble_eq_true rfl) dX0_who_47 [0, 1] [2, 3, 4, 5, 6, 7, 8, 9, 10, 11, 12, 13, 14, 15, 16, 17, 18, 19, 20] rfl rfl rfl rfl (by decide) ⟨(Nat.le_of_ble_eq_true rfl), (Nat.le_of_ble_eq_true rfl)⟩ (fun u a16 H locs hp hw => ?_)
              have hw : Wd D A s [((sa 5), .inl (d 0, 6, .inl LI)), ((sa 6), .inl (d 0, 6, .inl BE)), ((sa 7), .inl (d 5, 5, .inr (.inr (.inr (.inr TK))))), oH ta (Hfl tv) (Hro tv) (Hrp tv) (Hca tv) (Hwy tv) (Hla tv) (Hmi tv) (Htf tv) (Htk tv), aV d ta 1 (HHO tv), aV d ta 2 (HAT tv), aV d ta 3 (HTO tv), aV d ta 4 (HWE tv), aV d ta 5 (HHE tv), aV d ta 6 (HRA tv), oH ha (Hfl hv) (Hro hv) (Hrp hv) (Hca hv) (Hwy hv) (Hla hv) (Hmi hv) (Htf hv) (Htk hv), aV d ha 1 (HHO hv), aV d ha 2 (HAT hv), aV d ha 3 (HTO hv), aV d ha 4 (HWE hv), aV d ha 5 (HHE hv), aV d ha 6 (HRA hv), oS sa ha ta gt gf gc tra gs, ((sa 1), .inl (d 3, 8, .inr (.inr (.inr (.inr RW))))), (ra, .inr (10, [.int rl, .ref ria])), (ria, .inl (d 0, rn, .inl RI)), (a16, .inl (d 0, p5.toNatClampNeg, .inl q13))] H locs := hw
              refine W.widen (k := 1) (n := 40) (Nat.le_of_ble_eq_true rfl) (Nat.le_of_ble_eq_true rfl) ?_
              refine lv_astore (lv' := [(6, .ref a16), (0, .ref (sa 0)), (1, .int p1), (2, .int p2), (3, .int p3), (4, .int p4), (5, .int p5)]) hx hb dX0_who_50 hl (by decide) rfl (fun ls hl => ?_)
              refine lv_aload_n hx hb dX0_who_52 rfl (lv_at hl 1 rfl) ?_
              refine lv_iload_n hx hb dX0_who_53 rfl (lv_at hl 3 rfl) ?_
              refine lv_iconst (v := 2) hx hb dX0_who_54 (by decide) ?_
              obtain ⟨j17, hjA, hjR⟩ := op_e hf
              refine x_join (A := A) (D := D) (J := 77) (nL := 7) (cells' := 1) (slots' := 40) (st := [.int j17.1, .ref (sa 0)]) [oH ha (Hfl hv) (Hro hv) (Hrp hv) (Hca hv) (Hwy hv) (Hla hv) (Hmi hv) (Htf hv) (Htk hv), aV d ha 1 (HHO hv), aV d ha 2 (HAT hv), aV d ha 3 (HTO hv), aV d ha 4 (HWE hv), aV d ha 5 (HHE hv), aV d ha 6 (HRA hv), (ra, .inr (10, [.int rl, .ref ria])), (ria, .inl (d 0, rn, .inl RI)), oS sa ha ta gt gf gc tra gs, ((sa 1), .inl (d 3, 8, .inr (.inr (.inr (.inr RW))))), ((sa 5), .inl (d 0, 6, .inl LI)), ((sa 6), .inl (d 0, 6, .inl BE)), ((sa 7), .inl (d 5, 5, .inr (.inr (.inr (.inr TK))))), oH ta (Hfl j17.2) (Hro j17.2) (Hrp j17.2) (Hca j17.2) (Hwy j17.2) (Hla j17.2) (Hmi j17.2) (Htf j17.2) (Htk j17.2), aV d ta 1 (HHO j17.2), aV d ta 2 (HAT j17.2), aV d ta 3 (HTO j17.2), aV d ta 4 (HWE j17.2), aV d ta 5 (HHE j17.2), aV d ta 6 (HRA j17.2), (a16, .inl (d 0, p5.toNatClampNeg, .inl q13))] [] (fun H locs ls hw hl => ?_) (fun hKj77_j17 => ?_)
              · have hf := hjR
                obtain ⟨q18, hcq18, hf⟩ := op_e hf
                refine x_VI (wr := [oH ha (Hfl hv) (Hro hv) (Hrp hv) (Hca hv) (Hwy hv) (Hla hv) (Hmi hv) (Htf hv) (Htk hv), aV d ha 1 (HHO hv), aV d ha 2 (HAT hv), aV d ha 3 (HTO hv), aV d ha 4 (HWE hv), aV d ha 5 (HHE hv), aV d ha 6 (HRA hv), (ra, .inr (10, [.int rl, .ref ria])), (ria, .inl (d 0, rn, .inl RI)), ((sa 1), .inl (d 3, 8, .inr (.inr (.inr (.inr RW))))), ((sa 5), .inl (d 0, 6, .inl LI)), ((sa 6), .inl (d 0, 6, .inl BE)), ((sa 7), .inl (d 5, 5, .inr (.inr (.inr (.inr TK))))), oH ta (Hfl j17.2) (Hro j17.2) (Hrp j17.2) (Hca j17.2) (Hwy j17.2) (Hla j17.2) (Hmi j17.2) (Htf j17.2) (Htk j17.2), aV d ta 1 (HHO j17.2), aV d ta 2 (HAT j17.2), aV d ta 3 (HTO j17.2), aV d ta 4 (HWE j17.2), aV d ta 5 (HHE j17.2), aV d ta 6 (HRA j17.2), (a16, .inl (d 0, p5.toNatClampNeg, .inl q13))]) (rest := []) [.int j17.1] hX cx hw hl.1 (mX0_well l  D d cs wi ln lf dk dn him sa ha ta gt gf gc tra gs j17.1  q18 hcq18) (lw_V q433 q435 qs1 q82 q436) hd_X0_well ⟨(Nat.le_of_ble_eq_true rfl), (Nat.le_of_ble_eq_true rfl)⟩ (va_recv hK hw.1 (ci := 1) (q0 := 9) rfl rfl) rfl rfl (Nat.le_of_ble_eq_true rfl) dX0_who_77 [9] [0, 1, 2, 3, 4, 5, 6, 7, 8, 10, 11, 12, 13, 14, 15, 16, 17, 18, 19, 20, 21] rfl rfl rfl rfl (by decide) ⟨(Nat.le_of_ble_eq_true rfl), (Nat.le_of_ble_eq_true rfl)⟩ (fun r u H locs hp hw => ?_)
                have hw : Wd D A s [oH ha (Hfl hv) (Hro hv) (Hrp hv) (Hca hv) (Hwy hv) (Hla hv) (Hmi hv) (Htf hv) (Htk hv), aV d ha 1 (HHO hv), aV d ha 2 (HAT hv), aV d ha 3 (HTO hv), aV d ha 4 (HWE hv), aV d ha 5 (HHE hv), aV d ha 6 (HRA hv), (ra, .inr (10, [.int rl, .ref ria])), (ria, .inl (d 0, rn, .inl RI)), ((sa 1), .inl (d 3, 8, .inr (.inr (.inr (.inr RW))))), ((sa 5), .inl (d 0, 6, .inl LI)), ((sa 6), .inl (d 0, 6, .inl BE)), ((sa 7), .inl (d 5, 5, .inr (.inr (.inr (.inr TK))))), oH ta (Hfl j17.2) (Hro j17.2) (Hrp j17.2) (Hca j17.2) (Hwy j17.2) (Hla j17.2) (Hmi j17.2) (Htf j17.2) (Htk j17.2), aV d ta 1 (HHO j17.2), aV d ta 2 (HAT j17.2), aV d ta 3 (HTO j17.2), aV d ta 4 (HWE j17.2), aV d ta 5 (HHE j17.2), aV d ta 6 (HRA j17.2), (a16, .inl (d 0, p5.toNatClampNeg, .inl q13)), oS sa ha ta gt gf gc tra q18.2] H locs := hw
                subst r
                have hf := sm_e hf
                subst hf
                exact x_retI cx hw rfl () rfl [0, 1, 2, 3, 4, 5, 6, 7, 8, 21, 9, 10, 11, 12, 13, 14, 15, 16, 17, 18, 19] rfl rfl (Nat.le_of_ble_eq_true rfl) (Nat.le_of_ble_eq_true rfl) dX0_who_80
              · have hf := hjA
                refine lv_icmp_ge (tgt := 69) hx hb dX0_who_55 (by decide) (fun c55 => ?_) (fun c55 => ?_)
                · have hf := if_t hf c55
                  refine lv_aload_n hx hb dX0_who_69 rfl (lv_at hl 1 rfl) ?_
                  refine lv_iload_n hx hb dX0_who_70 rfl (lv_at hl 2 rfl) ?_
                  refine lv_iload_n hx hb dX0_who_71 rfl (lv_at hl 3 rfl) ?_
                  refine lv_aload hx hb dX0_who_72 (lv_at hl 0 rfl) ?_
                  obtain ⟨q19, hcq19, hf⟩ := op_e hf
                  refine x_VI (wr := [((sa 5), .inl (d 0, 6, .inl LI)), ((sa 6), .inl (d 0, 6, .inl BE)), ((sa 1), .inl (d 3, 8, .inr (.inr (.inr (.inr RW))))), (ra, .inr (10, [.int rl, .ref ria])), (ria, .inl (d 0, rn, .inl RI))]) (rest := [.ref (sa 0)]) [.int p1, .int p2, .ref a16] hX cx hw hl.1 (mX0_numberOf l  D d cs wi ln lf dk dn him ha ta sa a16 p5.toNatClampNeg hv tv gt gf gc tra gs TK q13 p1 p2  q19 hcq19) (lw_V q1059 q1061 qs35 q82 q1062) hd_X0_numberOf ⟨(Nat.le_of_ble_eq_true rfl), (Nat.le_of_ble_eq_true rfl)⟩ (va_recv hK hw.1 (ci := 1) (q0 := 17) rfl rfl) rfl rfl (Nat.le_of_ble_eq_true rfl) dX0_who_74 [10, 11, 12, 13, 14, 15, 16, 21, 17, 2, 3, 4, 5, 6, 7, 8, 9] [0, 1, 18, 19, 20] rfl rfl rfl rfl (by decide) ⟨(Nat.le_of_ble_eq_true rfl), (Nat.le_of_ble_eq_true rfl)⟩ (fun r u H locs hp hw => ?_)
                  have hw : Wd D A s [((sa 5), .inl (d 0, 6, .inl LI)), ((sa 6), .inl (d 0, 6, .inl BE)), ((sa 1), .inl (d 3, 8, .inr (.inr (.inr (.inr RW))))), (ra, .inr (10, [.int rl, .ref ria])), (ria, .inl (d 0, rn, .inl RI)), oH ha (Hfl hv) (Hro hv) (Hrp hv) (Hca hv) (Hwy hv) (Hla hv) (Hmi hv) (Htf hv) (Htk hv), aV d ha 1 (HHO hv), aV d ha 2 (HAT hv), aV d ha 3 (HTO hv), aV d ha 4 (HWE hv), aV d ha 5 (HHE hv), aV d ha 6 (HRA hv), (a16, .inl (d 0, p5.toNatClampNeg, .inl q13)), oS sa ha ta gt gf gc tra gs, ((sa 7), .inl (d 5, 5, .inr (.inr (.inr (.inr TK))))), oH ta (Hfl q19.2) (Hro q19.2) (Hrp q19.2) (Hca q19.2) (Hwy q19.2) (Hla q19.2) (Hmi q19.2) (Htf q19.2) (Htk q19.2), aV d ta 1 (HHO q19.2), aV d ta 2 (HAT q19.2), aV d ta 3 (HTO q19.2), aV d ta 4 (HWE q19.2), aV d ta 5 (HHE q19.2), aV d ta 6 (HRA q19.2)] H locs := hw
                  subst r
                  have hf := sm_e hf
                  subst hf
                  exact hKj77_j17 _ _ _ (hw.sub [5, 6, 7, 8, 9, 10, 11, 3, 4, 13, 2, 0, 1, 14, 15, 16, 17, 18, 19, 20, 21, 12] rfl rfl) (lv_sub hl [] rfl)
                · have hf := if_f hf c55
                  refine lv_aload_n hx hb dX0_who_58 rfl (lv_at hl 1 rfl) ?_
                  refine lv_iload_n hx hb dX0_who_59 rfl (lv_at hl 2 rfl) ?_
                  refine lv_iload_n hx hb dX0_who_60 rfl (lv_at hl 3 rfl) ?_
                  refine lv_aload hx hb dX0_who_61 (lv_at hl 0 rfl) ?_
                  obtain ⟨q20, hcq20, hf⟩ := op_e hf
                  refine x_VI (wr := [((sa 5), .inl (d 0, 6, .inl LI)), ((sa 6), .inl (d 0, 6, .inl BE)), ((sa 1), .inl (d 3, 8, .inr (.inr (.inr (.inr RW))))), (ra, .inr (10, [.int rl, .ref ria])), (ria, .inl (d 0, rn, .inl RI))]) (rest := [.ref (sa 0)]) [.int p1, .int p2, .ref a16] hX cx hw hl.1 (mX0_setOf l  D d cs wi ln lf dk dn him ha ta sa a16 p5.toNatClampNeg hv tv gt gf gc tra gs TK q13 p1 p2  q20 hcq20) (lw_V q1047 q1049 qs32 q82 q1050) hd_X0_setOf ⟨(Nat.le_of_ble_eq_true rfl), (Nat.le_of_ble_eq_true rfl)⟩ (va_recv hK hw.1 (ci := 1) (q0 := 17) rfl rfl) rfl rfl (Nat.le_of_ble_eq_true rfl) dX0_who_63 [10, 11, 12, 13, 14, 15, 16, 21, 17, 2, 3, 4, 5, 6, 7, 8, 9] [0, 1, 18, 19, 20] rfl rfl rfl rfl (by decide) ⟨(Nat.le_of_ble_eq_true rfl), (Nat.le_of_ble_eq_true rfl)⟩ (fun r u H locs hp hw => ?_)
                  have hw : Wd D A s [((sa 5), .inl (d 0, 6, .inl LI)), ((sa 6), .inl (d 0, 6, .inl BE)), ((sa 1), .inl (d 3, 8, .inr (.inr (.inr (.inr RW))))), (ra, .inr (10, [.int rl, .ref ria])), (ria, .inl (d 0, rn, .inl RI)), oH ha (Hfl hv) (Hro hv) (Hrp hv) (Hca hv) (Hwy hv) (Hla hv) (Hmi hv) (Htf hv) (Htk hv), aV d ha 1 (HHO hv), aV d ha 2 (HAT hv), aV d ha 3 (HTO hv), aV d ha 4 (HWE hv), aV d ha 5 (HHE hv), aV d ha 6 (HRA hv), (a16, .inl (d 0, p5.toNatClampNeg, .inl q13)), oS sa ha ta gt gf gc tra gs, ((sa 7), .inl (d 5, 5, .inr (.inr (.inr (.inr TK))))), oH ta (Hfl q20.2) (Hro q20.2) (Hrp q20.2) (Hca q20.2) (Hwy q20.2) (Hla q20.2) (Hmi q20.2) (Htf q20.2) (Htk q20.2), aV d ta 1 (HHO q20.2), aV d ta 2 (HAT q20.2), aV d ta 3 (HTO q20.2), aV d ta 4 (HWE q20.2), aV d ta 5 (HHE q20.2), aV d ta 6 (HRA q20.2)] H locs := hw
                  subst r
                  refine lv_goto (tgt := 77) hx hb dX0_who_66 (by decide) ?_
                  have hf := sm_e hf
                  subst hf
                  exact hKj77_j17 _ _ _ (hw.sub [5, 6, 7, 8, 9, 10, 11, 3, 4, 13, 2, 0, 1, 14, 15, 16, 17, 18, 19, 20, 21, 12] rfl rfl) (lv_sub hl [] rfl)
            · refine x_TV (wr := [((sa 5), .inl (d 0, 6, .inl LI)), ((sa 6), .inl (d 0, 6, .inl BE)), ((sa 7), .inl (d 5, 5, .inr (.inr (.inr (.inr TK))))), oH ta (Hfl tv) (Hro tv) (Hrp tv) (Hca tv) (Hwy tv) (Hla tv) (Hmi tv) (Htf tv) (Htk tv), aV d ta 1 (HHO tv), aV d ta 2 (HAT tv), aV d ta 3 (HTO tv), aV d ta 4 (HWE tv), aV d ta 5 (HHE tv), aV d ta 6 (HRA tv), oH ha (Hfl hv) (Hro hv) (Hrp hv) (Hca hv) (Hwy hv) (Hla hv) (Hmi hv) (Htf hv) (Htk hv), aV d ha 1 (HHO hv), aV d ha 2 (HAT hv), aV d ha 3 (HTO hv), aV d ha 4 (HWE hv), aV d ha 5 (HHE hv), aV d ha 6 (HRA hv), oS sa ha ta gt gf gc tra gs, ((sa 1), .inl (d 3, 8, .inr (.inr (.inr (.inr RW)))))]) (rest := []) [.int p4, .int p5] hX cx hw hl.1 (tX11_row l D d cs wi ln lf dk dn him ra ria rn rl RI p4 p5  e14 hcr12) (lw_V q1041 q1042 q1043 q98 q1044) hd_X11_row ⟨(Nat.le_of_ble_eq_true rfl), (Nat.le_of_ble_eq_true rfl)⟩ (va_recv hK hw.1 (ci := 10) (q0 := 0) rfl rfl) rfl rfl (Nat.le_of_ble_eq_true rfl) dX0_who_47 [0, 1] [2, 3, 4, 5, 6, 7, 8, 9, 10, 11, 12, 13, 14, 15, 16, 17, 18, 19, 20] rfl rfl rfl rfl (by decide) ⟨(Nat.le_of_ble_eq_true rfl), (Nat.le_of_ble_eq_true rfl)⟩ (fun a11 ce u H locs hw g1 g2 g3 => ?_)
              have hw : Wd D A s [((sa 5), .inl (d 0, 6, .inl LI)), ((sa 6), .inl (d 0, 6, .inl BE)), ((sa 7), .inl (d 5, 5, .inr (.inr (.inr (.inr TK))))), oH ta (Hfl tv) (Hro tv) (Hrp tv) (Hca tv) (Hwy tv) (Hla tv) (Hmi tv) (Htf tv) (Htk tv), aV d ta 1 (HHO tv), aV d ta 2 (HAT tv), aV d ta 3 (HTO tv), aV d ta 4 (HWE tv), aV d ta 5 (HHE tv), aV d ta 6 (HRA tv), oH ha (Hfl hv) (Hro hv) (Hrp hv) (Hca hv) (Hwy hv) (Hla hv) (Hmi hv) (Htf hv) (Htk hv), aV d ha 1 (HHO hv), aV d ha 2 (HAT hv), aV d ha 3 (HTO hv), aV d ha 4 (HWE hv), aV d ha 5 (HHE hv), aV d ha 6 (HRA hv), oS sa ha ta gt gf gc tra gs, ((sa 1), .inl (d 3, 8, .inr (.inr (.inr (.inr RW))))), (ra, .inr (10, [.int rl, .ref ria])), (ria, .inl (d 0, rn, .inl RI)), (a11, .inr (12, [.null, .null, .null, .null, .null, .int 0, .int e14]))] H locs := hw
              refine vx_catch (E := "DishLift$Finding") (ce := ce) hown [] ⟨38, 80, 81, 74⟩ [] hET (fun z hz => absurd hz List.not_mem_nil) rfl (by decide) (hts _ q341) (va_tabs rfl rfl (Tb.cast q355 hXs.1)) g1 g2 g3 ?_
              refine W.eq (g2 := F0 m 81 ls [.ref a11]) rfl ?_
              refine W.widen (k := 1) (n := 40) (Nat.le_of_ble_eq_true rfl) (Nat.le_of_ble_eq_true rfl) ?_
              refine lv_astore (lv' := [(6, .ref a11), (0, .ref (sa 0)), (1, .int p1), (2, .int p2), (3, .int p3), (4, .int p4), (5, .int p5)]) hx hb dX0_who_81 hl (by decide) rfl (fun ls hl => ?_)
              refine lv_aload_n hx hb dX0_who_83 rfl (lv_at hl 1 rfl) ?_
              refine lv_aload hx hb dX0_who_84 (lv_at hl 0 rfl) ?_
              obtain ⟨q15, hcq15, hf⟩ := op_e hf
              refine x_VI (wr := [((sa 5), .inl (d 0, 6, .inl LI)), ((sa 6), .inl (d 0, 6, .inl BE)), ((sa 7), .inl (d 5, 5, .inr (.inr (.inr (.inr TK))))), oH ta (Hfl tv) (Hro tv) (Hrp tv) (Hca tv) (Hwy tv) (Hla tv) (Hmi tv) (Htf tv) (Htk tv), aV d ta 1 (HHO tv), aV d ta 2 (HAT tv), aV d ta 3 (HTO tv), aV d ta 4 (HWE tv), aV d ta 5 (HHE tv), aV d ta 6 (HRA tv), oH ha (Hfl hv) (Hro hv) (Hrp hv) (Hca hv) (Hwy hv) (Hla hv) (Hmi hv) (Htf hv) (Htk hv), aV d ha 1 (HHO hv), aV d ha 2 (HAT hv), aV d ha 3 (HTO hv), aV d ha 4 (HWE hv), aV d ha 5 (HHE hv), aV d ha 6 (HRA hv), ((sa 1), .inl (d 3, 8, .inr (.inr (.inr (.inr RW))))), (ra, .inr (10, [.int rl, .ref ria])), (ria, .inl (d 0, rn, .inl RI))]) (rest := []) [.ref a11] hX cx hw hl.1 (mX0_found l  D d cs wi ln lf dk dn him sa ha ta a11 gt gf gc tra gs e14  q15 hcq15) (lw_V q437 q439 qs2 q82 q440) hd_X0_found ⟨(Nat.le_of_ble_eq_true rfl), (Nat.le_of_ble_eq_true rfl)⟩ (va_recv hK hw.1 (ci := 1) (q0 := 17) rfl rfl) rfl rfl (Nat.le_of_ble_eq_true rfl) dX0_who_86 [21, 17] [0, 1, 2, 3, 4, 5, 6, 7, 8, 9, 10, 11, 12, 13, 14, 15, 16, 18, 19, 20] rfl rfl rfl rfl (by decide) ⟨(Nat.le_of_ble_eq_true rfl), (Nat.le_of_ble_eq_true rfl)⟩ (fun r u H locs hp hw => ?_)
              have hw : Wd D A s [((sa 5), .inl (d 0, 6, .inl LI)), ((sa 6), .inl (d 0, 6, .inl BE)), ((sa 7), .inl (d 5, 5, .inr (.inr (.inr (.inr TK))))), oH ta (Hfl tv) (Hro tv) (Hrp tv) (Hca tv) (Hwy tv) (Hla tv) (Hmi tv) (Htf tv) (Htk tv), aV d ta 1 (HHO tv), aV d ta 2 (HAT tv), aV d ta 3 (HTO tv), aV d ta 4 (HWE tv), aV d ta 5 (HHE tv), aV d ta 6 (HRA tv), oH ha (Hfl hv) (Hro hv) (Hrp hv) (Hca hv) (Hwy hv) (Hla hv) (Hmi hv) (Htf hv) (Htk hv), aV d ha 1 (HHO hv), aV d ha 2 (HAT hv), aV d ha 3 (HTO hv), aV d ha 4 (HWE hv), aV d ha 5 (HHE hv), aV d ha 6 (HRA hv), ((sa 1), .inl (d 3, 8, .inr (.inr (.inr (.inr RW))))), (ra, .inr (10, [.int rl, .ref ria])), (ria, .inl (d 0, rn, .inl RI)), (a11, .inr (12, [.null, .null, .null, .null, .null, .int 0, .int e14])), oS sa ha ta gt gf gc tra q15.2] H locs := hw
              subst r
              have hf := sm_e hf
              subst hf
              exact x_retI cx hw rfl () rfl [10, 11, 12, 13, 14, 15, 16, 18, 19, 21, 17, 0, 1, 2, 3, 4, 5, 6, 7, 8, 9] rfl rfl (Nat.le_of_ble_eq_true rfl) (Nat.le_of_ble_eq_true rfl) dX0_who_89
          · refine x_TV (wr := [(ra, .inr (10, [.int rl, .ref ria])), (ria, .inl (d 0, rn, .inl RI)), ((sa 5), .inl (d 0, 6, .inl LI)), ((sa 6), .inl (d 0, 6, .inl BE)), ((sa 7), .inl (d 5, 5, .inr (.inr (.inr (.inr TK))))), oH ta (Hfl tv) (Hro tv) (Hrp tv) (Hca tv) (Hwy tv) (Hla tv) (Hmi tv) (Htf tv) (Htk tv), aV d ta 1 (HHO tv), aV d ta 2 (HAT tv), aV d ta 3 (HTO tv), aV d ta 4 (HWE tv), aV d ta 5 (HHE tv), aV d ta 6 (HRA tv), oH ha (Hfl hv) (Hro hv) (Hrp hv) (Hca hv) (Hwy hv) (Hla hv) (Hmi hv) (Htf hv) (Htk hv), aV d ha 1 (HHO hv), aV d ha 2 (HAT hv), aV d ha 3 (HTO hv), aV d ha 4 (HWE hv), aV d ha 5 (HHE hv), aV d ha 6 (HRA hv)]) (rest := []) [.int p3] hX cx hw hl.1 (tX0_rowAt l D d cs wi ln lf dk dn him sa ha ta gt gf gc tra gs RW p3  e8 hcr6) (lw_V q446 q448 qs3 q82 q449) hd_X0_rowAt ⟨(Nat.le_of_ble_eq_true rfl), (Nat.le_of_ble_eq_true rfl)⟩ (va_recv hK hw.1 (ci := 1) (q0 := 20) rfl rfl) rfl rfl (Nat.le_of_ble_eq_true rfl) dX0_who_40 [20, 2] [0, 1, 3, 4, 5, 6, 7, 8, 9, 10, 11, 12, 13, 14, 15, 16, 17, 18, 19] rfl rfl rfl rfl (by decide) ⟨(Nat.le_of_ble_eq_true rfl), (Nat.le_of_ble_eq_true rfl)⟩ (fun a5 ce u H locs hw g1 g2 g3 => ?_)
            have hw : Wd D A s [(ra, .inr (10, [.int rl, .ref ria])), (ria, .inl (d 0, rn, .inl RI)), ((sa 5), .inl (d 0, 6, .inl LI)), ((sa 6), .inl (d 0, 6, .inl BE)), ((sa 7), .inl (d 5, 5, .inr (.inr (.inr (.inr TK))))), oH ta (Hfl tv) (Hro tv) (Hrp tv) (Hca tv) (Hwy tv) (Hla tv) (Hmi tv) (Htf tv) (Htk tv), aV d ta 1 (HHO tv), aV d ta 2 (HAT tv), aV d ta 3 (HTO tv), aV d ta 4 (HWE tv), aV d ta 5 (HHE tv), aV d ta 6 (HRA tv), oH ha (Hfl hv) (Hro hv) (Hrp hv) (Hca hv) (Hwy hv) (Hla hv) (Hmi hv) (Htf hv) (Htk hv), aV d ha 1 (HHO hv), aV d ha 2 (HAT hv), aV d ha 3 (HTO hv), aV d ha 4 (HWE hv), aV d ha 5 (HHE hv), aV d ha 6 (HRA hv), oS sa ha ta gt gf gc tra gs, ((sa 1), .inl (d 3, 8, .inr (.inr (.inr (.inr RW))))), (a5, .inr (12, [.null, .null, .null, .null, .null, .int 0, .int e8]))] H locs := hw
            refine vx_catch (E := "DishLift$Finding") (ce := ce) hown [] ⟨38, 80, 81, 74⟩ [] hET (fun z hz => absurd hz List.not_mem_nil) rfl (by decide) (hts _ q341) (va_tabs rfl rfl (Tb.cast q355 hXs.1)) g1 g2 g3 ?_
            refine W.eq (g2 := F0 m 81 ls [.ref a5]) rfl ?_
            refine W.widen (k := 1) (n := 7) (Nat.le_of_ble_eq_true rfl) (Nat.le_of_ble_eq_true rfl) ?_
            refine lv_astore (lv' := [(6, .ref a5), (0, .ref (sa 0)), (1, .int p1), (2, .int p2), (3, .int p3), (4, .int p4), (5, .int p5)]) hx hb dX0_who_81 hl (by decide) rfl (fun ls hl => ?_)
            refine lv_aload_n hx hb dX0_who_83 rfl (lv_at hl 1 rfl) ?_
            refine lv_aload hx hb dX0_who_84 (lv_at hl 0 rfl) ?_
            obtain ⟨q9, hcq9, hf⟩ := op_e hf
            refine x_VI (wr := [(ra, .inr (10, [.int rl, .ref ria])), (ria, .inl (d 0, rn, .inl RI)), ((sa 5), .inl (d 0, 6, .inl LI)), ((sa 6), .inl (d 0, 6, .inl BE)), ((sa 7), .inl (d 5, 5, .inr (.inr (.inr (.inr TK))))), oH ta (Hfl tv) (Hro tv) (Hrp tv) (Hca tv) (Hwy tv) (Hla tv) (Hmi tv) (Htf tv) (Htk tv), aV d ta 1 (HHO tv), aV d ta 2 (HAT tv), aV d ta 3 (HTO tv), aV d ta 4 (HWE tv), aV d ta 5 (HHE tv), aV d ta 6 (HRA tv), oH ha (Hfl hv) (Hro hv) (Hrp hv) (Hca hv) (Hwy hv) (Hla hv) (Hmi hv) (Htf hv) (Htk hv), aV d ha 1 (HHO hv), aV d ha 2 (HAT hv), aV d ha 3 (HTO hv), aV d ha 4 (HWE hv), aV d ha 5 (HHE hv), aV d ha 6 (HRA hv), ((sa 1), .inl (d 3, 8, .inr (.inr (.inr (.inr RW)))))]) (rest := []) [.ref a5] hX cx hw hl.1 (mX0_found l  D d cs wi ln lf dk dn him sa ha ta a5 gt gf gc tra gs e8  q9 hcq9) (lw_V q437 q439 qs2 q82 q440) hd_X0_found ⟨(Nat.le_of_ble_eq_true rfl), (Nat.le_of_ble_eq_true rfl)⟩ (va_recv hK hw.1 (ci := 1) (q0 := 19) rfl rfl) rfl rfl (Nat.le_of_ble_eq_true rfl) dX0_who_86 [21, 19] [0, 1, 2, 3, 4, 5, 6, 7, 8, 9, 10, 11, 12, 13, 14, 15, 16, 17, 18, 20] rfl rfl rfl rfl (by decide) ⟨(Nat.le_of_ble_eq_true rfl), (Nat.le_of_ble_eq_true rfl)⟩ (fun r u H locs hp hw => ?_)
            have hw : Wd D A s [(ra, .inr (10, [.int rl, .ref ria])), (ria, .inl (d 0, rn, .inl RI)), ((sa 5), .inl (d 0, 6, .inl LI)), ((sa 6), .inl (d 0, 6, .inl BE)), ((sa 7), .inl (d 5, 5, .inr (.inr (.inr (.inr TK))))), oH ta (Hfl tv) (Hro tv) (Hrp tv) (Hca tv) (Hwy tv) (Hla tv) (Hmi tv) (Htf tv) (Htk tv), aV d ta 1 (HHO tv), aV d ta 2 (HAT tv), aV d ta 3 (HTO tv), aV d ta 4 (HWE tv), aV d ta 5 (HHE tv), aV d ta 6 (HRA tv), oH ha (Hfl hv) (Hro hv) (Hrp hv) (Hca hv) (Hwy hv) (Hla hv) (Hmi hv) (Htf hv) (Htk hv), aV d ha 1 (HHO hv), aV d ha 2 (HAT hv), aV d ha 3 (HTO hv), aV d ha 4 (HWE hv), aV d ha 5 (HHE hv), aV d ha 6 (HRA hv), ((sa 1), .inl (d 3, 8, .inr (.inr (.inr (.inr RW))))), (a5, .inr (12, [.null, .null, .null, .null, .null, .int 0, .int e8])), oS sa ha ta gt gf gc tra q9.2] H locs := hw
            subst r
            have hf := sm_e hf
            subst hf
            exact x_retI cx hw rfl () rfl [12, 13, 14, 15, 16, 17, 18, 0, 1, 21, 19, 2, 3, 4, 5, 6, 7, 8, 9, 10, 11] rfl rfl (Nat.le_of_ble_eq_true rfl) (Nat.le_of_ble_eq_true rfl) dX0_who_89
        · have hf := if_t hf c32
          refine lv_ldc (v := (-1000001)) hx hb hown (hts _ q350) dX0_who_35 ?_
          have hf := sm_e hf
          subst hf
          exact x_retI cx hw rfl () rfl [13, 14, 15, 16, 17, 18, 19, 0, 1, 20, 2, 3, 4, 5, 6, 7, 8, 9, 10, 11, 12] rfl rfl (Nat.le_of_ble_eq_true rfl) (Nat.le_of_ble_eq_true rfl) dX0_who_37
