set_option maxRecDepth 100000
def fX0_as (ln : Nat → Option Int32) (lf : Nat → Nat → Option Nat) (dk : Nat → Option Nat) (dn : Nat → Int32) (hv : HV) (gs : Int32) (p1 : Int32) (p2 : Int32) : Option (Int32 × Int32) :=
  (fX0_isDish ln hv p1).bind fun q1 =>
  if q1 = 0 then
    some ((-1000001), gs)
  else
    (fX0_isIn p2.toInt64 0 5).bind fun q2 =>
    if q2 = 0 then
      some ((-1000001), gs)
    else
      (lget ln lf (Hla hv) p1).bind fun e3 =>
      (dk e3).bind fun k4 =>
      if p2 = 0 then
        (fdish_number dk dn e3).bind fun v5 =>
        (fX0_well v5).bind fun q6 =>
        some (q6.1, q6.2)
      else
        if p2 = 1 then
          if castK 0 k4 = true then
            (fdish_number dk dn e3).bind fun v8 =>
            (fX0_well v8).bind fun q9 =>
            some (q9.1, q9.2)
          else
            (fX0_found 3).bind fun q11 =>
            some (q11.1, q11.2)
        else
          if p2 = 2 then
            if castK 1 k4 = true then
              (fdish_number dk dn e3).bind fun v13 =>
              (fX0_well v13).bind fun q14 =>
              some (q14.1, q14.2)
            else
              (fX0_found 3).bind fun q16 =>
              some (q16.1, q16.2)
          else
            if p2 = 3 then
              if castK 2 k4 = true then
                (fdish_number dk dn e3).bind fun v18 =>
                (fX0_well v18).bind fun q19 =>
                some (q19.1, q19.2)
              else
                (fX0_found 3).bind fun q21 =>
                some (q21.1, q21.2)
            else
              if p2 = 4 then
                if castK 3 k4 = true then
                  (fdish_number dk dn e3).bind fun v23 =>
                  (fX0_well v23).bind fun q24 =>
                  some (q24.1, q24.2)
                else
                  (fX0_found 3).bind fun q26 =>
                  some (q26.1, q26.2)
              else
                if castK 4 k4 = true then
                  (fdish_number dk dn e3).bind fun v28 =>
                  (fX0_well v28).bind fun q29 =>
                  some (q29.1, q29.2)
                else
                  (fX0_found 3).bind fun q31 =>
                  some (q31.1, q31.2)
theorem hd_X0_as : yX0_as.cls = "DishLift" ∧ yX0_as.cls ≠ "java/lang/invoke/MethodHandle" ∧ yX0_as.cls ≠ "java/lang/invoke/VarHandle" ∧ (parseMethodDescriptor yX0_as.desc).map (fun d => d.parameters.length) = some 2 := by decide +kernel
set_option maxHeartbeats 4000000 in
theorem mX0_as (l : Launch) (D : va_G) (d : Nat → ClassId) (cs : Nat → Nat) (wi : va_W) (ln : Nat → Option Int32) (lf : Nat → Nat → Option Nat) (dk : Nat → Option Nat) (dn : Nat → Int32) (him : ImF d wi ln lf dk dn) (ha : Nat → Nat) (sa : Nat → Nat) (ta : Nat → Nat) (hv : HV) (gt : Int32) (gf : Int32) (gc : Int32) (tra : Nat) (gs : Int32) (p1 : Int32) (p2 : Int32) (hfl : l.stackTraces = false) (res : Int32 × Int32) (hf : fX0_as ln lf dk dn hv gs p1 p2 = some res) : MetI l yX0_as (wsW_ yX0_as cX0_as 5 (some .int) [(40, 111, 112, 394), (23, 111, 123, 74), (112, 123, 123, 74)]) { frames := 9, cells := 5, slots := 930, locals := 10300 } [.ref (sa 0), .int p1, .int p2] (XE D cs wi) D d [oH ha (Hfl hv) (Hro hv) (Hrp hv) (Hca hv) (Hwy hv) (Hla hv) (Hmi hv) (Htf hv) (Htk hv), aV d ha 1 (HHO hv), aV d ha 2 (HAT hv), aV d ha 3 (HTO hv), aV d ha 4 (HWE hv), aV d ha 5 (HHE hv), aV d ha 6 (HRA hv), oS sa ha ta gt gf gc tra gs] (fun r (_ : Unit) => r = res.1) (fun _ => [oH ha (Hfl hv) (Hro hv) (Hrp hv) (Hca hv) (Hwy hv) (Hla hv) (Hmi hv) (Htf hv) (Htk hv), aV d ha 1 (HHO hv), aV d ha 2 (HAT hv), aV d ha 3 (HTO hv), aV d ha 4 (HWE hv), aV d ha 5 (HHE hv), aV d ha 6 (HRA hv), oS sa ha ta gt gf gc tra res.2]) := by
  have hX := XI.ok (D := D) (cs := cs) (wi := wi)
  refine MetI.ofH (by decide +kernel) (Nat.le_of_ble_eq_true rfl) ?_
  intro p e s m below meth c A cx hET hw ls hl
  obtain ⟨c1, c2, c3, c4, c5, c6, c7, c8, c9, c10, c11⟩ := cx
  have hE := c10.2
  have cx : Cx p s m _ meth c (XI D cs wi) D d A "DishLift" cX0_as 5 (some .int) "as" := ⟨c1, c2, c3, c4, c5, c6, c7, c8, c9, c10.1, c11⟩
  have cx : Cx p s m _ meth c (XI D cs wi) D d A "DishLift" cX0_as 5 (some .int) "as" := cx
  have cx' := cx
  obtain ⟨hx, hb, hr, hlk, hml, hown, hts, hK, hA, hXs, hnm⟩ := cx'
  have hl : lv_has ls 5 [(0, .ref (sa 0)), (1, .int p1), (2, .int p2)] := hl
  generalize hlo : ([] : List Loc) = locs at hw ⊢
  unfold fX0_as at hf
  refine lv_aload_n hx hb dX0_as_0 rfl (lv_at hl 0 rfl) ?_
  refine lv_iload_n hx hb dX0_as_1 rfl (lv_at hl 1 rfl) ?_
  obtain ⟨q1, hcq1, hf⟩ := op_e hf
  refine x_VI (wr := []) (rest := []) [.int p1] hX cx hw hl.1 (mX0_isDish l  D d cs wi ln lf dk dn him ha sa ta hv gt gf gc tra gs p1  q1 hcq1) (lw_V q890 q892 qs23 q82 q893) hd_X0_isDish ⟨(Nat.le_of_ble_eq_true rfl), (Nat.le_of_ble_eq_true rfl)⟩ (va_recv hK hw.1 (ci := 1) (q0 := 7) rfl rfl) rfl rfl (Nat.le_of_ble_eq_true rfl) dX0_as_2 [0, 1, 2, 3, 4, 5, 6, 7] [] rfl rfl rfl rfl (by decide) ⟨(Nat.le_of_ble_eq_true rfl), (Nat.le_of_ble_eq_true rfl)⟩ (fun r u H locs hp hw => ?_)
  have hw : Wd D A s [oH ha (Hfl hv) (Hro hv) (Hrp hv) (Hca hv) (Hwy hv) (Hla hv) (Hmi hv) (Htf hv) (Htk hv), aV d ha 1 (HHO hv), aV d ha 2 (HAT hv), aV d ha 3 (HTO hv), aV d ha 4 (HWE hv), aV d ha 5 (HHE hv), aV d ha 6 (HRA hv), oS sa ha ta gt gf gc tra gs] H locs := hw
  subst r
  refine lv_if_eq (tgt := 20) hx hb dX0_as_5 (by decide) (fun c5 => ?_) (fun c5 => ?_)
  · have hf := if_t hf c5
    refine lv_ldc (v := (-1000001)) hx hb hown (hts _ q350) dX0_as_20 ?_
    have hf := sm_e hf
    subst hf
    exact x_retI cx hw rfl () rfl [0, 1, 2, 3, 4, 5, 6, 7] rfl rfl (Nat.le_of_ble_eq_true rfl) (Nat.le_of_ble_eq_true rfl) dX0_as_22
  · have hf := if_f hf c5
    refine lv_iload_n hx hb dX0_as_8 rfl (lv_at hl 2 rfl) ?_
    refine lv_i2l (v := p2.toInt64) hx hb dX0_as_9 rfl ?_
    refine lv_lconst (v := 0) hx hb dX0_as_10 (by decide) ?_
    refine lv_ldc2 (v := 5) hx hb hown (hts _ q1036) dX0_as_11 ?_
    obtain ⟨q2, hcq2, hf⟩ := op_e hf
    refine x_SI (wr := [oH ha (Hfl hv) (Hro hv) (Hrp hv) (Hca hv) (Hwy hv) (Hla hv) (Hmi hv) (Htf hv) (Htk hv), aV d ha 1 (HHO hv), aV d ha 2 (HAT hv), aV d ha 3 (HTO hv), aV d ha 4 (HWE hv), aV d ha 5 (HHE hv), aV d ha 6 (HRA hv), oS sa ha ta gt gf gc tra gs]) (rest := []) [.long p2.toInt64, .long 0, .long 5] hX cx hw hl.1 (mX0_isIn l (XI D cs wi) hX D d  p2.toInt64 0 5  q2 hcq2) (lw_S q346 q347 q82 q348) hd_X0_isIn ⟨(Nat.le_of_ble_eq_true rfl), (Nat.le_of_ble_eq_true rfl)⟩ rfl rfl (Nat.le_of_ble_eq_true rfl) dX0_as_14 [] [0, 1, 2, 3, 4, 5, 6, 7] rfl rfl rfl rfl (by decide) ⟨(Nat.le_of_ble_eq_true rfl), (Nat.le_of_ble_eq_true rfl)⟩ (fun r u H locs hp hw => ?_)
    have hw : Wd D A s [oH ha (Hfl hv) (Hro hv) (Hrp hv) (Hca hv) (Hwy hv) (Hla hv) (Hmi hv) (Htf hv) (Htk hv), aV d ha 1 (HHO hv), aV d ha 2 (HAT hv), aV d ha 3 (HTO hv), aV d ha 4 (HWE hv), aV d ha 5 (HHE hv), aV d ha 6 (HRA hv), oS sa ha ta gt gf gc tra gs] H locs := hw
    subst r
    refine lv_if_ne (tgt := 23) hx hb dX0_as_17 (by decide) (fun c17 => ?_) (fun c17 => ?_)
    · have hf := if_f hf c17
      refine lv_aload_n hx hb dX0_as_23 rfl (lv_at hl 0 rfl) ?_
      refine va_get (ci := 1) (C := RX0) (T := TX0) (N := 14) hx hb hts in_X0 hown hK hw.1 7 rfl rfl 4 (by decide) (hts _ q298) (fun _ h9 => h9) rfl dX0_as_24 ?_
      refine va_get (ci := 2) (C := RX1) (T := TX1) (N := 15) hx hb hts in_X1 hown hK hw.1 0 rfl rfl 5 (by decide) (hts _ q174) (fun _ h9 => h9) rfl dX0_as_27 ?_
      refine lv_iload_n hx hb dX0_as_30 rfl (lv_at hl 1 rfl) ?_
      obtain ⟨e3, hrd, hf⟩ := op_e hf
      refine x_lget him hrd cx hw hl.1 q1098 ⟨(Nat.le_of_ble_eq_true rfl), (Nat.le_of_ble_eq_true rfl)⟩ (Nat.le_of_ble_eq_true rfl) ⟨(Nat.le_of_ble_eq_true rfl), (Nat.le_of_ble_eq_true rfl)⟩ dX0_as_31 (fun H locs hw => ?_)
      obtain ⟨k4, hkd, hf⟩ := op_e hf
      refine x_cast him hkd cx hw (hts _ q247) dX0_as_36 ?_
      refine lv_astore_n (lv' := [(3, .ref e3), (0, .ref (sa 0)), (1, .int p1), (2, .int p2)]) hx hb dX0_as_39 rfl hl (by decide) rfl (fun ls hl => ?_)
      refine lv_iload_n hx hb dX0_as_40 rfl (lv_at hl 3 rfl) ?_
      refine lv_if_ne (tgt := 48) hx hb dX0_as_41 (by decide) (fun c41 => ?_) (fun c41 => ?_)
      · have hf := if_f hf c41
        refine lv_iload_n hx hb dX0_as_48 rfl (lv_at hl 3 rfl) ?_
        refine lv_iconst (v := 1) hx hb dX0_as_49 (by decide) ?_
        refine lv_icmp_ne (tgt := 60) hx hb dX0_as_50 (by decide) (fun c50 => ?_) (fun c50 => ?_)
        · have hf := if_f hf c50
          refine lv_iload_n hx hb dX0_as_60 rfl (lv_at hl 3 rfl) ?_
          refine lv_iconst (v := 2) hx hb dX0_as_61 (by decide) ?_
          refine lv_icmp_ne (tgt := 72) hx hb dX0_as_62 (by decide) (fun c62 => ?_) (fun c62 => ?_)
          · have hf := if_f hf c62
            refine lv_iload_n hx hb dX0_as_72 rfl (lv_at hl 3 rfl) ?_
            refine lv_iconst (v := 3) hx hb dX0_as_73 (by decide) ?_
            refine lv_icmp_ne (tgt := 84) hx hb dX0_as_74 (by decide) (fun c74 => ?_) (fun c74 => ?_)
            · have hf := if_f hf c74
              refine lv_iload_n hx hb dX0_as_84 rfl (lv_at hl 3 rfl) ?_
              refine lv_iconst (v := 4) hx hb dX0_as_85 (by decide) ?_
              refine lv_icmp_ne (tgt := 96) hx hb dX0_as_86 (by decide) (fun c86 => ?_) (fun c86 => ?_)
              · have hf := if_f hf c86
                refine lv_aload_n hx hb dX0_as_96 rfl (lv_at hl 0 rfl) ?_
                by_cases ck : castK 4 k4 = true
                · have hf := if_t hf ck
                  refine x_castOK (t := 4) him hkd (by decide) ck cx hw (hts _ q286) dX0_as_97 ?_
                  refine lv_astore (lv' := [(4, .ref e3), (3, .ref e3), (0, .ref (sa 0)), (1, .int p1), (2, .int p2)]) hx hb dX0_as_100 hl (by decide) rfl (fun ls hl => ?_)
                  refine lv_aload_n hx hb dX0_as_102 rfl (lv_at hl 2 rfl) ?_
                  refine lv_aload hx hb dX0_as_103 (lv_at hl 0 rfl) ?_
                  obtain ⟨v28, hrd, hf⟩ := op_e hf
                  refine x_number him hrd cx hw hl.1 q1135 ⟨(Nat.le_of_ble_eq_true rfl), (Nat.le_of_ble_eq_true rfl)⟩ (Nat.le_of_ble_eq_true rfl) ⟨(Nat.le_of_ble_eq_true rfl), (Nat.le_of_ble_eq_true rfl)⟩ dX0_as_105 (fun H locs hw => ?_)
                  obtain ⟨q29, hcq29, hf⟩ := op_e hf
                  refine x_VI (wr := [oH ha (Hfl hv) (Hro hv) (Hrp hv) (Hca hv) (Hwy hv) (Hla hv) (Hmi hv) (Htf hv) (Htk hv), aV d ha 1 (HHO hv), aV d ha 2 (HAT hv), aV d ha 3 (HTO hv), aV d ha 4 (HWE hv), aV d ha 5 (HHE hv), aV d ha 6 (HRA hv)]) (rest := []) [.int v28] hX cx hw hl.1 (mX0_well l  D d cs wi ln lf dk dn him sa ha ta gt gf gc tra gs v28  q29 hcq29) (lw_V q433 q435 qs1 q82 q436) hd_X0_well ⟨(Nat.le_of_ble_eq_true rfl), (Nat.le_of_ble_eq_true rfl)⟩ (va_recv hK hw.1 (ci := 1) (q0 := 7) rfl rfl) rfl rfl (Nat.le_of_ble_eq_true rfl) dX0_as_108 [7] [0, 1, 2, 3, 4, 5, 6] rfl rfl rfl rfl (by decide) ⟨(Nat.le_of_ble_eq_true rfl), (Nat.le_of_ble_eq_true rfl)⟩ (fun r u H locs hp hw => ?_)
                  have hw : Wd D A s [oH ha (Hfl hv) (Hro hv) (Hrp hv) (Hca hv) (Hwy hv) (Hla hv) (Hmi hv) (Htf hv) (Htk hv), aV d ha 1 (HHO hv), aV d ha 2 (HAT hv), aV d ha 3 (HTO hv), aV d ha 4 (HWE hv), aV d ha 5 (HHE hv), aV d ha 6 (HRA hv), oS sa ha ta gt gf gc tra q29.2] H locs := hw
                  subst r
                  have hf := sm_e hf
                  subst hf
                  exact x_retI cx hw rfl () rfl [0, 1, 2, 3, 4, 5, 6, 7] rfl rfl (Nat.le_of_ble_eq_true rfl) (Nat.le_of_ble_eq_true rfl) dX0_as_111
                · have hf := if_f hf ck
                  refine x_castNo (t := 4) hfl hE him hkd (by decide) ck cx hw hl.1 q286 (Nat.le_of_ble_eq_true rfl) (Nat.le_of_ble_eq_true rfl) (Nat.le_of_ble_eq_true rfl) (Nat.le_of_ble_eq_true rfl) dX0_as_97 (fun H a27 ce hw g1 g2 g3 => ?_)
                  refine vx_catch (E := "java/lang/ClassCastException") (ce := ce) hown [] ⟨40, 111, 112, 394⟩ [⟨23, 111, 123, 74⟩, ⟨112, 123, 123, 74⟩] hET (fun z hz => absurd hz List.not_mem_nil) rfl (by decide) (hts _ q1121) (va_tabs rfl rfl (Tb.cast q1133 hXs.1)) g1 g2 g3 ?_
                  refine W.eq (g2 := F0 m 112 ls [.ref a27]) rfl ?_
                  refine W.widen (k := 3) (n := 910) (Nat.le_of_ble_eq_true rfl) (Nat.le_of_ble_eq_true rfl) ?_
                  refine lv_astore (lv' := [(4, .ref a27), (3, .ref e3), (0, .ref (sa 0)), (1, .int p1), (2, .int p2)]) hx hb dX0_as_112 hl (by decide) rfl (fun ls hl => ?_)
                  refine va_new (ci := 12) (fs := [.null, .null, .null, .null, .null, .int 0, .int 0]) (C := RX10) (T := TX10) (N := 7) hx hb hts in_X10 tyX10 tyX10_ok hown (hts _ q341) (hts _ q354) (hts _ q97) hK hw.1 hw.2.1 hw.2.2 hA rfl (fun j hj => match j, hj with | 0, _ => rfl | 1, _ => rfl | 2, _ => rfl | 3, _ => rfl | 4, _ => rfl | 5, _ => rfl | 6, _ => rfl | j + 7, hj => absurd hj (by omega)) (Nat.le_of_ble_eq_true rfl) (Nat.le_of_ble_eq_true rfl) dX0_as_114 (fun a30 H hP hD hS => ?_)
                  have hw : Wd D A s [oH ha (Hfl hv) (Hro hv) (Hrp hv) (Hca hv) (Hwy hv) (Hla hv) (Hmi hv) (Htf hv) (Htk hv), aV d ha 1 (HHO hv), aV d ha 2 (HAT hv), aV d ha 3 (HTO hv), aV d ha 4 (HWE hv), aV d ha 5 (HHE hv), aV d ha 6 (HRA hv), oS sa ha ta gt gf gc tra gs, (a30, .inr (12, [.null, .null, .null, .null, .null, .int 0, .int 0]))] H locs := ⟨hP, hD, hS⟩
                  refine W.widen (k := 4) (n := 917) (Nat.le_of_ble_eq_true rfl) (Nat.le_of_ble_eq_true rfl) ?_
                  refine lv_dup hx hb dX0_as_117 rfl ?_
                  refine lv_iconst (v := 3) hx hb dX0_as_118 (by decide) ?_
                  refine x_NV (wr := [oH ha (Hfl hv) (Hro hv) (Hrp hv) (Hca hv) (Hwy hv) (Hla hv) (Hmi hv) (Htf hv) (Htk hv), aV d ha 1 (HHO hv), aV d ha 2 (HAT hv), aV d ha 3 (HTO hv), aV d ha 4 (HWE hv), aV d ha 5 (HHE hv), aV d ha 6 (HRA hv), oS sa ha ta gt gf gc tra gs]) (rest := [.ref a30]) [.int 3] hX cx hw hl.1 (mX10_init l cs wi D d a30 3 ) q395 q97 q393 q394 rfl hd_X10_init ⟨(Nat.le_of_ble_eq_true rfl), (Nat.le_of_ble_eq_true rfl)⟩ rfl rfl (Nat.le_of_ble_eq_true rfl) dX0_as_119 [8] [0, 1, 2, 3, 4, 5, 6, 7] rfl rfl rfl rfl (by decide) ⟨(Nat.le_of_ble_eq_true rfl), (Nat.le_of_ble_eq_true rfl)⟩ (fun u H locs hp hw => ?_)
                  have hw : Wd D A s [oH ha (Hfl hv) (Hro hv) (Hrp hv) (Hca hv) (Hwy hv) (Hla hv) (Hmi hv) (Htf hv) (Htk hv), aV d ha 1 (HHO hv), aV d ha 2 (HAT hv), aV d ha 3 (HTO hv), aV d ha 4 (HWE hv), aV d ha 5 (HHE hv), aV d ha 6 (HRA hv), oS sa ha ta gt gf gc tra gs, (a30, .inr (12, [.null, .null, .null, .null, .null, .int 0, .int 3]))] H locs := hw
                  refine W.widen (k := 4) (n := 917) (Nat.le_of_ble_eq_true rfl) (Nat.le_of_ble_eq_true rfl) ?_
                  refine vx_athrow hx hb dX0_as_122 ?_
                  obtain ⟨ce, g1, g2, g3⟩ := x_thrown cx hw (k := 8) rfl rfl
                  refine vx_catch (E := "DishLift$Finding") (ce := ce) hown [⟨40, 111, 112, 394⟩, ⟨23, 111, 123, 74⟩] ⟨112, 123, 123, 74⟩ [] hET (fun z hz => Or.inl (by simp only [List.mem_cons, List.not_mem_nil, or_false] at hz; rcases hz with rfl | rfl <;> rfl)) rfl (by decide) (hts _ q341) (va_tabs rfl rfl (Tb.cast q355 hXs.1)) g1 g2 g3 ?_
                  refine W.eq (g2 := F0 m 123 ls [.ref a30]) rfl ?_
                  refine lv_astore_n (lv' := [(3, .ref a30), (4, .ref a27), (0, .ref (sa 0)), (1, .int p1), (2, .int p2)]) hx hb dX0_as_123 rfl hl (by decide) rfl (fun ls hl => ?_)
                  refine lv_aload_n hx hb dX0_as_124 rfl (lv_at hl 2 rfl) ?_
                  refine lv_aload_n hx hb dX0_as_125 rfl (lv_at hl 0 rfl) ?_
                  obtain ⟨q31, hcq31, hf⟩ := op_e hf
                  refine x_VI (wr := [oH ha (Hfl hv) (Hro hv) (Hrp hv) (Hca hv) (Hwy hv) (Hla hv) (Hmi hv) (Htf hv) (Htk hv), aV d ha 1 (HHO hv), aV d ha 2 (HAT hv), aV d ha 3 (HTO hv), aV d ha 4 (HWE hv), aV d ha 5 (HHE hv), aV d ha 6 (HRA hv)]) (rest := []) [.ref a30] hX cx hw hl.1 (mX0_found l  D d cs wi ln lf dk dn him sa ha ta a30 gt gf gc tra gs 3  q31 hcq31) (lw_V q437 q439 qs2 q82 q440) hd_X0_found ⟨(Nat.le_of_ble_eq_true rfl), (Nat.le_of_ble_eq_true rfl)⟩ (va_recv hK hw.1 (ci := 1) (q0 := 7) rfl rfl) rfl rfl (Nat.le_of_ble_eq_true rfl) dX0_as_126 [8, 7] [0, 1, 2, 3, 4, 5, 6] rfl rfl rfl rfl (by decide) ⟨(Nat.le_of_ble_eq_true rfl), (Nat.le_of_ble_eq_true rfl)⟩ (fun r u H locs hp hw => ?_)
                  have hw : Wd D A s [oH ha (Hfl hv) (Hro hv) (Hrp hv) (Hca hv) (Hwy hv) (Hla hv) (Hmi hv) (Htf hv) (Htk hv), aV d ha 1 (HHO hv), aV d ha 2 (HAT hv), aV d ha 3 (HTO hv), aV d ha 4 (HWE hv), aV d ha 5 (HHE hv), aV d ha 6 (HRA hv), (a30, .inr (12, [.null, .null, .null, .null, .null, .int 0, .int 3])), oS sa ha ta gt gf gc tra q31.2] H locs := hw
                  subst r
                  have hf := sm_e hf
                  subst hf
                  exact x_retI cx hw rfl () rfl [0, 1, 2, 3, 4, 5, 6, 8] rfl rfl (Nat.le_of_ble_eq_true rfl) (Nat.le_of_ble_eq_true rfl) dX0_as_129
              · have hf := if_t hf c86
                refine lv_aload_n hx hb dX0_as_89 rfl (lv_at hl 0 rfl) ?_
                by_cases ck : castK 3 k4 = true
                · have hf := if_t hf ck
                  refine x_castOK (t := 3) him hkd (by decide) ck cx hw (hts _ q278) dX0_as_90 ?_
                  refine lv_goto (tgt := 100) hx hb dX0_as_93 (by decide) ?_
                  refine lv_astore (lv' := [(4, .ref e3), (3, .ref e3), (0, .ref (sa 0)), (1, .int p1), (2, .int p2)]) hx hb dX0_as_100 hl (by decide) rfl (fun ls hl => ?_)
                  refine lv_aload_n hx hb dX0_as_102 rfl (lv_at hl 2 rfl) ?_
                  refine lv_aload hx hb dX0_as_103 (lv_at hl 0 rfl) ?_
                  obtain ⟨v23, hrd, hf⟩ := op_e hf
                  refine x_number him hrd cx hw hl.1 q1135 ⟨(Nat.le_of_ble_eq_true rfl), (Nat.le_of_ble_eq_true rfl)⟩ (Nat.le_of_ble_eq_true rfl) ⟨(Nat.le_of_ble_eq_true rfl), (Nat.le_of_ble_eq_true rfl)⟩ dX0_as_105 (fun H locs hw => ?_)
                  obtain ⟨q24, hcq24, hf⟩ := op_e hf
                  refine x_VI (wr := [oH ha (Hfl hv) (Hro hv) (Hrp hv) (Hca hv) (Hwy hv) (Hla hv) (Hmi hv) (Htf hv) (Htk hv), aV d ha 1 (HHO hv), aV d ha 2 (HAT hv), aV d ha 3 (HTO hv), aV d ha 4 (HWE hv), aV d ha 5 (HHE hv), aV d ha 6 (HRA hv)]) (rest := []) [.int v23] hX cx hw hl.1 (mX0_well l  D d cs wi ln lf dk dn him sa ha ta gt gf gc tra gs v23  q24 hcq24) (lw_V q433 q435 qs1 q82 q436) hd_X0_well ⟨(Nat.le_of_ble_eq_true rfl), (Nat.le_of_ble_eq_true rfl)⟩ (va_recv hK hw.1 (ci := 1) (q0 := 7) rfl rfl) rfl rfl (Nat.le_of_ble_eq_true rfl) dX0_as_108 [7] [0, 1, 2, 3, 4, 5, 6] rfl rfl rfl rfl (by decide) ⟨(Nat.le_of_ble_eq_true rfl), (Nat.le_of_ble_eq_true rfl)⟩ (fun r u H locs hp hw => ?_)
                  have hw : Wd D A s [oH ha (Hfl hv) (Hro hv) (Hrp hv) (Hca hv) (Hwy hv) (Hla hv) (Hmi hv) (Htf hv) (Htk hv), aV d ha 1 (HHO hv), aV d ha 2 (HAT hv), aV d ha 3 (HTO hv), aV d ha 4 (HWE hv), aV d ha 5 (HHE hv), aV d ha 6 (HRA hv), oS sa ha ta gt gf gc tra q24.2] H locs := hw
                  subst r
                  have hf := sm_e hf
                  subst hf
                  exact x_retI cx hw rfl () rfl [0, 1, 2, 3, 4, 5, 6, 7] rfl rfl (Nat.le_of_ble_eq_true rfl) (Nat.le_of_ble_eq_true rfl) dX0_as_111
                · have hf := if_f hf ck
                  refine x_castNo (t := 3) hfl hE him hkd (by decide) ck cx hw hl.1 q278 (Nat.le_of_ble_eq_true rfl) (Nat.le_of_ble_eq_true rfl) (Nat.le_of_ble_eq_true rfl) (Nat.le_of_ble_eq_true rfl) dX0_as_90 (fun H a22 ce hw g1 g2 g3 => ?_)
                  refine vx_catch (E := "java/lang/ClassCastException") (ce := ce) hown [] ⟨40, 111, 112, 394⟩ [⟨23, 111, 123, 74⟩, ⟨112, 123, 123, 74⟩] hET (fun z hz => absurd hz List.not_mem_nil) rfl (by decide) (hts _ q1121) (va_tabs rfl rfl (Tb.cast q1133 hXs.1)) g1 g2 g3 ?_
                  refine W.eq (g2 := F0 m 112 ls [.ref a22]) rfl ?_
                  refine W.widen (k := 3) (n := 910) (Nat.le_of_ble_eq_true rfl) (Nat.le_of_ble_eq_true rfl) ?_
                  refine lv_astore (lv' := [(4, .ref a22), (3, .ref e3), (0, .ref (sa 0)), (1, .int p1), (2, .int p2)]) hx hb dX0_as_112 hl (by decide) rfl (fun ls hl => ?_)
                  refine va_new (ci := 12) (fs := [.null, .null, .null, .null, .null, .int 0, .int 0]) (C := RX10) (T := TX10) (N := 7) hx hb hts in_X10 tyX10 tyX10_ok hown (hts _ q341) (hts _ q354) (hts _ q97) hK hw.1 hw.2.1 hw.2.2 hA rfl (fun j hj => match j, hj with | 0, _ => rfl | 1, _ => rfl | 2, _ => rfl | 3, _ => rfl | 4, _ => rfl | 5, _ => rfl | 6, _ => rfl | j + 7, hj => absurd hj (by omega)) (Nat.le_of_ble_eq_true rfl) (Nat.le_of_ble_eq_true rfl) dX0_as_114 (fun a25 H hP hD hS => ?_)
                  have hw : Wd D A s [oH ha (Hfl hv) (Hro hv) (Hrp hv) (Hca hv) (Hwy hv) (Hla hv) (Hmi hv) (Htf hv) (Htk hv), aV d ha 1 (HHO hv), aV d ha 2 (HAT hv), aV d ha 3 (HTO hv), aV d ha 4 (HWE hv), aV d ha 5 (HHE hv), aV d ha 6 (HRA hv), oS sa ha ta gt gf gc tra gs, (a25, .inr (12, [.null, .null, .null, .null, .null, .int 0, .int 0]))] H locs := ⟨hP, hD, hS⟩
                  refine W.widen (k := 4) (n := 917) (Nat.le_of_ble_eq_true rfl) (Nat.le_of_ble_eq_true rfl) ?_
                  refine lv_dup hx hb dX0_as_117 rfl ?_
                  refine lv_iconst (v := 3) hx hb dX0_as_118 (by decide) ?_
                  refine x_NV (wr := [oH ha (Hfl hv) (Hro hv) (Hrp hv) (Hca hv) (Hwy hv) (Hla hv) (Hmi hv) (Htf hv) (Htk hv), aV d ha 1 (HHO hv), aV d ha 2 (HAT hv), aV d ha 3 (HTO hv), aV d ha 4 (HWE hv), aV d ha 5 (HHE hv), aV d ha 6 (HRA hv), oS sa ha ta gt gf gc tra gs]) (rest := [.ref a25]) [.int 3] hX cx hw hl.1 (mX10_init l cs wi D d a25 3 ) q395 q97 q393 q394 rfl hd_X10_init ⟨(Nat.le_of_ble_eq_true rfl), (Nat.le_of_ble_eq_true rfl)⟩ rfl rfl (Nat.le_of_ble_eq_true rfl) dX0_as_119 [8] [0, 1, 2, 3, 4, 5, 6, 7] rfl rfl rfl rfl (by decide) ⟨(Nat.le_of_ble_eq_true rfl), (Nat.le_of_ble_eq_true rfl)⟩ (fun u H locs hp hw => ?_)
                  have hw : Wd D A s [oH ha (Hfl hv) (Hro hv) (Hrp hv) (Hca hv) (Hwy hv) (Hla hv) (Hmi hv) (Htf hv) (Htk hv), aV d ha 1 (HHO hv), aV d ha 2 (HAT hv), aV d ha 3 (HTO hv), aV d ha 4 (HWE hv), aV d ha 5 (HHE hv), aV d ha 6 (HRA hv), oS sa ha ta gt gf gc tra gs, (a25, .inr (12, [.null, .null, .null, .null, .null, .int 0, .int 3]))] H locs := hw
                  refine W.widen (k := 4) (n := 917) (Nat.le_of_ble_eq_true rfl) (Nat.le_of_ble_eq_true rfl) ?_
                  refine vx_athrow hx hb dX0_as_122 ?_
                  obtain ⟨ce, g1, g2, g3⟩ := x_thrown cx hw (k := 8) rfl rfl
                  refine vx_catch (E := "DishLift$Finding") (ce := ce) hown [⟨40, 111, 112, 394⟩, ⟨23, 111, 123, 74⟩] ⟨112, 123, 123, 74⟩ [] hET (fun z hz => Or.inl (by simp only [List.mem_cons, List.not_mem_nil, or_false] at hz; rcases hz with rfl | rfl <;> rfl)) rfl (by decide) (hts _ q341) (va_tabs rfl rfl (Tb.cast q355 hXs.1)) g1 g2 g3 ?_
                  refine W.eq (g2 := F0 m 123 ls [.ref a25]) rfl ?_
                  refine lv_astore_n (lv' := [(3, .ref a25), (4, .ref a22), (0, .ref (sa 0)), (1, .int p1), (2, .int p2)]) hx hb dX0_as_123 rfl hl (by decide) rfl (fun ls hl => ?_)
                  refine lv_aload_n hx hb dX0_as_124 rfl (lv_at hl 2 rfl) ?_
                  refine lv_aload_n hx hb dX0_as_125 rfl (lv_at hl 0 rfl) ?_
                  obtain ⟨q26, hcq26, hf⟩ := op_e hf
                  refine x_VI (wr := [oH ha (Hfl hv) (Hro hv) (Hrp hv) (Hca hv) (Hwy hv) (Hla hv) (Hmi hv) (Htf hv) (Htk hv), aV d ha 1 (HHO hv), aV d ha 2 (HAT hv), aV d ha 3 (HTO hv), aV d ha 4 (HWE hv), aV d ha 5 (HHE hv), aV d ha 6 (HRA hv)]) (rest := []) [.ref a25] hX cx hw hl.1 (mX0_found l  D d cs wi ln lf dk dn him sa ha ta a25 gt gf gc tra gs 3  q26 hcq26) (lw_V q437 q439 qs2 q82 q440) hd_X0_found ⟨(Nat.le_of_ble_eq_true rfl), (Nat.le_of_ble_eq_true rfl)⟩ (va_recv hK hw.1 (ci := 1) (q0 := 7) rfl rfl) rfl rfl (Nat.le_of_ble_eq_true rfl) dX0_as_126 [8, 7] [0, 1, 2, 3, 4, 5, 6] rfl rfl rfl rfl (by decide) ⟨(Nat.le_of_ble_eq_true rfl), (Nat.le_of_ble_eq_true rfl)⟩ (fun r u H locs hp hw => ?_)
                  have hw : Wd D A s [oH ha (Hfl hv) (Hro hv) (Hrp hv) (Hca hv) (Hwy hv) (Hla hv) (Hmi hv) (Htf hv) (Htk hv), aV d ha 1 (HHO hv), aV d ha 2 (HAT hv), aV d ha 3 (HTO hv), aV d ha 4 (HWE hv), aV d ha 5 (HHE hv), aV d ha 6 (HRA hv), (a25, .inr (12, [.null, .null, .null, .null, .null, .int 0, .int 3])), oS sa ha ta gt gf gc tra q26.2] H locs := hw
                  subst r
                  have hf := sm_e hf
                  subst hf
                  exact x_retI cx hw rfl () rfl [0, 1, 2, 3, 4, 5, 6, 8] rfl rfl (Nat.le_of_ble_eq_true rfl) (Nat.le_of_ble_eq_true rfl) dX0_as_129
            · have hf := if_t hf c74
              refine lv_aload_n hx hb dX0_as_77 rfl (lv_at hl 0 rfl) ?_
              by_cases ck : castK 2 k4 = true
              · have hf := if_t hf ck
                refine x_castOK (t := 2) him hkd (by decide) ck cx hw (hts _ q270) dX0_as_78 ?_
                refine lv_goto (tgt := 100) hx hb dX0_as_81 (by decide) ?_
                refine lv_astore (lv' := [(4, .ref e3), (3, .ref e3), (0, .ref (sa 0)), (1, .int p1), (2, .int p2)]) hx hb dX0_as_100 hl (by decide) rfl (fun ls hl => ?_)
                refine lv_aload_n hx hb dX0_as_102 rfl (lv_at hl 2 rfl) ?_
                refine lv_aload hx hb dX0_as_103 (lv_at hl 0 rfl) ?_
                obtain ⟨v18, hrd, hf⟩ := op_e hf
                refine x_number him hrd cx hw hl.1 q1135 ⟨(Nat.le_of_ble_eq_true rfl), (Nat.le_of_ble_eq_true rfl)⟩ (Nat.le_of_ble_eq_true rfl) ⟨(Nat.le_of_ble_eq_true rfl), (Nat.le_of_ble_eq_true rfl)⟩ dX0_as_105 (fun H locs hw => ?_)
                obtain ⟨q19, hcq19, hf⟩ := op_e hf
                refine x_VI (wr := [oH ha (Hfl hv) (Hro hv) (Hrp hv) (Hca hv) (Hwy hv) (Hla hv) (Hmi hv) (Htf hv) (Htk hv), aV d ha 1 (HHO hv), aV d ha 2 (HAT hv), aV d ha 3 (HTO hv), aV d ha 4 (HWE hv), aV d ha 5 (HHE hv), aV d ha 6 (HRA hv)]) (rest := []) [.int v18] hX cx hw hl.1 (mX0_well l  D d cs wi ln lf dk dn him sa ha ta gt gf gc tra gs v18  q19 hcq19) (lw_V q433 q435 qs1 q82 q436) hd_X0_well ⟨(Nat.le_of_ble_eq_true rfl), (Nat.le_of_ble_eq_true rfl)⟩ (va_recv hK hw.1 (ci := 1) (q0 := 7) rfl rfl) rfl rfl (Nat.le_of_ble_eq_true rfl) dX0_as_108 [7] [0, 1, 2, 3, 4, 5, 6] rfl rfl rfl rfl (by decide) ⟨(Nat.le_of_ble_eq_true rfl), (Nat.le_of_ble_eq_true rfl)⟩ (fun r u H locs hp hw => ?_)
                have hw : Wd D A s [oH ha (Hfl hv) (Hro hv) (Hrp hv) (Hca hv) (Hwy hv) (Hla hv) (Hmi hv) (Htf hv) (Htk hv), aV d ha 1 (HHO hv), aV d ha 2 (HAT hv), aV d ha 3 (HTO hv), aV d ha 4 (HWE hv), aV d ha 5 (HHE hv), aV d ha 6 (HRA hv), oS sa ha ta gt gf gc tra q19.2] H locs := hw
                subst r
                have hf := sm_e hf
                subst hf
                exact x_retI cx hw rfl () rfl [0, 1, 2, 3, 4, 5, 6, 7] rfl rfl (Nat.le_of_ble_eq_true rfl) (Nat.le_of_ble_eq_true rfl) dX0_as_111
              · have hf := if_f hf ck
                refine x_castNo (t := 2) hfl hE him hkd (by decide) ck cx hw hl.1 q270 (Nat.le_of_ble_eq_true rfl) (Nat.le_of_ble_eq_true rfl) (Nat.le_of_ble_eq_true rfl) (Nat.le_of_ble_eq_true rfl) dX0_as_78 (fun H a17 ce hw g1 g2 g3 => ?_)
                refine vx_catch (E := "java/lang/ClassCastException") (ce := ce) hown [] ⟨40, 111, 112, 394⟩ [⟨23, 111, 123, 74⟩, ⟨112, 123, 123, 74⟩] hET (fun z hz => absurd hz List.not_mem_nil) rfl (by decide) (hts _ q1121) (va_tabs rfl rfl (Tb.cast q1133 hXs.1)) g1 g2 g3 ?_
                refine W.eq (g2 := F0 m 112 ls [.ref a17]) rfl ?_
                refine W.widen (k := 3) (n := 910) (Nat.le_of_ble_eq_true rfl) (Nat.le_of_ble_eq_true rfl) ?_
                refine lv_astore (lv' := [(4, .ref a17), (3, .ref e3), (0, .ref (sa 0)), (1, .int p1), (2, .int p2)]) hx hb dX0_as_112 hl (by decide) rfl (fun ls hl => ?_)
                refine va_new (ci := 12) (fs := [.null, .null, .null, .null, .null, .int 0, .int 0]) (C := RX10) (T := TX10) (N := 7) hx hb hts in_X10 tyX10 tyX10_ok hown (hts _ q341) (hts _ q354) (hts _ q97) hK hw.1 hw.2.1 hw.2.2 hA rfl (fun j hj => match j, hj with | 0, _ => rfl | 1, _ => rfl | 2, _ => rfl | 3, _ => rfl | 4, _ => rfl | 5, _ => rfl | 6, _ => rfl | j + 7, hj => absurd hj (by omega)) (Nat.le_of_ble_eq_true rfl) (Nat.le_of_ble_eq_true rfl) dX0_as_114 (fun a20 H hP hD hS => ?_)
                have hw : Wd D A s [oH ha (Hfl hv) (Hro hv) (Hrp hv) (Hca hv) (Hwy hv) (Hla hv) (Hmi hv) (Htf hv) (Htk hv), aV d ha 1 (HHO hv), aV d ha 2 (HAT hv), aV d ha 3 (HTO hv), aV d ha 4 (HWE hv), aV d ha 5 (HHE hv), aV d ha 6 (HRA hv), oS sa ha ta gt gf gc tra gs, (a20, .inr (12, [.null, .null, .null, .null, .null, .int 0, .int 0]))] H locs := ⟨hP, hD, hS⟩
                refine W.widen (k := 4) (n := 917) (Nat.le_of_ble_eq_true rfl) (Nat.le_of_ble_eq_true rfl) ?_
                refine lv_dup hx hb dX0_as_117 rfl ?_
                refine lv_iconst (v := 3) hx hb dX0_as_118 (by decide) ?_
                refine x_NV (wr := [oH ha (Hfl hv) (Hro hv) (Hrp hv) (Hca hv) (Hwy hv) (Hla hv) (Hmi hv) (Htf hv) (Htk hv), aV d ha 1 (HHO hv), aV d ha 2 (HAT hv), aV d ha 3 (HTO hv), aV d ha 4 (HWE hv), aV d ha 5 (HHE hv), aV d ha 6 (HRA hv), oS sa ha ta gt gf gc tra gs]) (rest := [.ref a20]) [.int 3] hX cx hw hl.1 (mX10_init l cs wi D d a20 3 ) q395 q97 q393 q394 rfl hd_X10_init ⟨(Nat.le_of_ble_eq_true rfl), (Nat.le_of_ble_eq_true rfl)⟩ rfl rfl (Nat.le_of_ble_eq_true rfl) dX0_as_119 [8] [0, 1, 2, 3, 4, 5, 6, 7] rfl rfl rfl rfl (by decide) ⟨(Nat.le_of_ble_eq_true rfl), (Nat.le_of_ble_eq_true rfl)⟩ (fun u H locs hp hw => ?_)
                have hw : Wd D A s [oH ha (Hfl hv) (Hro hv) (Hrp hv) (Hca hv) (Hwy hv) (Hla hv) (Hmi hv) (Htf hv) (Htk hv), aV d ha 1 (HHO hv), aV d ha 2 (HAT hv), aV d ha 3 (HTO hv), aV d ha 4 (HWE hv), aV d ha 5 (HHE hv), aV d ha 6 (HRA hv), oS sa ha ta gt gf gc tra gs, (a20, .inr (12, [.null, .null, .null, .null, .null, .int 0, .int 3]))] H locs := hw
                refine W.widen (k := 4) (n := 917) (Nat.le_of_ble_eq_true rfl) (Nat.le_of_ble_eq_true rfl) ?_
                refine vx_athrow hx hb dX0_as_122 ?_
                obtain ⟨ce, g1, g2, g3⟩ := x_thrown cx hw (k := 8) rfl rfl
                refine vx_catch (E := "DishLift$Finding") (ce := ce) hown [⟨40, 111, 112, 394⟩, ⟨23, 111, 123, 74⟩] ⟨112, 123, 123, 74⟩ [] hET (fun z hz => Or.inl (by simp only [List.mem_cons, List.not_mem_nil, or_false] at hz; rcases hz with rfl | rfl <;> rfl)) rfl (by decide) (hts _ q341) (va_tabs rfl rfl (Tb.cast q355 hXs.1)) g1 g2 g3 ?_
                refine W.eq (g2 := F0 m 123 ls [.ref a20]) rfl ?_
                refine lv_astore_n (lv' := [(3, .ref a20), (4, .ref a17), (0, .ref (sa 0)), (1, .int p1), (2, .int p2)]) hx hb dX0_as_123 rfl hl (by decide) rfl (fun ls hl => ?_)
                refine lv_aload_n hx hb dX0_as_124 rfl (lv_at hl 2 rfl) ?_
                refine lv_aload_n hx hb dX0_as_125 rfl (lv_at hl 0 rfl) ?_
                obtain ⟨q21, hcq21, hf⟩ := op_e hf
                refine x_VI (wr := [oH ha (Hfl hv) (Hro hv) (Hrp hv) (Hca hv) (Hwy hv) (Hla hv) (Hmi hv) (Htf hv) (Htk hv), aV d ha 1 (HHO hv), aV d ha 2 (HAT hv), aV d ha 3 (HTO hv), aV d ha 4 (HWE hv), aV d ha 5 (HHE hv), aV d ha 6 (HRA hv)]) (rest := []) [.ref a20] hX cx hw hl.1 (mX0_found l  D d cs wi ln lf dk dn him sa ha ta a20 gt gf gc tra gs 3  q21 hcq21) (lw_V q437 q439 qs2 q82 q440) hd_X0_found ⟨(Nat.le_of_ble_eq_true rfl), (Nat.le_of_ble_eq_true rfl)⟩ (va_recv hK hw.1 (ci := 1) (q0 := 7) rfl rfl) rfl rfl (Nat.le_of_ble_eq_true rfl) dX0_as_126 [8, 7] [0, 1, 2, 3, 4, 5, 6] rfl rfl rfl rfl (by decide) ⟨(Nat.le_of_ble_eq_true rfl), (Nat.le_of_ble_eq_true rfl)⟩ (fun r u H locs hp hw => ?_)
                have hw : Wd D A s [oH ha (Hfl hv) (Hro hv) (Hrp hv) (Hca hv) (Hwy hv) (Hla hv) (Hmi hv) (Htf hv) (Htk hv), aV d ha 1 (HHO hv), aV d ha 2 (HAT hv), aV d ha 3 (HTO hv), aV d ha 4 (HWE hv), aV d ha 5 (HHE hv), aV d ha 6 (HRA hv), (a20, .inr (12, [.null, .null, .null, .null, .null, .int 0, .int 3])), oS sa ha ta gt gf gc tra q21.2] H locs := hw
                subst r
                have hf := sm_e hf
                subst hf
                exact x_retI cx hw rfl () rfl [0, 1, 2, 3, 4, 5, 6, 8] rfl rfl (Nat.le_of_ble_eq_true rfl) (Nat.le_of_ble_eq_true rfl) dX0_as_129
          · have hf := if_t hf c62
            refine lv_aload_n hx hb dX0_as_65 rfl (lv_at hl 0 rfl) ?_
            by_cases ck : castK 1 k4 = true
            · have hf := if_t hf ck
              refine x_castOK (t := 1) him hkd (by decide) ck cx hw (hts _ q262) dX0_as_66 ?_
              refine lv_goto (tgt := 100) hx hb dX0_as_69 (by decide) ?_
              refine lv_astore (lv' := [(4, .ref e3), (3, .ref e3), (0, .ref (sa 0)), (1, .int p1), (2, .int p2)]) hx hb dX0_as_100 hl (by decide) rfl (fun ls hl => ?_)
              refine lv_aload_n hx hb dX0_as_102 rfl (lv_at hl 2 rfl) ?_
              refine lv_aload hx hb dX0_as_103 (lv_at hl 0 rfl) ?_
              obtain ⟨v13, hrd, hf⟩ := op_e hf
              refine x_number him hrd cx hw hl.1 q1135 ⟨(Nat.le_of_ble_eq_true rfl), (Nat.le_of_ble_eq_true rfl)⟩ (Nat.le_of_ble_eq_true rfl) ⟨(Nat.le_of_ble_eq_true rfl), (Nat.le_of_ble_eq_true rfl)⟩ dX0_as_105 (fun H locs hw => ?_)
              obtain ⟨q14, hcq14, hf⟩ := op_e hf
              refine x_VI (wr := [oH ha (Hfl hv) (Hro hv) (Hrp hv) (Hca hv) (Hwy hv) (Hla hv) (Hmi hv) (Htf hv) (Htk hv), aV d ha 1 (HHO hv), aV d ha 2 (HAT hv), aV d ha 3 (HTO hv), aV d ha 4 (HWE hv), aV d ha 5 (HHE hv), aV d ha 6 (HRA hv)]) (rest := []) [.int v13] hX cx hw hl.1 (mX0_well l  D d cs wi ln lf dk dn him sa ha ta gt gf gc tra gs v13  q14 hcq14) (lw_V q433 q435 qs1 q82 q436) hd_X0_well ⟨(Nat.le_of_ble_eq_true rfl), (Nat.le_of_ble_eq_true rfl)⟩ (va_recv hK hw.1 (ci := 1) (q0 := 7) rfl rfl) rfl rfl (Nat.le_of_ble_eq_true rfl) dX0_as_108 [7] [0, 1, 2, 3, 4, 5, 6] rfl rfl rfl rfl (by decide) ⟨(Nat.le_of_ble_eq_true rfl), (Nat.le_of_ble_eq_true rfl)⟩ (fun r u H locs hp hw => ?_)
              have hw : Wd D A s [oH ha (Hfl hv) (Hro hv) (Hrp hv) (Hca hv) (Hwy hv) (Hla hv) (Hmi hv) (Htf hv) (Htk hv), aV d ha 1 (HHO hv), aV d ha 2 (HAT hv), aV d ha 3 (HTO hv), aV d ha 4 (HWE hv), aV d ha 5 (HHE hv), aV d ha 6 (HRA hv), oS sa ha ta gt gf gc tra q14.2] H locs := hw
              subst r
              have hf := sm_e hf
              subst hf
              exact x_retI cx hw rfl () rfl [0, 1, 2, 3, 4, 5, 6, 7] rfl rfl (Nat.le_of_ble_eq_true rfl) (Nat.le_of_ble_eq_true rfl) dX0_as_111
            · have hf := if_f hf ck
              refine x_castNo (t := 1) hfl hE him hkd (by decide) ck cx hw hl.1 q262 (Nat.le_of_ble_eq_true rfl) (Nat.le_of_ble_eq_true rfl) (Nat.le_of_ble_eq_true rfl) (Nat.le_of_ble_eq_true rfl) dX0_as_66 (fun H a12 ce hw g1 g2 g3 => ?_)
              refine vx_catch (E := "java/lang/ClassCastException") (ce := ce) hown [] ⟨40, 111, 112, 394⟩ [⟨23, 111, 123, 74⟩, ⟨112, 123, 123, 74⟩] hET (fun z hz => absurd hz List.not_mem_nil) rfl (by decide) (hts _ q1121) (va_tabs rfl rfl (Tb.cast q1133 hXs.1)) g1 g2 g3 ?_
              refine W.eq (g2 := F0 m 112 ls [.ref a12]) rfl ?_
              refine W.widen (k := 3) (n := 910) (Nat.le_of_ble_eq_true rfl) (Nat.le_of_ble_eq_true rfl) ?_
              refine lv_astore (lv' := [(4, .ref a12), (3, .ref e3), (0, .ref (sa 0)), (1, .int p1), (2, .int p2)]) hx hb dX0_as_112 hl (by decide) rfl (fun ls hl => ?_)
              refine va_new (ci := 12) (fs := [.null, .null, .null, .null, .null, .int 0, .int 0]) (C := RX10) (T := TX10) (N := 7) hx hb hts in_X10 tyX10 tyX10_ok hown (hts _ q341) (hts _ q354) (hts _ q97) hK hw.1 hw.2.1 hw.2.2 hA rfl (fun j hj => match j, hj with | 0, _ => rfl | 1, _ => rfl | 2, _ => rfl | 3, _ => rfl | 4, _ => rfl | 5, _ => rfl | 6, _ => rfl | j + 7, hj => absurd hj (by omega)) (Nat.le_of_ble_eq_true rfl) (Nat.le_of_ble_eq_true rfl) dX0_as_114 (fun a15 H hP hD hS => ?_)
              have hw : Wd D A s [oH ha (Hfl hv) (Hro hv) (Hrp hv) (Hca hv) (Hwy hv) (Hla hv) (Hmi hv) (Htf hv) (Htk hv), aV d ha 1 (HHO hv), aV d ha 2 (HAT hv), aV d ha 3 (HTO hv), aV d ha 4 (HWE hv), aV d ha 5 (HHE hv), aV d ha 6 (HRA hv), oS sa ha ta gt gf gc tra gs, (a15, .inr (12, [.null, .null, .null, .null, .null, .int 0, .int 0]))] H locs := ⟨hP, hD, hS⟩
              refine W.widen (k := 4) (n := 917) (Nat.le_of_ble_eq_true rfl) (Nat.le_of_ble_eq_true rfl) ?_
              refine lv_dup hx hb dX0_as_117 rfl ?_
              refine lv_iconst (v := 3) hx hb dX0_as_118 (by decide) ?_
              refine x_NV (wr := [oH ha (Hfl hv) (Hro hv) (Hrp hv) (Hca hv) (Hwy hv) (Hla hv) (Hmi hv) (Htf hv) (Htk hv), aV d ha 1 (HHO hv), aV d ha 2 (HAT hv), aV d ha 3 (HTO hv), aV d ha 4 (HWE hv), aV d ha 5 (HHE hv), aV d ha 6 (HRA hv), oS sa ha ta gt gf gc tra gs]) (rest := [.ref a15]) [.int 3] hX cx hw hl.1 (mX10_init l cs wi D d a15 3 ) q395 q97 q393 q394 rfl hd_X10_init ⟨(Nat.le_of_ble_eq_true rfl), (Nat.le_of_ble_eq_true rfl)⟩ rfl rfl (Nat.le_of_ble_eq_true rfl) dX0_as_119 [8] [0, 1, 2, 3, 4, 5, 6, 7] rfl rfl rfl rfl (by decide) ⟨(Nat.le_of_ble_eq_true rfl), (Nat.le_of_ble_eq_true rfl)⟩ (fun u H locs hp hw => ?_)
              have hw : Wd D A s [oH ha (Hfl hv) (Hro hv) (Hrp hv) (Hca hv) (Hwy hv) (Hla hv) (Hmi hv) (Htf hv) (Htk hv), aV d ha 1 (HHO hv), aV d ha 2 (HAT hv), aV d ha 3 (HTO hv), aV d ha 4 (HWE hv), aV d ha 5 (HHE hv), aV d ha 6 (HRA hv), oS sa ha ta gt gf gc tra gs, (a15, .inr (12, [.null, .null, .null, .null, .null, .int 0, .int 3]))] H locs := hw
              refine W.widen (k := 4) (n := 917) (Nat.le_of_ble_eq_true rfl) (Nat.le_of_ble_eq_true rfl) ?_
              refine vx_athrow hx hb dX0_as_122 ?_
              obtain ⟨ce, g1, g2, g3⟩ := x_thrown cx hw (k := 8) rfl rfl
              refine vx_catch (E := "DishLift$Finding") (ce := ce) hown [⟨40, 111, 112, 394⟩, ⟨23, 111, 123, 74⟩] ⟨112, 123, 123, 74⟩ [] hET (fun z hz => Or.inl (by simp only [List.mem_cons, List.not_mem_nil, or_false] at hz; rcases hz with rfl | rfl <;> rfl)) rfl (by decide) (hts _ q341) (va_tabs rfl rfl (Tb.cast q355 hXs.1)) g1 g2 g3 ?_
              refine W.eq (g2 := F0 m 123 ls [.ref a15]) rfl ?_
              refine lv_astore_n (lv' := [(3, .ref a15), (4, .ref a12), (0, .ref (sa 0)), (1, .int p1), (2, .int p2)]) hx hb dX0_as_123 rfl hl (by decide) rfl (fun ls hl => ?_)
              refine lv_aload_n hx hb dX0_as_124 rfl (lv_at hl 2 rfl) ?_
              refine lv_aload_n hx hb dX0_as_125 rfl (lv_at hl 0 rfl) ?_
              obtain ⟨q16, hcq16, hf⟩ := op_e hf
              refine x_VI (wr := [oH ha (Hfl hv) (Hro hv) (Hrp hv) (Hca hv) (Hwy hv) (Hla hv) (Hmi hv) (Htf hv) (Htk hv), aV d ha 1 (HHO hv), aV d ha 2 (HAT hv), aV d ha 3 (HTO hv), aV d ha 4 (HWE hv), aV d ha 5 (HHE hv), aV d ha 6 (HRA hv)]) (rest := []) [.ref a15] hX cx hw hl.1 (mX0_found l  D d cs wi ln lf dk dn him sa ha ta a15 gt gf gc tra gs 3  q16 hcq16) (lw_V q437 q439 qs2 q82 q440) hd_X0_found ⟨(Nat.le_of_ble_eq_true rfl), (Nat.le_of_ble_eq_true rfl)⟩ (va_recv hK hw.1 (ci := 1) (q0 := 7) rfl rfl) rfl rfl (Nat.le_of_ble_eq_true rfl) dX0_as_126 [8, 7] [0, 1, 2, 3, 4, 5, 6] rfl rfl rfl rfl (by decide) ⟨(Nat.le_of_ble_eq_true rfl), (Nat.le_of_ble_eq_true rfl)⟩ (fun r u H locs hp hw => ?_)
              have hw : Wd D A s [oH ha (Hfl hv) (Hro hv) (Hrp hv) (Hca hv) (Hwy hv) (Hla hv) (Hmi hv) (Htf hv) (Htk hv), aV d ha 1 (HHO hv), aV d ha 2 (HAT hv), aV d ha 3 (HTO hv), aV d ha 4 (HWE hv), aV d ha 5 (HHE hv), aV d ha 6 (HRA hv), (a15, .inr (12, [.null, .null, .null, .null, .null, .int 0, .int 3])), oS sa ha ta gt gf gc tra q16.2] H locs := hw
              subst r
              have hf := sm_e hf
              subst hf
              exact x_retI cx hw rfl () rfl [0, 1, 2, 3, 4, 5, 6, 8] rfl rfl (Nat.le_of_ble_eq_true rfl) (Nat.le_of_ble_eq_true rfl) dX0_as_129
        · have hf := if_t hf c50
          refine lv_aload_n hx hb dX0_as_53 rfl (lv_at hl 0 rfl) ?_
          by_cases ck : castK 0 k4 = true
          · have hf := if_t hf ck
            refine x_castOK (t := 0) him hkd (by decide) ck cx hw (hts _ q249) dX0_as_54 ?_
            refine lv_goto (tgt := 100) hx hb dX0_as_57 (by decide) ?_
            refine lv_astore (lv' := [(4, .ref e3), (3, .ref e3), (0, .ref (sa 0)), (1, .int p1), (2, .int p2)]) hx hb dX0_as_100 hl (by decide) rfl (fun ls hl => ?_)
            refine lv_aload_n hx hb dX0_as_102 rfl (lv_at hl 2 rfl) ?_
            refine lv_aload hx hb dX0_as_103 (lv_at hl 0 rfl) ?_
            obtain ⟨v8, hrd, hf⟩ := op_e hf
            refine x_number him hrd cx hw hl.1 q1135 ⟨(Nat.le_of_ble_eq_true rfl), (Nat.le_of_ble_eq_true rfl)⟩ (Nat.le_of_ble_eq_true rfl) ⟨(Nat.le_of_ble_eq_true rfl), (Nat.le_of_ble_eq_true rfl)⟩ dX0_as_105 (fun H locs hw => ?_)
            obtain ⟨q9, hcq9, hf⟩ := op_e hf
            refine x_VI (wr := [oH ha (Hfl hv) (Hro hv) (Hrp hv) (Hca hv) (Hwy hv) (Hla hv) (Hmi hv) (Htf hv) (Htk hv), aV d ha 1 (HHO hv), aV d ha 2 (HAT hv), aV d ha 3 (HTO hv), aV d ha 4 (HWE hv), aV d ha 5 (HHE hv), aV d ha 6 (HRA hv)]) (rest := []) [.int v8] hX cx hw hl.1 (mX0_well l  D d cs wi ln lf dk dn him sa ha ta gt gf gc tra gs v8  q9 hcq9) (lw_V q433 q435 qs1 q82 q436) hd_X0_well ⟨(Nat.le_of_ble_eq_true rfl), (Nat.le_of_ble_eq_true rfl)⟩ (va_recv hK hw.1 (ci := 1) (q0 := 7) rfl rfl) rfl rfl (Nat.le_of_ble_eq_true rfl) dX0_as_108 [7] [0, 1, 2, 3, 4, 5, 6] rfl rfl rfl rfl (by decide) ⟨(Nat.le_of_ble_eq_true rfl), (Nat.le_of_ble_eq_true rfl)⟩ (fun r u H locs hp hw => ?_)
            have hw : Wd D A s [oH ha (Hfl hv) (Hro hv) (Hrp hv) (Hca hv) (Hwy hv) (Hla hv) (Hmi hv) (Htf hv) (Htk hv), aV d ha 1 (HHO hv), aV d ha 2 (HAT hv), aV d ha 3 (HTO hv), aV d ha 4 (HWE hv), aV d ha 5 (HHE hv), aV d ha 6 (HRA hv), oS sa ha ta gt gf gc tra q9.2] H locs := hw
            subst r
            have hf := sm_e hf
            subst hf
            exact x_retI cx hw rfl () rfl [0, 1, 2, 3, 4, 5, 6, 7] rfl rfl (Nat.le_of_ble_eq_true rfl) (Nat.le_of_ble_eq_true rfl) dX0_as_111
          · have hf := if_f hf ck
            refine x_castNo (t := 0) hfl hE him hkd (by decide) ck cx hw hl.1 q249 (Nat.le_of_ble_eq_true rfl) (Nat.le_of_ble_eq_true rfl) (Nat.le_of_ble_eq_true rfl) (Nat.le_of_ble_eq_true rfl) dX0_as_54 (fun H a7 ce hw g1 g2 g3 => ?_)
            refine vx_catch (E := "java/lang/ClassCastException") (ce := ce) hown [] ⟨40, 111, 112, 394⟩ [⟨23, 111, 123, 74⟩, ⟨112, 123, 123, 74⟩] hET (fun z hz => absurd hz List.not_mem_nil) rfl (by decide) (hts _ q1121) (va_tabs rfl rfl (Tb.cast q1133 hXs.1)) g1 g2 g3 ?_
            refine W.eq (g2 := F0 m 112 ls [.ref a7]) rfl ?_
            refine W.widen (k := 3) (n := 910) (Nat.le_of_ble_eq_true rfl) (Nat.le_of_ble_eq_true rfl) ?_
            refine lv_astore (lv' := [(4, .ref a7), (3, .ref e3), (0, .ref (sa 0)), (1, .int p1), (2, .int p2)]) hx hb dX0_as_112 hl (by decide) rfl (fun ls hl => ?_)
            refine va_new (ci := 12) (fs := [.null, .null, .null, .null, .null, .int 0, .int 0]) (C := RX10) (T := TX10) (N := 7) hx hb hts in_X10 tyX10 tyX10_ok hown (hts _ q341) (hts _ q354) (hts _ q97) hK hw.1 hw.2.1 hw.2.2 hA rfl (fun j hj => match j, hj with | 0, _ => rfl | 1, _ => rfl | 2, _ => rfl | 3, _ => rfl | 4, _ => rfl | 5, _ => rfl | 6, _ => rfl | j + 7, hj => absurd hj (by omega)) (Nat.le_of_ble_eq_true rfl) (Nat.le_of_ble_eq_true rfl) dX0_as_114 (fun a10 H hP hD hS => ?_)
            have hw : Wd D A s [oH ha (Hfl hv) (Hro hv) (Hrp hv) (Hca hv) (Hwy hv) (Hla hv) (Hmi hv) (Htf hv) (Htk hv), aV d ha 1 (HHO hv), aV d ha 2 (HAT hv), aV d ha 3 (HTO hv), aV d ha 4 (HWE hv), aV d ha 5 (HHE hv), aV d ha 6 (HRA hv), oS sa ha ta gt gf gc tra gs, (a10, .inr (12, [.null, .null, .null, .null, .null, .int 0, .int 0]))] H locs := ⟨hP, hD, hS⟩
            refine W.widen (k := 4) (n := 917) (Nat.le_of_ble_eq_true rfl) (Nat.le_of_ble_eq_true rfl) ?_
            refine lv_dup hx hb dX0_as_117 rfl ?_
            refine lv_iconst (v := 3) hx hb dX0_as_118 (by decide) ?_
            refine x_NV (wr := [oH ha (Hfl hv) (Hro hv) (Hrp hv) (Hca hv) (Hwy hv) (Hla hv) (Hmi hv) (Htf hv) (Htk hv), aV d ha 1 (HHO hv), aV d ha 2 (HAT hv), aV d ha 3 (HTO hv), aV d ha 4 (HWE hv), aV d ha 5 (HHE hv), aV d ha 6 (HRA hv), oS sa ha ta gt gf gc tra gs]) (rest := [.ref a10]) [.int 3] hX cx hw hl.1 (mX10_init l cs wi D d a10 3 ) q395 q97 q393 q394 rfl hd_X10_init ⟨(Nat.le_of_ble_eq_true rfl), (Nat.le_of_ble_eq_true rfl)⟩ rfl rfl (Nat.le_of_ble_eq_true rfl) dX0_as_119 [8] [0, 1, 2, 3, 4, 5, 6, 7] rfl rfl rfl rfl (by decide) ⟨(Nat.le_of_ble_eq_true rfl), (Nat.le_of_ble_eq_true rfl)⟩ (fun u H locs hp hw => ?_)
            have hw : Wd D A s [oH ha (Hfl hv) (Hro hv) (Hrp hv) (Hca hv) (Hwy hv) (Hla hv) (Hmi hv) (Htf hv) (Htk hv), aV d ha 1 (HHO hv), aV d ha 2 (HAT hv), aV d ha 3 (HTO hv), aV d ha 4 (HWE hv), aV d ha 5 (HHE hv), aV d ha 6 (HRA hv), oS sa ha ta gt gf gc tra gs, (a10, .inr (12, [.null, .null, .null, .null, .null, .int 0, .int 3]))] H locs := hw
            refine W.widen (k := 4) (n := 917) (Nat.le_of_ble_eq_true rfl) (Nat.le_of_ble_eq_true rfl) ?_
            refine vx_athrow hx hb dX0_as_122 ?_
            obtain ⟨ce, g1, g2, g3⟩ := x_thrown cx hw (k := 8) rfl rfl
            refine vx_catch (E := "DishLift$Finding") (ce := ce) hown [⟨40, 111, 112, 394⟩, ⟨23, 111, 123, 74⟩] ⟨112, 123, 123, 74⟩ [] hET (fun z hz => Or.inl (by simp only [List.mem_cons, List.not_mem_nil, or_false] at hz; rcases hz with rfl | rfl <;> rfl)) rfl (by decide) (hts _ q341) (va_tabs rfl rfl (Tb.cast q355 hXs.1)) g1 g2 g3 ?_
            refine W.eq (g2 := F0 m 123 ls [.ref a10]) rfl ?_
            refine lv_astore_n (lv' := [(3, .ref a10), (4, .ref a7), (0, .ref (sa 0)), (1, .int p1), (2, .int p2)]) hx hb dX0_as_123 rfl hl (by decide) rfl (fun ls hl => ?_)
            refine lv_aload_n hx hb dX0_as_124 rfl (lv_at hl 2 rfl) ?_
            refine lv_aload_n hx hb dX0_as_125 rfl (lv_at hl 0 rfl) ?_
            obtain ⟨q11, hcq11, hf⟩ := op_e hf
            refine x_VI (wr := [oH ha (Hfl hv) (Hro hv) (Hrp hv) (Hca hv) (Hwy hv) (Hla hv) (Hmi hv) (Htf hv) (Htk hv), aV d ha 1 (HHO hv), aV d ha 2 (HAT hv), aV d ha 3 (HTO hv), aV d ha 4 (HWE hv), aV d ha 5 (HHE hv), aV d ha 6 (HRA hv)]) (rest := []) [.ref a10] hX cx hw hl.1 (mX0_found l  D d cs wi ln lf dk dn him sa ha ta a10 gt gf gc tra gs 3  q11 hcq11) (lw_V q437 q439 qs2 q82 q440) hd_X0_found ⟨(Nat.le_of_ble_eq_true rfl), (Nat.le_of_ble_eq_true rfl)⟩ (va_recv hK hw.1 (ci := 1) (q0 := 7) rfl rfl) rfl rfl (Nat.le_of_ble_eq_true rfl) dX0_as_126 [8, 7] [0, 1, 2, 3, 4, 5, 6] rfl rfl rfl rfl (by decide) ⟨(Nat.le_of_ble_eq_true rfl), (Nat.le_of_ble_eq_true rfl)⟩ (fun r u H locs hp hw => ?_)
            have hw : Wd D A s [oH ha (Hfl hv) (Hro hv) (Hrp hv) (Hca hv) (Hwy hv) (Hla hv) (Hmi hv) (Htf hv) (Htk hv), aV d ha 1 (HHO hv), aV d ha 2 (HAT hv), aV d ha 3 (HTO hv), aV d ha 4 (HWE hv), aV d ha 5 (HHE hv), aV d ha 6 (HRA hv), (a10, .inr (12, [.null, .null, .null, .null, .null, .int 0, .int 3])), oS sa ha ta gt gf gc tra q11.2] H locs := hw
            subst r
            have hf := sm_e hf
            subst hf
            exact x_retI cx hw rfl () rfl [0, 1, 2, 3, 4, 5, 6, 8] rfl rfl (Nat.le_of_ble_eq_true rfl) (Nat.le_of_ble_eq_true rfl) dX0_as_129
      · have hf := if_t hf c41
        refine lv_aload_n hx hb dX0_as_44 rfl (lv_at hl 0 rfl) ?_
        refine lv_goto (tgt := 100) hx hb dX0_as_45 (by decide) ?_
        refine lv_astore (lv' := [(4, .ref e3), (3, .ref e3), (0, .ref (sa 0)), (1, .int p1), (2, .int p2)]) hx hb dX0_as_100 hl (by decide) rfl (fun ls hl => ?_)
        refine lv_aload_n hx hb dX0_as_102 rfl (lv_at hl 2 rfl) ?_
        refine lv_aload hx hb dX0_as_103 (lv_at hl 0 rfl) ?_
        obtain ⟨v5, hrd, hf⟩ := op_e hf
        refine x_number him hrd cx hw hl.1 q1135 ⟨(Nat.le_of_ble_eq_true rfl), (Nat.le_of_ble_eq_true rfl)⟩ (Nat.le_of_ble_eq_true rfl) ⟨(Nat.le_of_ble_eq_true rfl), (Nat.le_of_ble_eq_true rfl)⟩ dX0_as_105 (fun H locs hw => ?_)
        obtain ⟨q6, hcq6, hf⟩ := op_e hf
        refine x_VI (wr := [oH ha (Hfl hv) (Hro hv) (Hrp hv) (Hca hv) (Hwy hv) (Hla hv) (Hmi hv) (Htf hv) (Htk hv), aV d ha 1 (HHO hv), aV d ha 2 (HAT hv), aV d ha 3 (HTO hv), aV d ha 4 (HWE hv), aV d ha 5 (HHE hv), aV d ha 6 (HRA hv)]) (rest := []) [.int v5] hX cx hw hl.1 (mX0_well l  D d cs wi ln lf dk dn him sa ha ta gt gf gc tra gs v5  q6 hcq6) (lw_V q433 q435 qs1 q82 q436) hd_X0_well ⟨(Nat.le_of_ble_eq_true rfl), (Nat.le_of_ble_eq_true rfl)⟩ (va_recv hK hw.1 (ci := 1) (q0 := 7) rfl rfl) rfl rfl (Nat.le_of_ble_eq_true rfl) dX0_as_108 [7] [0, 1, 2, 3, 4, 5, 6] rfl rfl rfl rfl (by decide) ⟨(Nat.le_of_ble_eq_true rfl), (Nat.le_of_ble_eq_true rfl)⟩ (fun r u H locs hp hw => ?_)
        have hw : Wd D A s [oH ha (Hfl hv) (Hro hv) (Hrp hv) (Hca hv) (Hwy hv) (Hla hv) (Hmi hv) (Htf hv) (Htk hv), aV d ha 1 (HHO hv), aV d ha 2 (HAT hv), aV d ha 3 (HTO hv), aV d ha 4 (HWE hv), aV d ha 5 (HHE hv), aV d ha 6 (HRA hv), oS sa ha ta gt gf gc tra q6.2] H locs := hw
        subst r
        have hf := sm_e hf
        subst hf
        exact x_retI cx hw rfl () rfl [0, 1, 2, 3, 4, 5, 6, 7] rfl rfl (Nat.le_of_ble_eq_true rfl) (Nat.le_of_ble_eq_true rfl) dX0_as_111
    · have hf := if_t hf c17
      refine lv_ldc (v := (-1000001)) hx hb hown (hts _ q350) dX0_as_20 ?_
      have hf := sm_e hf
      subst hf
      exact x_retI cx hw rfl () rfl [0, 1, 2, 3, 4, 5, 6, 7] rfl rfl (Nat.le_of_ble_eq_true rfl) (Nat.le_of_ble_eq_true rfl) dX0_as_22
