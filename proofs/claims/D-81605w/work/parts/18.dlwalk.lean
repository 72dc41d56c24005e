set_option maxRecDepth 100000
theorem hd_X0_whereIn : yX0_whereIn.cls ≠ "java/lang/invoke/MethodHandle" ∧ yX0_whereIn.cls ≠ "java/lang/invoke/VarHandle" ∧ (parseMethodDescriptor yX0_whereIn.desc).map (fun d => d.parameters.length) = some 2 := by decide +kernel
set_option maxHeartbeats 4000000 in
theorem mX0_whereIn (l : Launch)  (D : va_G) (d : Nat → ClassId) (cs : Nat → Nat) (wi : va_W) (ln : Nat → Option Int32) (lf : Nat → Nat → Option Nat) (dk : Nat → Option Nat) (dn : Nat → Int32) (him : ImF d wi ln lf dk dn) (wa : Nat → Nat) (wv : HV) (p1 : Int32)  (res : Int32) (hf : fX0_whereIn wv p1 = some res) : MetI l yX0_whereIn (ws_ yX0_whereIn cX0_whereIn 2 (some .int)) { frames := 0, cells := 0, slots := 0, locals := 0 } [.ref (wa 0), .int p1] (XI D cs wi) D d [oH wa (Hfl wv) (Hro wv) (Hrp wv) (Hca wv) (Hwy wv) (Hla wv) (Hmi wv) (Htf wv) (Htk wv), aV d wa 1 (HHO wv), aV d wa 2 (HAT wv), aV d wa 3 (HTO wv), aV d wa 4 (HWE wv), aV d wa 5 (HHE wv), aV d wa 6 (HRA wv)] (fun r (_ : Unit) => r = res) (fun _ => [oH wa (Hfl wv) (Hro wv) (Hrp wv) (Hca wv) (Hwy wv) (Hla wv) (Hmi wv) (Htf wv) (Htk wv), aV d wa 1 (HHO wv), aV d wa 2 (HAT wv), aV d wa 3 (HTO wv), aV d wa 4 (HWE wv), aV d wa 5 (HHE wv), aV d wa 6 (HRA wv)]) := by
  have hX := XI.ok (D := D) (cs := cs) (wi := wi)
  refine MetI.of (by decide +kernel) (Nat.le_of_ble_eq_true rfl) ?_
  intro p e s m below meth c A cx hw ls hl
  have cx : Cx p s m _ meth c (XI D cs wi) D d A "DishLift" cX0_whereIn 2 (some .int) "whereIn" := cx
  have cx' := cx
  obtain ⟨hx, hb, hr, hlk, hml, hown, hts, hK, hA, hXs, hnm⟩ := cx'
  have hl : lv_has ls 2 [(0, .ref (wa 0)), (1, .int p1)] := hl
  unfold fX0_whereIn at hf
  refine lv_aload_n hx hb dX0_whereIn_0 rfl (lv_at hl 0 rfl) ?_
  refine va_get (ci := 2) (C := RX1) (T := TX1) (N := 15) hx hb hts in_X1 hown hK hw.1 0 rfl rfl 6 (by decide) (hts _ q176) (fun _ h9 => h9) rfl dX0_whereIn_1 ?_
  refine lv_iload_n hx hb dX0_whereIn_4 rfl (lv_at hl 1 rfl) ?_
  obtain ⟨v1, hrd, hf⟩ := op_e hf
  refine x_iald (q0 := 1) cx hw rfl hrd dX0_whereIn_5 ?_
  refine lv_iconst (v := 1) hx hb dX0_whereIn_6 (by decide) ?_
  refine lv_icmp_ne (tgt := 15) hx hb dX0_whereIn_7 (by decide) (fun c7 => ?_) (fun c7 => ?_)
  · have hf := if_f hf c7
    refine lv_aload_n hx hb dX0_whereIn_15 rfl (lv_at hl 0 rfl) ?_
    refine va_get (ci := 2) (C := RX1) (T := TX1) (N := 15) hx hb hts in_X1 hown hK hw.1 0 rfl rfl 6 (by decide) (hts _ q176) (fun _ h9 => h9) rfl dX0_whereIn_16 ?_
    refine lv_iload_n hx hb dX0_whereIn_19 rfl (lv_at hl 1 rfl) ?_
    obtain ⟨v2, hrd, hf⟩ := op_e hf
    refine x_iald (q0 := 1) cx hw rfl hrd dX0_whereIn_20 ?_
    refine lv_iconst (v := 2) hx hb dX0_whereIn_21 (by decide) ?_
    refine lv_icmp_ne (tgt := 30) hx hb dX0_whereIn_22 (by decide) (fun c22 => ?_) (fun c22 => ?_)
    · have hf := if_f hf c22
      refine lv_aload_n hx hb dX0_whereIn_30 rfl (lv_at hl 0 rfl) ?_
      refine va_get (ci := 2) (C := RX1) (T := TX1) (N := 15) hx hb hts in_X1 hown hK hw.1 0 rfl rfl 7 (by decide) (hts _ q179) (fun _ h9 => h9) rfl dX0_whereIn_31 ?_
      refine lv_iload_n hx hb dX0_whereIn_34 rfl (lv_at hl 1 rfl) ?_
      obtain ⟨v3, hrd, hf⟩ := op_e hf
      refine x_iald (q0 := 2) cx hw rfl hrd dX0_whereIn_35 ?_
      have hf := sm_e hf
      subst hf
      exact x_retI cx hw rfl () rfl [0, 1, 2, 3, 4, 5, 6] rfl rfl (Nat.le_of_ble_eq_true rfl) (Nat.le_of_ble_eq_true rfl) dX0_whereIn_36
    · have hf := if_t hf c22
      refine lv_bipush (v := 11) hx hb dX0_whereIn_25 (by decide) ?_
      refine lv_goto (tgt := 36) hx hb dX0_whereIn_27 (by decide) ?_
      have hf := sm_e hf
      subst hf
      exact x_retI cx hw rfl () rfl [0, 1, 2, 3, 4, 5, 6] rfl rfl (Nat.le_of_ble_eq_true rfl) (Nat.le_of_ble_eq_true rfl) dX0_whereIn_36
  · have hf := if_t hf c7
    refine lv_bipush (v := 10) hx hb dX0_whereIn_10 (by decide) ?_
    refine lv_goto (tgt := 36) hx hb dX0_whereIn_12 (by decide) ?_
    have hf := sm_e hf
    subst hf
    exact x_retI cx hw rfl () rfl [0, 1, 2, 3, 4, 5, 6] rfl rfl (Nat.le_of_ble_eq_true rfl) (Nat.le_of_ble_eq_true rfl) dX0_whereIn_36
theorem hd_X0_isHouse : yX0_isHouse.cls = "DishLift" ∧ yX0_isHouse.cls ≠ "java/lang/invoke/MethodHandle" ∧ yX0_isHouse.cls ≠ "java/lang/invoke/VarHandle" ∧ (parseMethodDescriptor yX0_isHouse.desc).map (fun d => d.parameters.length) = some 0 := by decide +kernel
set_option maxHeartbeats 4000000 in
theorem mX0_isHouse (l : Launch)  (D : va_G) (d : Nat → ClassId) (cs : Nat → Nat) (wi : va_W) (ln : Nat → Option Int32) (lf : Nat → Nat → Option Nat) (dk : Nat → Option Nat) (dn : Nat → Int32) (him : ImF d wi ln lf dk dn) (ha : Nat → Nat) (sa : Nat → Nat) (ta : Nat → Nat) (hv : HV) (gt : Int32) (gf : Int32) (gc : Int32) (tra : Nat) (gs : Int32)  (res : Int32) (hf : fX0_isHouse hv = some res) : MetI l yX0_isHouse (ws_ yX0_isHouse cX0_isHouse 1 (some .boolean)) { frames := 0, cells := 0, slots := 0, locals := 0 } [.ref (sa 0)] (XI D cs wi) D d [oH ha (Hfl hv) (Hro hv) (Hrp hv) (Hca hv) (Hwy hv) (Hla hv) (Hmi hv) (Htf hv) (Htk hv), aV d ha 1 (HHO hv), aV d ha 2 (HAT hv), aV d ha 3 (HTO hv), aV d ha 4 (HWE hv), aV d ha 5 (HHE hv), aV d ha 6 (HRA hv), oS sa ha ta gt gf gc tra gs] (fun r (_ : Unit) => r = res) (fun _ => [oH ha (Hfl hv) (Hro hv) (Hrp hv) (Hca hv) (Hwy hv) (Hla hv) (Hmi hv) (Htf hv) (Htk hv), aV d ha 1 (HHO hv), aV d ha 2 (HAT hv), aV d ha 3 (HTO hv), aV d ha 4 (HWE hv), aV d ha 5 (HHE hv), aV d ha 6 (HRA hv), oS sa ha ta gt gf gc tra gs]) := by
  have hX := XI.ok (D := D) (cs := cs) (wi := wi)
  refine MetI.of (by decide +kernel) (Nat.le_of_ble_eq_true rfl) ?_
  intro p e s m below meth c A cx hw ls hl
  have cx : Cx p s m _ meth c (XI D cs wi) D d A "DishLift" cX0_isHouse 1 (some .boolean) "isHouse" := cx
  have cx' := cx
  obtain ⟨hx, hb, hr, hlk, hml, hown, hts, hK, hA, hXs, hnm⟩ := cx'
  have hl : lv_has ls 1 [(0, .ref (sa 0))] := hl
  unfold fX0_isHouse at hf
  refine lv_aload_n hx hb dX0_isHouse_0 rfl (lv_at hl 0 rfl) ?_
  refine va_get (ci := 1) (C := RX0) (T := TX0) (N := 14) hx hb hts in_X0 hown hK hw.1 7 rfl rfl 4 (by decide) (hts _ q298) (fun _ h9 => h9) rfl dX0_isHouse_1 ?_
  refine va_get (ci := 2) (C := RX1) (T := TX1) (N := 15) hx hb hts in_X1 hown hK hw.1 0 rfl rfl 0 (by decide) (hts _ q161) (fun _ h9 => h9) rfl dX0_isHouse_4 ?_
  refine lv_if_le (tgt := 14) hx hb dX0_isHouse_7 (by decide) (fun c7 => ?_) (fun c7 => ?_)
  · have hf := if_t hf c7
    refine lv_iconst (v := 0) hx hb dX0_isHouse_14 (by decide) ?_
    have hf := sm_e hf
    subst hf
    exact x_retI cx hw rfl () rfl [0, 1, 2, 3, 4, 5, 6, 7] rfl rfl (Nat.le_of_ble_eq_true rfl) (Nat.le_of_ble_eq_true rfl) dX0_isHouse_15
  · have hf := if_f hf c7
    refine lv_iconst (v := 1) hx hb dX0_isHouse_10 (by decide) ?_
    refine lv_goto (tgt := 15) hx hb dX0_isHouse_11 (by decide) ?_
    have hf := sm_e hf
    subst hf
    exact x_retI cx hw rfl () rfl [0, 1, 2, 3, 4, 5, 6, 7] rfl rfl (Nat.le_of_ble_eq_true rfl) (Nat.le_of_ble_eq_true rfl) dX0_isHouse_15
theorem hd_X0_isDish : yX0_isDish.cls = "DishLift" ∧ yX0_isDish.cls ≠ "java/lang/invoke/MethodHandle" ∧ yX0_isDish.cls ≠ "java/lang/invoke/VarHandle" ∧ (parseMethodDescriptor yX0_isDish.desc).map (fun d => d.parameters.length) = some 1 := by decide +kernel
set_option maxHeartbeats 4000000 in
theorem mX0_isDish (l : Launch)  (D : va_G) (d : Nat → ClassId) (cs : Nat → Nat) (wi : va_W) (ln : Nat → Option Int32) (lf : Nat → Nat → Option Nat) (dk : Nat → Option Nat) (dn : Nat → Int32) (him : ImF d wi ln lf dk dn) (ha : Nat → Nat) (sa : Nat → Nat) (ta : Nat → Nat) (hv : HV) (gt : Int32) (gf : Int32) (gc : Int32) (tra : Nat) (gs : Int32) (p1 : Int32)  (res : Int32) (hf : fX0_isDish ln hv p1 = some res) : MetI l yX0_isDish (ws_ yX0_isDish cX0_isDish 2 (some .boolean)) { frames := 2, cells := 0, slots := 0, locals := 60 } [.ref (sa 0), .int p1] (XI D cs wi) D d [oH ha (Hfl hv) (Hro hv) (Hrp hv) (Hca hv) (Hwy hv) (Hla hv) (Hmi hv) (Htf hv) (Htk hv), aV d ha 1 (HHO hv), aV d ha 2 (HAT hv), aV d ha 3 (HTO hv), aV d ha 4 (HWE hv), aV d ha 5 (HHE hv), aV d ha 6 (HRA hv), oS sa ha ta gt gf gc tra gs] (fun r (_ : Unit) => r = res) (fun _ => [oH ha (Hfl hv) (Hro hv) (Hrp hv) (Hca hv) (Hwy hv) (Hla hv) (Hmi hv) (Htf hv) (Htk hv), aV d ha 1 (HHO hv), aV d ha 2 (HAT hv), aV d ha 3 (HTO hv), aV d ha 4 (HWE hv), aV d ha 5 (HHE hv), aV d ha 6 (HRA hv), oS sa ha ta gt gf gc tra gs]) := by
  have hX := XI.ok (D := D) (cs := cs) (wi := wi)
  refine MetI.of (by decide +kernel) (Nat.le_of_ble_eq_true rfl) ?_
  intro p e s m below meth c A cx hw ls hl
  have cx : Cx p s m _ meth c (XI D cs wi) D d A "DishLift" cX0_isDish 2 (some .boolean) "isDish" := cx
  have cx' := cx
  obtain ⟨hx, hb, hr, hlk, hml, hown, hts, hK, hA, hXs, hnm⟩ := cx'
  have hl : lv_has ls 2 [(0, .ref (sa 0)), (1, .int p1)] := hl
  unfold fX0_isDish at hf
  refine lv_iload_n hx hb dX0_isDish_0 rfl (lv_at hl 1 rfl) ?_
  refine lv_i2l (v := p1.toInt64) hx hb dX0_isDish_1 rfl ?_
  refine lv_lconst (v := 0) hx hb dX0_isDish_2 (by decide) ?_
  refine lv_aload_n hx hb dX0_isDish_3 rfl (lv_at hl 0 rfl) ?_
  refine va_get (ci := 1) (C := RX0) (T := TX0) (N := 14) hx hb hts in_X0 hown hK hw.1 7 rfl rfl 4 (by decide) (hts _ q298) (fun _ h9 => h9) rfl dX0_isDish_4 ?_
  obtain ⟨q1, hcq1, hf⟩ := op_e hf
  refine x_VI (wr := [oS sa ha ta gt gf gc tra gs]) (rest := [.long 0, .long p1.toInt64]) [] hX cx hw hl.1 (vX1_many l  D d cs wi ln lf dk dn him ha hv q1 hcq1) (lw_V q755 q663 q664 q83 q665) hd_X1_many ⟨(Nat.le_of_ble_eq_true rfl), (Nat.le_of_ble_eq_true rfl)⟩ (va_recv hK hw.1 (ci := 2) (q0 := 0) rfl rfl) rfl rfl (Nat.le_of_ble_eq_true rfl) dX0_isDish_7 [0, 1, 2, 3, 4, 5, 6] [7] rfl rfl rfl rfl (by decide) ⟨(Nat.le_of_ble_eq_true rfl), (Nat.le_of_ble_eq_true rfl)⟩ (fun r u H locs hp hw => ?_)
  have hw : Wd D A s [oS sa ha ta gt gf gc tra gs, oH ha (Hfl hv) (Hro hv) (Hrp hv) (Hca hv) (Hwy hv) (Hla hv) (Hmi hv) (Htf hv) (Htk hv), aV d ha 1 (HHO hv), aV d ha 2 (HAT hv), aV d ha 3 (HTO hv), aV d ha 4 (HWE hv), aV d ha 5 (HHE hv), aV d ha 6 (HRA hv)] H locs := hw
  subst r
  refine lv_iconst (v := 1) hx hb dX0_isDish_10 (by decide) ?_
  refine lv_isub hx hb dX0_isDish_11 ?_
  refine lv_i2l (v := (q1 - 1).toInt64) hx hb dX0_isDish_12 rfl ?_
  obtain ⟨q2, hcq2, hf⟩ := op_e hf
  refine x_SI (wr := [oS sa ha ta gt gf gc tra gs, oH ha (Hfl hv) (Hro hv) (Hrp hv) (Hca hv) (Hwy hv) (Hla hv) (Hmi hv) (Htf hv) (Htk hv), aV d ha 1 (HHO hv), aV d ha 2 (HAT hv), aV d ha 3 (HTO hv), aV d ha 4 (HWE hv), aV d ha 5 (HHE hv), aV d ha 6 (HRA hv)]) (rest := []) [.long p1.toInt64, .long 0, .long (q1 - 1).toInt64] hX cx hw hl.1 (mX0_isIn l (XI D cs wi) hX D d  p1.toInt64 0 ((q1 - 1).toInt64) q2 hcq2) (lw_S q346 q347 q82 q348) hd_X0_isIn ⟨(Nat.le_of_ble_eq_true rfl), (Nat.le_of_ble_eq_true rfl)⟩ rfl rfl (Nat.le_of_ble_eq_true rfl) dX0_isDish_13 [] [0, 1, 2, 3, 4, 5, 6, 7] rfl rfl rfl rfl (by decide) ⟨(Nat.le_of_ble_eq_true rfl), (Nat.le_of_ble_eq_true rfl)⟩ (fun r u H locs hp hw => ?_)
  have hw : Wd D A s [oS sa ha ta gt gf gc tra gs, oH ha (Hfl hv) (Hro hv) (Hrp hv) (Hca hv) (Hwy hv) (Hla hv) (Hmi hv) (Htf hv) (Htk hv), aV d ha 1 (HHO hv), aV d ha 2 (HAT hv), aV d ha 3 (HTO hv), aV d ha 4 (HWE hv), aV d ha 5 (HHE hv), aV d ha 6 (HRA hv)] H locs := hw
  subst r
  obtain ⟨g3, hgb, hf⟩ := op_e hf
  have hf := sm_e hf
  subst hf
  exact x_retI cx hw (gb_spec hgb) () rfl [1, 2, 3, 4, 5, 6, 7, 0] rfl rfl (Nat.le_of_ble_eq_true rfl) (Nat.le_of_ble_eq_true rfl) dX0_isDish_16
theorem hd_X0_isFloor : yX0_isFloor.cls = "DishLift" ∧ yX0_isFloor.cls ≠ "java/lang/invoke/MethodHandle" ∧ yX0_isFloor.cls ≠ "java/lang/invoke/VarHandle" ∧ (parseMethodDescriptor yX0_isFloor.desc).map (fun d => d.parameters.length) = some 1 := by decide +kernel
set_option maxHeartbeats 4000000 in
theorem mX0_isFloor (l : Launch)  (D : va_G) (d : Nat → ClassId) (cs : Nat → Nat) (wi : va_W) (ln : Nat → Option Int32) (lf : Nat → Nat → Option Nat) (dk : Nat → Option Nat) (dn : Nat → Int32) (him : ImF d wi ln lf dk dn) (ha : Nat → Nat) (sa : Nat → Nat) (ta : Nat → Nat) (hv : HV) (gt : Int32) (gf : Int32) (gc : Int32) (tra : Nat) (gs : Int32) (p1 : Int32)  (res : Int32) (hf : fX0_isFloor hv p1 = some res) : MetI l yX0_isFloor (ws_ yX0_isFloor cX0_isFloor 2 (some .boolean)) { frames := 1, cells := 0, slots := 0, locals := 25 } [.ref (sa 0), .int p1] (XI D cs wi) D d [oH ha (Hfl hv) (Hro hv) (Hrp hv) (Hca hv) (Hwy hv) (Hla hv) (Hmi hv) (Htf hv) (Htk hv), aV d ha 1 (HHO hv), aV d ha 2 (HAT hv), aV d ha 3 (HTO hv), aV d ha 4 (HWE hv), aV d ha 5 (HHE hv), aV d ha 6 (HRA hv), oS sa ha ta gt gf gc tra gs] (fun r (_ : Unit) => r = res) (fun _ => [oH ha (Hfl hv) (Hro hv) (Hrp hv) (Hca hv) (Hwy hv) (Hla hv) (Hmi hv) (Htf hv) (Htk hv), aV d ha 1 (HHO hv), aV d ha 2 (HAT hv), aV d ha 3 (HTO hv), aV d ha 4 (HWE hv), aV d ha 5 (HHE hv), aV d ha 6 (HRA hv), oS sa ha ta gt gf gc tra gs]) := by
  have hX := XI.ok (D := D) (cs := cs) (wi := wi)
  refine MetI.of (by decide +kernel) (Nat.le_of_ble_eq_true rfl) ?_
  intro p e s m below meth c A cx hw ls hl
  have cx : Cx p s m _ meth c (XI D cs wi) D d A "DishLift" cX0_isFloor 2 (some .boolean) "isFloor" := cx
  have cx' := cx
  obtain ⟨hx, hb, hr, hlk, hml, hown, hts, hK, hA, hXs, hnm⟩ := cx'
  have hl : lv_has ls 2 [(0, .ref (sa 0)), (1, .int p1)] := hl
  unfold fX0_isFloor at hf
  refine lv_iload_n hx hb dX0_isFloor_0 rfl (lv_at hl 1 rfl) ?_
  refine lv_i2l (v := p1.toInt64) hx hb dX0_isFloor_1 rfl ?_
  refine lv_lconst (v := 0) hx hb dX0_isFloor_2 (by decide) ?_
  refine lv_aload_n hx hb dX0_isFloor_3 rfl (lv_at hl 0 rfl) ?_
  refine va_get (ci := 1) (C := RX0) (T := TX0) (N := 14) hx hb hts in_X0 hown hK hw.1 7 rfl rfl 4 (by decide) (hts _ q298) (fun _ h9 => h9) rfl dX0_isFloor_4 ?_
  refine va_get (ci := 2) (C := RX1) (T := TX1) (N := 15) hx hb hts in_X1 hown hK hw.1 0 rfl rfl 0 (by decide) (hts _ q161) (fun _ h9 => h9) rfl dX0_isFloor_7 ?_
  refine lv_iconst (v := 1) hx hb dX0_isFloor_10 (by decide) ?_
  refine lv_isub hx hb dX0_isFloor_11 ?_
  refine lv_i2l (v := ((Hfl hv) - 1).toInt64) hx hb dX0_isFloor_12 rfl ?_
  obtain ⟨q1, hcq1, hf⟩ := op_e hf
  refine x_SI (wr := [oH ha (Hfl hv) (Hro hv) (Hrp hv) (Hca hv) (Hwy hv) (Hla hv) (Hmi hv) (Htf hv) (Htk hv), aV d ha 1 (HHO hv), aV d ha 2 (HAT hv), aV d ha 3 (HTO hv), aV d ha 4 (HWE hv), aV d ha 5 (HHE hv), aV d ha 6 (HRA hv), oS sa ha ta gt gf gc tra gs]) (rest := []) [.long p1.toInt64, .long 0, .long ((Hfl hv) - 1).toInt64] hX cx hw hl.1 (mX0_isIn l (XI D cs wi) hX D d  p1.toInt64 0 (((Hfl hv) - 1).toInt64) q1 hcq1) (lw_S q346 q347 q82 q348) hd_X0_isIn ⟨(Nat.le_of_ble_eq_true rfl), (Nat.le_of_ble_eq_true rfl)⟩ rfl rfl (Nat.le_of_ble_eq_true rfl) dX0_isFloor_13 [] [0, 1, 2, 3, 4, 5, 6, 7] rfl rfl rfl rfl (by decide) ⟨(Nat.le_of_ble_eq_true rfl), (Nat.le_of_ble_eq_true rfl)⟩ (fun r u H locs hp hw => ?_)
  have hw : Wd D A s [oH ha (Hfl hv) (Hro hv) (Hrp hv) (Hca hv) (Hwy hv) (Hla hv) (Hmi hv) (Htf hv) (Htk hv), aV d ha 1 (HHO hv), aV d ha 2 (HAT hv), aV d ha 3 (HTO hv), aV d ha 4 (HWE hv), aV d ha 5 (HHE hv), aV d ha 6 (HRA hv), oS sa ha ta gt gf gc tra gs] H locs := hw
  subst r
  obtain ⟨g2, hgb, hf⟩ := op_e hf
  have hf := sm_e hf
  subst hf
  exact x_retI cx hw (gb_spec hgb) () rfl [0, 1, 2, 3, 4, 5, 6, 7] rfl rfl (Nat.le_of_ble_eq_true rfl) (Nat.le_of_ble_eq_true rfl) dX0_isFloor_16
theorem hd_X0_status : yX0_status.cls = "DishLift" ∧ yX0_status.cls ≠ "java/lang/invoke/MethodHandle" ∧ yX0_status.cls ≠ "java/lang/invoke/VarHandle" ∧ (parseMethodDescriptor yX0_status.desc).map (fun d => d.parameters.length) = some 0 := by decide +kernel
set_option maxHeartbeats 4000000 in
theorem mX0_status (l : Launch)  (D : va_G) (d : Nat → ClassId) (cs : Nat → Nat) (wi : va_W) (ln : Nat → Option Int32) (lf : Nat → Nat → Option Nat) (dk : Nat → Option Nat) (dn : Nat → Int32) (him : ImF d wi ln lf dk dn) (sa : Nat → Nat) (ha : Nat → Nat) (ta : Nat → Nat) (gt : Int32) (gf : Int32) (gc : Int32) (tra : Nat) (gs : Int32)  (res : Int32) (hf : fX0_status gs = some res) : MetI l yX0_status (ws_ yX0_status cX0_status 1 (some .int)) { frames := 0, cells := 0, slots := 0, locals := 0 } [.ref (sa 0)] (XI D cs wi) D d [oS sa ha ta gt gf gc tra gs] (fun r (_ : Unit) => r = res) (fun _ => [oS sa ha ta gt gf gc tra gs]) := by
  have hX := XI.ok (D := D) (cs := cs) (wi := wi)
  refine MetI.of (by decide +kernel) (Nat.le_of_ble_eq_true rfl) ?_
  intro p e s m below meth c A cx hw ls hl
  have cx : Cx p s m _ meth c (XI D cs wi) D d A "DishLift" cX0_status 1 (some .int) "status" := cx
  have cx' := cx
  obtain ⟨hx, hb, hr, hlk, hml, hown, hts, hK, hA, hXs, hnm⟩ := cx'
  have hl : lv_has ls 1 [(0, .ref (sa 0))] := hl
  unfold fX0_status at hf
  refine lv_aload_n hx hb dX0_status_0 rfl (lv_at hl 0 rfl) ?_
  refine va_get (ci := 1) (C := RX0) (T := TX0) (N := 14) hx hb hts in_X0 hown hK hw.1 0 rfl rfl 10 (by decide) (hts _ q304) (fun _ h9 => h9) rfl dX0_status_1 ?_
  have hf := sm_e hf
  subst hf
  exact x_retI cx hw rfl () rfl [0] rfl rfl (Nat.le_of_ble_eq_true rfl) (Nat.le_of_ble_eq_true rfl) dX0_status_4
theorem hd_X0_fault : yX0_fault.cls = "DishLift" ∧ yX0_fault.cls ≠ "java/lang/invoke/MethodHandle" ∧ yX0_fault.cls ≠ "java/lang/invoke/VarHandle" ∧ (parseMethodDescriptor yX0_fault.desc).map (fun d => d.parameters.length) = some 0 := by decide +kernel
set_option maxHeartbeats 4000000 in
theorem mX0_fault (l : Launch)  (D : va_G) (d : Nat → ClassId) (cs : Nat → Nat) (wi : va_W) (ln : Nat → Option Int32) (lf : Nat → Nat → Option Nat) (dk : Nat → Option Nat) (dn : Nat → Int32) (him : ImF d wi ln lf dk dn) (sa : Nat → Nat) (ha : Nat → Nat) (ta : Nat → Nat) (gt : Int32) (gf : Int32) (gc : Int32) (tra : Nat) (gs : Int32)  (res : Int32) (hf : fX0_fault gf = some res) : MetI l yX0_fault (ws_ yX0_fault cX0_fault 1 (some .int)) { frames := 0, cells := 0, slots := 0, locals := 0 } [.ref (sa 0)] (XI D cs wi) D d [oS sa ha ta gt gf gc tra gs] (fun r (_ : Unit) => r = res) (fun _ => [oS sa ha ta gt gf gc tra gs]) := by
  have hX := XI.ok (D := D) (cs := cs) (wi := wi)
  refine MetI.of (by decide +kernel) (Nat.le_of_ble_eq_true rfl) ?_
  intro p e s m below meth c A cx hw ls hl
  have cx : Cx p s m _ meth c (XI D cs wi) D d A "DishLift" cX0_fault 1 (some .int) "fault" := cx
  have cx' := cx
  obtain ⟨hx, hb, hr, hlk, hml, hown, hts, hK, hA, hXs, hnm⟩ := cx'
  have hl : lv_has ls 1 [(0, .ref (sa 0))] := hl
  unfold fX0_fault at hf
  refine lv_aload_n hx hb dX0_fault_0 rfl (lv_at hl 0 rfl) ?_
  refine va_get (ci := 1) (C := RX0) (T := TX0) (N := 14) hx hb hts in_X0 hown hK hw.1 0 rfl rfl 3 (by decide) (hts _ q297) (fun _ h9 => h9) rfl dX0_fault_1 ?_
  have hf := sm_e hf
  subst hf
  exact x_retI cx hw rfl () rfl [0] rfl rfl (Nat.le_of_ble_eq_true rfl) (Nat.le_of_ble_eq_true rfl) dX0_fault_4
theorem hd_X0_well : yX0_well.cls = "DishLift" ∧ yX0_well.cls ≠ "java/lang/invoke/MethodHandle" ∧ yX0_well.cls ≠ "java/lang/invoke/VarHandle" ∧ (parseMethodDescriptor yX0_well.desc).map (fun d => d.parameters.length) = some 1 := by decide +kernel
set_option maxHeartbeats 4000000 in
theorem mX0_well (l : Launch)  (D : va_G) (d : Nat → ClassId) (cs : Nat → Nat) (wi : va_W) (ln : Nat → Option Int32) (lf : Nat → Nat → Option Nat) (dk : Nat → Option Nat) (dn : Nat → Int32) (him : ImF d wi ln lf dk dn) (sa : Nat → Nat) (ha : Nat → Nat) (ta : Nat → Nat) (gt : Int32) (gf : Int32) (gc : Int32) (tra : Nat) (gs : Int32) (p1 : Int32)  (res : Int32 × Int32) (hf : fX0_well p1 = some res) : MetI l yX0_well (ws_ yX0_well cX0_well 2 (some .int)) { frames := 0, cells := 0, slots := 0, locals := 0 } [.ref (sa 0), .int p1] (XI D cs wi) D d [oS sa ha ta gt gf gc tra gs] (fun r (_ : Unit) => r = res.1) (fun _ => [oS sa ha ta gt gf gc tra res.2]) := by
  have hX := XI.ok (D := D) (cs := cs) (wi := wi)
  refine MetI.of (by decide +kernel) (Nat.le_of_ble_eq_true rfl) ?_
  intro p e s m below meth c A cx hw ls hl
  have cx : Cx p s m _ meth c (XI D cs wi) D d A "DishLift" cX0_well 2 (some .int) "well" := cx
  have cx' := cx
  obtain ⟨hx, hb, hr, hlk, hml, hown, hts, hK, hA, hXs, hnm⟩ := cx'
  have hl : lv_has ls 2 [(0, .ref (sa 0)), (1, .int p1)] := hl
  unfold fX0_well at hf
  refine lv_aload_n hx hb dX0_well_0 rfl (lv_at hl 0 rfl) ?_
  refine lv_iconst (v := 0) hx hb dX0_well_1 (by decide) ?_
  refine va_put (ci := 1) (v := .int 0) (ty := .int) (C := RX0) (T := TX0) (N := 14) hx hb hts in_X0 tyX0 tyX0_ok nmX0 hown hK hw.1 hw.2.1 hw.2.2 0 rfl rfl 10 (by decide) (hts _ q304) (fun _ h9 => h9) rfl (by decide +kernel) rfl rfl (Nat.le_of_ble_eq_true rfl) dX0_well_2 (fun H locs hP hD hS => ?_)
  have hw : Wd D A s [oS sa ha ta gt gf gc tra 0] H locs := ⟨hP, hD, hS⟩
  refine lv_iload_n hx hb dX0_well_5 rfl (lv_at hl 1 rfl) ?_
  have hf := sm_e hf
  subst hf
  exact x_retI cx hw rfl () rfl [0] rfl rfl (Nat.le_of_ble_eq_true rfl) (Nat.le_of_ble_eq_true rfl) dX0_well_6
theorem hd_X0_feed : yX0_feed.cls = "DishLift" ∧ yX0_feed.cls ≠ "java/lang/invoke/MethodHandle" ∧ yX0_feed.cls ≠ "java/lang/invoke/VarHandle" ∧ (parseMethodDescriptor yX0_feed.desc).map (fun d => d.parameters.length) = some 1 := by decide +kernel
set_option maxHeartbeats 4000000 in
theorem mX0_feed (l : Launch)  (D : va_G) (d : Nat → ClassId) (cs : Nat → Nat) (wi : va_W) (ln : Nat → Option Int32) (lf : Nat → Nat → Option Nat) (dk : Nat → Option Nat) (dn : Nat → Int32) (him : ImF d wi ln lf dk dn) (sa : Nat → Nat) (ha : Nat → Nat) (ta : Nat → Nat) (gt : Int32) (gf : Int32) (gc : Int32) (tra : Nat) (gs : Int32) (TA : Nat → Int32) (p1 : Int32)  (res : Int32 × Int32 × (Nat → Int32)) (hf : fX0_feed gt TA p1 = some res) : MetI l yX0_feed (ws_ yX0_feed cX0_feed 2 (some .int)) { frames := 1, cells := 0, slots := 0, locals := 25 } [.ref (sa 0), .int p1] (XI D cs wi) D d [oS sa ha ta gt gf gc tra gs, ((sa 2), .inl (d 1, 110, .inl TA))] (fun r (_ : Unit) => r = res.1) (fun _ => [oS sa ha ta res.2.1 gf gc tra gs, ((sa 2), .inl (d 1, 110, .inl res.2.2))]) := by
  have hX := XI.ok (D := D) (cs := cs) (wi := wi)
  refine MetI.of (by decide +kernel) (Nat.le_of_ble_eq_true rfl) ?_
  intro p e s m below meth c A cx hw ls hl
  have cx : Cx p s m _ meth c (XI D cs wi) D d A "DishLift" cX0_feed 2 (some .int) "feed" := cx
  have cx' := cx
  obtain ⟨hx, hb, hr, hlk, hml, hown, hts, hK, hA, hXs, hnm⟩ := cx'
  have hl : lv_has ls 2 [(0, .ref (sa 0)), (1, .int p1)] := hl
  unfold fX0_feed at hf
  refine lv_iload_n hx hb dX0_feed_0 rfl (lv_at hl 1 rfl) ?_
  refine lv_i2l (v := p1.toInt64) hx hb dX0_feed_1 rfl ?_
  refine lv_lconst (v := 0) hx hb dX0_feed_2 (by decide) ?_
  refine lv_ldc2 (v := 255) hx hb hown (hts _ q503) dX0_feed_3 ?_
  obtain ⟨q1, hcq1, hf⟩ := op_e hf
  refine x_SI (wr := [oS sa ha ta gt gf gc tra gs, ((sa 2), .inl (d 1, 110, .inl TA))]) (rest := []) [.long p1.toInt64, .long 0, .long 255] hX cx hw hl.1 (mX0_isIn l (XI D cs wi) hX D d  p1.toInt64 0 255 q1 hcq1) (lw_S q346 q347 q82 q348) hd_X0_isIn ⟨(Nat.le_of_ble_eq_true rfl), (Nat.le_of_ble_eq_true rfl)⟩ rfl rfl (Nat.le_of_ble_eq_true rfl) dX0_feed_6 [] [0, 1] rfl rfl rfl rfl (by decide) ⟨(Nat.le_of_ble_eq_true rfl), (Nat.le_of_ble_eq_true rfl)⟩ (fun r u H locs hp hw => ?_)
  have hw : Wd D A s [oS sa ha ta gt gf gc tra gs, ((sa 2), .inl (d 1, 110, .inl TA))] H locs := hw
  subst r
  refine lv_if_ne (tgt := 15) hx hb dX0_feed_9 (by decide) (fun c9 => ?_) (fun c9 => ?_)
  · have hf := if_f hf c9
    refine lv_aload_n hx hb dX0_feed_15 rfl (lv_at hl 0 rfl) ?_
    refine va_get (ci := 1) (C := RX0) (T := TX0) (N := 14) hx hb hts in_X0 hown hK hw.1 0 rfl rfl 2 (by decide) (hts _ q296) (fun _ h9 => h9) rfl dX0_feed_16 ?_
    refine lv_bipush (v := 110) hx hb dX0_feed_19 (by decide) ?_
    refine lv_icmp_ne (tgt := 27) hx hb dX0_feed_21 (by decide) (fun c21 => ?_) (fun c21 => ?_)
    · have hf := if_f hf c21
      refine lv_aload_n hx hb dX0_feed_27 rfl (lv_at hl 0 rfl) ?_
      refine va_get (ci := 1) (C := RX0) (T := TX0) (N := 14) hx hb hts in_X0 hown hK hw.1 0 rfl rfl 1 (by decide) (hts _ q295) (fun _ h9 => h9) rfl dX0_feed_28 ?_
      refine lv_aload_n hx hb dX0_feed_31 rfl (lv_at hl 0 rfl) ?_
      refine lv_dup hx hb dX0_feed_32 rfl ?_
      refine va_get (ci := 1) (C := RX0) (T := TX0) (N := 14) hx hb hts in_X0 hown hK hw.1 0 rfl rfl 2 (by decide) (hts _ q296) (fun _ h9 => h9) rfl dX0_feed_33 ?_
      refine lv_dup_x1 hx hb dX0_feed_36 rfl rfl ?_
      refine lv_iconst (v := 1) hx hb dX0_feed_37 (by decide) ?_
      refine lv_iadd hx hb dX0_feed_38 ?_
      refine va_put (ci := 1) (v := .int (gt + 1)) (ty := .int) (C := RX0) (T := TX0) (N := 14) hx hb hts in_X0 tyX0 tyX0_ok nmX0 hown hK hw.1 hw.2.1 hw.2.2 0 rfl rfl 2 (by decide) (hts _ q296) (fun _ h9 => h9) rfl (by decide +kernel) rfl rfl (Nat.le_of_ble_eq_true rfl) dX0_feed_39 (fun H locs hP hD hS => ?_)
      have hw : Wd D A s [oS sa ha ta (gt + 1) gf gc tra gs, ((sa 2), .inl (d 1, 110, .inl TA))] H locs := ⟨hP, hD, hS⟩
      refine lv_iload_n hx hb dX0_feed_42 rfl (lv_at hl 1 rfl) ?_
      refine lv_i2b (v := p1.toInt8.toInt32) hx hb dX0_feed_43 rfl ?_
      obtain ⟨w2, hrd, hf⟩ := op_e hf
      refine x_bast (q0 := 1) cx hw rfl hrd dX0_feed_44 (fun H locs hw => ?_)
      have hw : Wd D A s [oS sa ha ta (gt + 1) gf gc tra gs, ((sa 2), .inl (d 1, 110, .inl w2))] H locs := hw
      refine lv_aload_n hx hb dX0_feed_45 rfl (lv_at hl 0 rfl) ?_
      refine va_get (ci := 1) (C := RX0) (T := TX0) (N := 14) hx hb hts in_X0 hown hK hw.1 0 rfl rfl 2 (by decide) (hts _ q296) (fun _ h9 => h9) rfl dX0_feed_46 ?_
      have hf := sm_e hf
      subst hf
      exact x_retI cx hw rfl () rfl [0, 1] rfl rfl (Nat.le_of_ble_eq_true rfl) (Nat.le_of_ble_eq_true rfl) dX0_feed_49
    · have hf := if_t hf c21
      refine lv_ldc (v := (-1000003)) hx hb hown (hts _ q504) dX0_feed_24 ?_
      have hf := sm_e hf
      subst hf
      exact x_retI cx hw rfl () rfl [0, 1] rfl rfl (Nat.le_of_ble_eq_true rfl) (Nat.le_of_ble_eq_true rfl) dX0_feed_26
  · have hf := if_t hf c9
    refine lv_ldc (v := (-1000001)) hx hb hown (hts _ q350) dX0_feed_12 ?_
    have hf := sm_e hf
    subst hf
    exact x_retI cx hw rfl () rfl [0, 1] rfl rfl (Nat.le_of_ble_eq_true rfl) (Nat.le_of_ble_eq_true rfl) dX0_feed_14
theorem hd_X0_dish : yX0_dish.cls = "DishLift" ∧ yX0_dish.cls ≠ "java/lang/invoke/MethodHandle" ∧ yX0_dish.cls ≠ "java/lang/invoke/VarHandle" ∧ (parseMethodDescriptor yX0_dish.desc).map (fun d => d.parameters.length) = some 2 := by decide +kernel
set_option maxHeartbeats 4000000 in
theorem mX0_dish (l : Launch)  (D : va_G) (d : Nat → ClassId) (cs : Nat → Nat) (wi : va_W) (ln : Nat → Option Int32) (lf : Nat → Nat → Option Nat) (dk : Nat → Option Nat) (dn : Nat → Int32) (him : ImF d wi ln lf dk dn) (ha : Nat → Nat) (sa : Nat → Nat) (ta : Nat → Nat) (hv : HV) (gt : Int32) (gf : Int32) (gc : Int32) (tra : Nat) (gs : Int32) (p1 : Int32) (p2 : Int32)  (res : Int32) (hf : fX0_dish ln lf dk hv p1 p2 = some res) : MetI l yX0_dish (ws_ yX0_dish cX0_dish 3 (some .int)) { frames := 4, cells := 0, slots := 0, locals := 141 } [.ref (sa 0), .int p1, .int p2] (XI D cs wi) D d [oH ha (Hfl hv) (Hro hv) (Hrp hv) (Hca hv) (Hwy hv) (Hla hv) (Hmi hv) (Htf hv) (Htk hv), aV d ha 1 (HHO hv), aV d ha 2 (HAT hv), aV d ha 3 (HTO hv), aV d ha 4 (HWE hv), aV d ha 5 (HHE hv), aV d ha 6 (HRA hv), oS sa ha ta gt gf gc tra gs] (fun r (_ : Unit) => r = res) (fun _ => [oH ha (Hfl hv) (Hro hv) (Hrp hv) (Hca hv) (Hwy hv) (Hla hv) (Hmi hv) (Htf hv) (Htk hv), aV d ha 1 (HHO hv), aV d ha 2 (HAT hv), aV d ha 3 (HTO hv), aV d ha 4 (HWE hv), aV d ha 5 (HHE hv), aV d ha 6 (HRA hv), oS sa ha ta gt gf gc tra gs]) := by
  have hX := XI.ok (D := D) (cs := cs) (wi := wi)
  refine MetI.of (by decide +kernel) (Nat.le_of_ble_eq_true rfl) ?_
  intro p e s m below meth c A cx hw ls hl
  have cx : Cx p s m _ meth c (XI D cs wi) D d A "DishLift" cX0_dish 3 (some .int) "dish" := cx
  have cx' := cx
  obtain ⟨hx, hb, hr, hlk, hml, hown, hts, hK, hA, hXs, hnm⟩ := cx'
  have hl : lv_has ls 3 [(0, .ref (sa 0)), (1, .int p1), (2, .int p2)] := hl
  unfold fX0_dish at hf
  refine lv_aload_n hx hb dX0_dish_0 rfl (lv_at hl 0 rfl) ?_
  refine lv_iload_n hx hb dX0_dish_1 rfl (lv_at hl 1 rfl) ?_
  obtain ⟨q1, hcq1, hf⟩ := op_e hf
  refine x_VI (wr := []) (rest := []) [.int p1] hX cx hw hl.1 (mX0_isDish l  D d cs wi ln lf dk dn him ha sa ta hv gt gf gc tra gs p1 q1 hcq1) (lw_V q890 q892 qs23 q82 q893) hd_X0_isDish ⟨(Nat.le_of_ble_eq_true rfl), (Nat.le_of_ble_eq_true rfl)⟩ (va_recv hK hw.1 (ci := 1) (q0 := 7) rfl rfl) rfl rfl (Nat.le_of_ble_eq_true rfl) dX0_dish_2 [0, 1, 2, 3, 4, 5, 6, 7] [] rfl rfl rfl rfl (by decide) ⟨(Nat.le_of_ble_eq_true rfl), (Nat.le_of_ble_eq_true rfl)⟩ (fun r u H locs hp hw => ?_)
  have hw : Wd D A s [oH ha (Hfl hv) (Hro hv) (Hrp hv) (Hca hv) (Hwy hv) (Hla hv) (Hmi hv) (Htf hv) (Htk hv), aV d ha 1 (HHO hv), aV d ha 2 (HAT hv), aV d ha 3 (HTO hv), aV d ha 4 (HWE hv), aV d ha 5 (HHE hv), aV d ha 6 (HRA hv), oS sa ha ta gt gf gc tra gs] H locs := hw
  subst r
  refine lv_if_ne (tgt := 11) hx hb dX0_dish_5 (by decide) (fun c5 => ?_) (fun c5 => ?_)
  · have hf := if_f hf c5
    refine lv_iload_n hx hb dX0_dish_11 rfl (lv_at hl 2 rfl) ?_
    by_cases n0 : p2 = 0
    · have hf := if_t hf n0
      refine lv_tableIn (tgt := 48) hx hb dX0_dish_12 (by rw [n0]; decide) (by rw [n0]; decide) (by rw [n0]; rfl) (by decide) ?_
      refine lv_aload_n hx hb dX0_dish_48 rfl (lv_at hl 0 rfl) ?_
      refine va_get (ci := 1) (C := RX0) (T := TX0) (N := 14) hx hb hts in_X0 hown hK hw.1 7 rfl rfl 4 (by decide) (hts _ q298) (fun _ h9 => h9) rfl dX0_dish_49 ?_
      refine lv_iload_n hx hb dX0_dish_52 rfl (lv_at hl 1 rfl) ?_
      obtain ⟨q2, hcq2, hf⟩ := op_e hf
      refine x_SI (wr := [oS sa ha ta gt gf gc tra gs]) (rest := []) [.ref (ha 0), .int p1] hX cx hw hl.1 (mX0_whereIn l  D d cs wi ln lf dk dn him ha hv p1 q2 hcq2) (lw_S q903 q904 q82 q905) hd_X0_whereIn ⟨(Nat.le_of_ble_eq_true rfl), (Nat.le_of_ble_eq_true rfl)⟩ rfl rfl (Nat.le_of_ble_eq_true rfl) dX0_dish_53 [0, 1, 2, 3, 4, 5, 6] [7] rfl rfl rfl rfl (by decide) ⟨(Nat.le_of_ble_eq_true rfl), (Nat.le_of_ble_eq_true rfl)⟩ (fun r u H locs hp hw => ?_)
      have hw : Wd D A s [oS sa ha ta gt gf gc tra gs, oH ha (Hfl hv) (Hro hv) (Hrp hv) (Hca hv) (Hwy hv) (Hla hv) (Hmi hv) (Htf hv) (Htk hv), aV d ha 1 (HHO hv), aV d ha 2 (HAT hv), aV d ha 3 (HTO hv), aV d ha 4 (HWE hv), aV d ha 5 (HHE hv), aV d ha 6 (HRA hv)] H locs := hw
      subst r
      have hf := sm_e hf
      subst hf
      exact x_retI cx hw rfl () rfl [1, 2, 3, 4, 5, 6, 7, 0] rfl rfl (Nat.le_of_ble_eq_true rfl) (Nat.le_of_ble_eq_true rfl) dX0_dish_56
    · have hf := if_f hf n0
      by_cases n1 : p2 = 1
      · have hf := if_t hf n1
        refine lv_tableIn (tgt := 57) hx hb dX0_dish_12 (by rw [n1]; decide) (by rw [n1]; decide) (by rw [n1]; rfl) (by decide) ?_
        refine lv_aload_n hx hb dX0_dish_57 rfl (lv_at hl 0 rfl) ?_
        refine va_get (ci := 1) (C := RX0) (T := TX0) (N := 14) hx hb hts in_X0 hown hK hw.1 7 rfl rfl 4 (by decide) (hts _ q298) (fun _ h9 => h9) rfl dX0_dish_58 ?_
        refine va_get (ci := 2) (C := RX1) (T := TX1) (N := 15) hx hb hts in_X1 hown hK hw.1 0 rfl rfl 8 (by decide) (hts _ q182) (fun _ h9 => h9) rfl dX0_dish_61 ?_
        refine lv_iload_n hx hb dX0_dish_64 rfl (lv_at hl 1 rfl) ?_
        obtain ⟨v3, hrd, hf⟩ := op_e hf
        refine x_iald (q0 := 3) cx hw rfl hrd dX0_dish_65 ?_
        have hf := sm_e hf
        subst hf
        exact x_retI cx hw rfl () rfl [0, 1, 2, 3, 4, 5, 6, 7] rfl rfl (Nat.le_of_ble_eq_true rfl) (Nat.le_of_ble_eq_true rfl) dX0_dish_66
      · have hf := if_f hf n1
        by_cases n2 : p2 = 2
        · have hf := if_t hf n2
          refine lv_tableIn (tgt := 67) hx hb dX0_dish_12 (by rw [n2]; decide) (by rw [n2]; decide) (by rw [n2]; rfl) (by decide) ?_
          refine lv_aload_n hx hb dX0_dish_67 rfl (lv_at hl 0 rfl) ?_
          refine va_get (ci := 1) (C := RX0) (T := TX0) (N := 14) hx hb hts in_X0 hown hK hw.1 7 rfl rfl 4 (by decide) (hts _ q298) (fun _ h9 => h9) rfl dX0_dish_68 ?_
          refine va_get (ci := 2) (C := RX1) (T := TX1) (N := 15) hx hb hts in_X1 hown hK hw.1 0 rfl rfl 9 (by decide) (hts _ q186) (fun _ h9 => h9) rfl dX0_dish_71 ?_
          refine lv_iload_n hx hb dX0_dish_74 rfl (lv_at hl 1 rfl) ?_
          obtain ⟨v4, hrd, hf⟩ := op_e hf
          refine x_iald (q0 := 4) cx hw rfl hrd dX0_dish_75 ?_
          have hf := sm_e hf
          subst hf
          exact x_retI cx hw rfl () rfl [0, 1, 2, 3, 4, 5, 6, 7] rfl rfl (Nat.le_of_ble_eq_true rfl) (Nat.le_of_ble_eq_true rfl) dX0_dish_76
        · have hf := if_f hf n2
          by_cases n3 : p2 = 3
          · have hf := if_t hf n3
            refine lv_tableIn (tgt := 77) hx hb dX0_dish_12 (by rw [n3]; decide) (by rw [n3]; decide) (by rw [n3]; rfl) (by decide) ?_
            refine lv_aload_n hx hb dX0_dish_77 rfl (lv_at hl 0 rfl) ?_
            refine va_get (ci := 1) (C := RX0) (T := TX0) (N := 14) hx hb hts in_X0 hown hK hw.1 7 rfl rfl 4 (by decide) (hts _ q298) (fun _ h9 => h9) rfl dX0_dish_78 ?_
            refine va_get (ci := 2) (C := RX1) (T := TX1) (N := 15) hx hb hts in_X1 hown hK hw.1 0 rfl rfl 10 (by decide) (hts _ q190) (fun _ h9 => h9) rfl dX0_dish_81 ?_
            refine lv_iload_n hx hb dX0_dish_84 rfl (lv_at hl 1 rfl) ?_
            obtain ⟨v5, hrd, hf⟩ := op_e hf
            refine x_iald (q0 := 5) cx hw rfl hrd dX0_dish_85 ?_
            have hf := sm_e hf
            subst hf
            exact x_retI cx hw rfl () rfl [0, 1, 2, 3, 4, 5, 6, 7] rfl rfl (Nat.le_of_ble_eq_true rfl) (Nat.le_of_ble_eq_true rfl) dX0_dish_86
          · have hf := if_f hf n3
            by_cases n4 : p2 = 4
            · have hf := if_t hf n4
              refine lv_tableIn (tgt := 87) hx hb dX0_dish_12 (by rw [n4]; decide) (by rw [n4]; decide) (by rw [n4]; rfl) (by decide) ?_
              refine lv_aload_n hx hb dX0_dish_87 rfl (lv_at hl 0 rfl) ?_
              refine va_get (ci := 1) (C := RX0) (T := TX0) (N := 14) hx hb hts in_X0 hown hK hw.1 7 rfl rfl 4 (by decide) (hts _ q298) (fun _ h9 => h9) rfl dX0_dish_88 ?_
              refine lv_iload_n hx hb dX0_dish_91 rfl (lv_at hl 1 rfl) ?_
              obtain ⟨q6, hcq6, hf⟩ := op_e hf
              refine x_VA (wr := [oS sa ha ta gt gf gc tra gs]) (rest := []) [.int p1] hX cx hw hl.1 (vX1_dish l  D d cs wi ln lf dk dn him ha hv p1 q6 hcq6) (lw_V q906 q814 q815 q83 q816) hd_X1_dish ⟨(Nat.le_of_ble_eq_true rfl), (Nat.le_of_ble_eq_true rfl)⟩ (va_recv hK hw.1 (ci := 2) (q0 := 0) rfl rfl) rfl rfl (Nat.le_of_ble_eq_true rfl) dX0_dish_92 [0, 1, 2, 3, 4, 5, 6] [7] rfl rfl rfl rfl (by decide) ⟨(Nat.le_of_ble_eq_true rfl), (Nat.le_of_ble_eq_true rfl)⟩ (fun u H locs hp hw => ?_)
              have hw : Wd D A s [oS sa ha ta gt gf gc tra gs, oH ha (Hfl hv) (Hro hv) (Hrp hv) (Hca hv) (Hwy hv) (Hla hv) (Hmi hv) (Htf hv) (Htk hv), aV d ha 1 (HHO hv), aV d ha 2 (HAT hv), aV d ha 3 (HTO hv), aV d ha 4 (HWE hv), aV d ha 5 (HHE hv), aV d ha 6 (HRA hv)] H locs := hw
              refine lv_aload_n hx hb dX0_dish_95 rfl (lv_at hl 0 rfl) ?_
              refine va_get (ci := 1) (C := RX0) (T := TX0) (N := 14) hx hb hts in_X0 hown hK hw.1 0 rfl rfl 4 (by decide) (hts _ q298) (fun _ h9 => h9) rfl dX0_dish_96 ?_
              refine va_get (ci := 2) (C := RX1) (T := TX1) (N := 15) hx hb hts in_X1 hown hK hw.1 1 rfl rfl 10 (by decide) (hts _ q190) (fun _ h9 => h9) rfl dX0_dish_99 ?_
              refine lv_iload_n hx hb dX0_dish_102 rfl (lv_at hl 1 rfl) ?_
              obtain ⟨v7, hrd, hf⟩ := op_e hf
              refine x_iald (q0 := 6) cx hw rfl hrd dX0_dish_103 ?_
              obtain ⟨v8, hrd, hf⟩ := op_e hf
              refine x_isGood him hrd cx hw hl.1 q907 ⟨(Nat.le_of_ble_eq_true rfl), (Nat.le_of_ble_eq_true rfl)⟩ (Nat.le_of_ble_eq_true rfl) ⟨(Nat.le_of_ble_eq_true rfl), (Nat.le_of_ble_eq_true rfl)⟩ dX0_dish_104 (fun H locs hw => ?_)
              refine lv_if_eq (tgt := 114) hx hb dX0_dish_107 (by decide) (fun c107 => ?_) (fun c107 => ?_)
              · have hf := if_t hf c107
                refine lv_iconst (v := 0) hx hb dX0_dish_114 (by decide) ?_
                have hf := sm_e hf
                subst hf
                exact x_retI cx hw rfl () rfl [1, 2, 3, 4, 5, 6, 7, 0] rfl rfl (Nat.le_of_ble_eq_true rfl) (Nat.le_of_ble_eq_true rfl) dX0_dish_115
              · have hf := if_f hf c107
                refine lv_iconst (v := 1) hx hb dX0_dish_110 (by decide) ?_
                refine lv_goto (tgt := 115) hx hb dX0_dish_111 (by decide) ?_
                have hf := sm_e hf
                subst hf
                exact x_retI cx hw rfl () rfl [1, 2, 3, 4, 5, 6, 7, 0] rfl rfl (Nat.le_of_ble_eq_true rfl) (Nat.le_of_ble_eq_true rfl) dX0_dish_115
            · have hf := if_f hf n4
              have t0 := lv_neT (a := 0) n0 (by decide)
              have t1 := lv_neT (a := 1) n1 (by decide)
              have t2 := lv_neT (a := 2) n2 (by decide)
              have t3 := lv_neT (a := 3) n3 (by decide)
              have t4 := lv_neT (a := 4) n4 (by decide)
              refine lv_tableOut (tgt := 116) hx hb dX0_dish_12 (by omega) (by decide) ?_
              refine lv_ldc (v := (-1000001)) hx hb hown (hts _ q350) dX0_dish_116 ?_
              have hf := sm_e hf
              subst hf
              exact x_retI cx hw rfl () rfl [0, 1, 2, 3, 4, 5, 6, 7] rfl rfl (Nat.le_of_ble_eq_true rfl) (Nat.le_of_ble_eq_true rfl) dX0_dish_118
  · have hf := if_t hf c5
    refine lv_ldc (v := (-1000001)) hx hb hown (hts _ q350) dX0_dish_8 ?_
    have hf := sm_e hf
    subst hf
    exact x_retI cx hw rfl () rfl [0, 1, 2, 3, 4, 5, 6, 7] rfl rfl (Nat.le_of_ble_eq_true rfl) (Nat.le_of_ble_eq_true rfl) dX0_dish_10
theorem hd_X0_car : yX0_car.cls = "DishLift" ∧ yX0_car.cls ≠ "java/lang/invoke/MethodHandle" ∧ yX0_car.cls ≠ "java/lang/invoke/VarHandle" ∧ (parseMethodDescriptor yX0_car.desc).map (fun d => d.parameters.length) = some 1 := by decide +kernel
set_option maxHeartbeats 4000000 in
theorem mX0_car (l : Launch)  (D : va_G) (d : Nat → ClassId) (cs : Nat → Nat) (wi : va_W) (ln : Nat → Option Int32) (lf : Nat → Nat → Option Nat) (dk : Nat → Option Nat) (dn : Nat → Int32) (him : ImF d wi ln lf dk dn) (ha : Nat → Nat) (sa : Nat → Nat) (ta : Nat → Nat) (hv : HV) (gt : Int32) (gf : Int32) (gc : Int32) (tra : Nat) (gs : Int32) (p1 : Int32)  (res : Int32) (hf : fX0_car ln hv p1 = some res) : MetI l yX0_car (ws_ yX0_car cX0_car 2 (some .int)) { frames := 3, cells := 0, slots := 0, locals := 83 } [.ref (sa 0), .int p1] (XI D cs wi) D d [oH ha (Hfl hv) (Hro hv) (Hrp hv) (Hca hv) (Hwy hv) (Hla hv) (Hmi hv) (Htf hv) (Htk hv), aV d ha 1 (HHO hv), aV d ha 2 (HAT hv), aV d ha 3 (HTO hv), aV d ha 4 (HWE hv), aV d ha 5 (HHE hv), aV d ha 6 (HRA hv), oS sa ha ta gt gf gc tra gs] (fun r (_ : Unit) => r = res) (fun _ => [oH ha (Hfl hv) (Hro hv) (Hrp hv) (Hca hv) (Hwy hv) (Hla hv) (Hmi hv) (Htf hv) (Htk hv), aV d ha 1 (HHO hv), aV d ha 2 (HAT hv), aV d ha 3 (HTO hv), aV d ha 4 (HWE hv), aV d ha 5 (HHE hv), aV d ha 6 (HRA hv), oS sa ha ta gt gf gc tra gs]) := by
  have hX := XI.ok (D := D) (cs := cs) (wi := wi)
  refine MetI.of (by decide +kernel) (Nat.le_of_ble_eq_true rfl) ?_
  intro p e s m below meth c A cx hw ls hl
  have cx : Cx p s m _ meth c (XI D cs wi) D d A "DishLift" cX0_car 2 (some .int) "car" := cx
  have cx' := cx
  obtain ⟨hx, hb, hr, hlk, hml, hown, hts, hK, hA, hXs, hnm⟩ := cx'
  have hl : lv_has ls 2 [(0, .ref (sa 0)), (1, .int p1)] := hl
  unfold fX0_car at hf
  refine lv_aload_n hx hb dX0_car_0 rfl (lv_at hl 0 rfl) ?_
  obtain ⟨q1, hcq1, hf⟩ := op_e hf
  refine x_VI (wr := []) (rest := []) [] hX cx hw hl.1 (mX0_isHouse l  D d cs wi ln lf dk dn him ha sa ta hv gt gf gc tra gs q1 hcq1) (lw_V q769 q771 qs17 q82 q772) hd_X0_isHouse ⟨(Nat.le_of_ble_eq_true rfl), (Nat.le_of_ble_eq_true rfl)⟩ (va_recv hK hw.1 (ci := 1) (q0 := 7) rfl rfl) rfl rfl (Nat.le_of_ble_eq_true rfl) dX0_car_1 [0, 1, 2, 3, 4, 5, 6, 7] [] rfl rfl rfl rfl (by decide) ⟨(Nat.le_of_ble_eq_true rfl), (Nat.le_of_ble_eq_true rfl)⟩ (fun r u H locs hp hw => ?_)
  have hw : Wd D A s [oH ha (Hfl hv) (Hro hv) (Hrp hv) (Hca hv) (Hwy hv) (Hla hv) (Hmi hv) (Htf hv) (Htk hv), aV d ha 1 (HHO hv), aV d ha 2 (HAT hv), aV d ha 3 (HTO hv), aV d ha 4 (HWE hv), aV d ha 5 (HHE hv), aV d ha 6 (HRA hv), oS sa ha ta gt gf gc tra gs] H locs := hw
  subst r
  refine lv_if_ne (tgt := 10) hx hb dX0_car_4 (by decide) (fun c4 => ?_) (fun c4 => ?_)
  · have hf := if_f hf c4
    refine lv_iload_n hx hb dX0_car_10 rfl (lv_at hl 1 rfl) ?_
    by_cases n0 : p1 = 0
    · have hf := if_t hf n0
      refine lv_tableIn (tgt := 60) hx hb dX0_car_11 (by rw [n0]; decide) (by rw [n0]; decide) (by rw [n0]; rfl) (by decide) ?_
      refine lv_aload_n hx hb dX0_car_60 rfl (lv_at hl 0 rfl) ?_
      refine va_get (ci := 1) (C := RX0) (T := TX0) (N := 14) hx hb hts in_X0 hown hK hw.1 7 rfl rfl 4 (by decide) (hts _ q298) (fun _ h9 => h9) rfl dX0_car_61 ?_
      refine va_get (ci := 2) (C := RX1) (T := TX1) (N := 15) hx hb hts in_X1 hown hK hw.1 0 rfl rfl 0 (by decide) (hts _ q161) (fun _ h9 => h9) rfl dX0_car_64 ?_
      have hf := sm_e hf
      subst hf
      exact x_retI cx hw rfl () rfl [0, 1, 2, 3, 4, 5, 6, 7] rfl rfl (Nat.le_of_ble_eq_true rfl) (Nat.le_of_ble_eq_true rfl) dX0_car_67
    · have hf := if_f hf n0
      by_cases n1 : p1 = 1
      · have hf := if_t hf n1
        refine lv_tableIn (tgt := 68) hx hb dX0_car_11 (by rw [n1]; decide) (by rw [n1]; decide) (by rw [n1]; rfl) (by decide) ?_
        refine lv_aload_n hx hb dX0_car_68 rfl (lv_at hl 0 rfl) ?_
        refine va_get (ci := 1) (C := RX0) (T := TX0) (N := 14) hx hb hts in_X0 hown hK hw.1 7 rfl rfl 4 (by decide) (hts _ q298) (fun _ h9 => h9) rfl dX0_car_69 ?_
        refine va_get (ci := 2) (C := RX1) (T := TX1) (N := 15) hx hb hts in_X1 hown hK hw.1 0 rfl rfl 3 (by decide) (hts _ q169) (fun _ h9 => h9) rfl dX0_car_72 ?_
        have hf := sm_e hf
        subst hf
        exact x_retI cx hw rfl () rfl [0, 1, 2, 3, 4, 5, 6, 7] rfl rfl (Nat.le_of_ble_eq_true rfl) (Nat.le_of_ble_eq_true rfl) dX0_car_75
      · have hf := if_f hf n1
        by_cases n2 : p1 = 2
        · have hf := if_t hf n2
          refine lv_tableIn (tgt := 76) hx hb dX0_car_11 (by rw [n2]; decide) (by rw [n2]; decide) (by rw [n2]; rfl) (by decide) ?_
          refine lv_aload_n hx hb dX0_car_76 rfl (lv_at hl 0 rfl) ?_
          refine va_get (ci := 1) (C := RX0) (T := TX0) (N := 14) hx hb hts in_X0 hown hK hw.1 7 rfl rfl 4 (by decide) (hts _ q298) (fun _ h9 => h9) rfl dX0_car_77 ?_
          refine va_get (ci := 2) (C := RX1) (T := TX1) (N := 15) hx hb hts in_X1 hown hK hw.1 0 rfl rfl 4 (by decide) (hts _ q171) (fun _ h9 => h9) rfl dX0_car_80 ?_
          have hf := sm_e hf
          subst hf
          exact x_retI cx hw rfl () rfl [0, 1, 2, 3, 4, 5, 6, 7] rfl rfl (Nat.le_of_ble_eq_true rfl) (Nat.le_of_ble_eq_true rfl) dX0_car_83
        · have hf := if_f hf n2
          by_cases n3 : p1 = 3
          · have hf := if_t hf n3
            refine lv_tableIn (tgt := 84) hx hb dX0_car_11 (by rw [n3]; decide) (by rw [n3]; decide) (by rw [n3]; rfl) (by decide) ?_
            refine lv_aload_n hx hb dX0_car_84 rfl (lv_at hl 0 rfl) ?_
            refine va_get (ci := 1) (C := RX0) (T := TX0) (N := 14) hx hb hts in_X0 hown hK hw.1 7 rfl rfl 4 (by decide) (hts _ q298) (fun _ h9 => h9) rfl dX0_car_85 ?_
            refine va_get (ci := 2) (C := RX1) (T := TX1) (N := 15) hx hb hts in_X1 hown hK hw.1 0 rfl rfl 1 (by decide) (hts _ q164) (fun _ h9 => h9) rfl dX0_car_88 ?_
            have hf := sm_e hf
            subst hf
            exact x_retI cx hw rfl () rfl [0, 1, 2, 3, 4, 5, 6, 7] rfl rfl (Nat.le_of_ble_eq_true rfl) (Nat.le_of_ble_eq_true rfl) dX0_car_91
          · have hf := if_f hf n3
            by_cases n4 : p1 = 4
            · have hf := if_t hf n4
              refine lv_tableIn (tgt := 92) hx hb dX0_car_11 (by rw [n4]; decide) (by rw [n4]; decide) (by rw [n4]; rfl) (by decide) ?_
              refine lv_aload_n hx hb dX0_car_92 rfl (lv_at hl 0 rfl) ?_
              refine va_get (ci := 1) (C := RX0) (T := TX0) (N := 14) hx hb hts in_X0 hown hK hw.1 7 rfl rfl 4 (by decide) (hts _ q298) (fun _ h9 => h9) rfl dX0_car_93 ?_
              refine va_get (ci := 2) (C := RX1) (T := TX1) (N := 15) hx hb hts in_X1 hown hK hw.1 0 rfl rfl 2 (by decide) (hts _ q167) (fun _ h9 => h9) rfl dX0_car_96 ?_
              have hf := sm_e hf
              subst hf
              exact x_retI cx hw rfl () rfl [0, 1, 2, 3, 4, 5, 6, 7] rfl rfl (Nat.le_of_ble_eq_true rfl) (Nat.le_of_ble_eq_true rfl) dX0_car_99
            · have hf := if_f hf n4
              by_cases n5 : p1 = 5
              · have hf := if_t hf n5
                refine lv_tableIn (tgt := 100) hx hb dX0_car_11 (by rw [n5]; decide) (by rw [n5]; decide) (by rw [n5]; rfl) (by decide) ?_
                refine lv_aload_n hx hb dX0_car_100 rfl (lv_at hl 0 rfl) ?_
                refine va_get (ci := 1) (C := RX0) (T := TX0) (N := 14) hx hb hts in_X0 hown hK hw.1 7 rfl rfl 4 (by decide) (hts _ q298) (fun _ h9 => h9) rfl dX0_car_101 ?_
                refine lv_iconst (v := 1) hx hb dX0_car_104 (by decide) ?_
                obtain ⟨q2, hcq2, hf⟩ := op_e hf
                refine x_VI (wr := [oS sa ha ta gt gf gc tra gs]) (rest := []) [.int 1] hX cx hw hl.1 (vX1_areSo l  D d cs wi ln lf dk dn him ha hv 1 q2 hcq2) (lw_V q867 q788 q789 q83 q790) hd_X1_areSo ⟨(Nat.le_of_ble_eq_true rfl), (Nat.le_of_ble_eq_true rfl)⟩ (va_recv hK hw.1 (ci := 2) (q0 := 0) rfl rfl) rfl rfl (Nat.le_of_ble_eq_true rfl) dX0_car_105 [0, 1, 2, 3, 4, 5, 6] [7] rfl rfl rfl rfl (by decide) ⟨(Nat.le_of_ble_eq_true rfl), (Nat.le_of_ble_eq_true rfl)⟩ (fun r u H locs hp hw => ?_)
                have hw : Wd D A s [oS sa ha ta gt gf gc tra gs, oH ha (Hfl hv) (Hro hv) (Hrp hv) (Hca hv) (Hwy hv) (Hla hv) (Hmi hv) (Htf hv) (Htk hv), aV d ha 1 (HHO hv), aV d ha 2 (HAT hv), aV d ha 3 (HTO hv), aV d ha 4 (HWE hv), aV d ha 5 (HHE hv), aV d ha 6 (HRA hv)] H locs := hw
                subst r
                have hf := sm_e hf
                subst hf
                exact x_retI cx hw rfl () rfl [1, 2, 3, 4, 5, 6, 7, 0] rfl rfl (Nat.le_of_ble_eq_true rfl) (Nat.le_of_ble_eq_true rfl) dX0_car_108
              · have hf := if_f hf n5
                by_cases n6 : p1 = 6
                · have hf := if_t hf n6
                  refine lv_tableIn (tgt := 109) hx hb dX0_car_11 (by rw [n6]; decide) (by rw [n6]; decide) (by rw [n6]; rfl) (by decide) ?_
                  refine lv_aload_n hx hb dX0_car_109 rfl (lv_at hl 0 rfl) ?_
                  refine va_get (ci := 1) (C := RX0) (T := TX0) (N := 14) hx hb hts in_X0 hown hK hw.1 7 rfl rfl 4 (by decide) (hts _ q298) (fun _ h9 => h9) rfl dX0_car_110 ?_
                  refine lv_iconst (v := 2) hx hb dX0_car_113 (by decide) ?_
                  obtain ⟨q3, hcq3, hf⟩ := op_e hf
                  refine x_VI (wr := [oS sa ha ta gt gf gc tra gs]) (rest := []) [.int 2] hX cx hw hl.1 (vX1_areSo l  D d cs wi ln lf dk dn him ha hv 2 q3 hcq3) (lw_V q867 q788 q789 q83 q790) hd_X1_areSo ⟨(Nat.le_of_ble_eq_true rfl), (Nat.le_of_ble_eq_true rfl)⟩ (va_recv hK hw.1 (ci := 2) (q0 := 0) rfl rfl) rfl rfl (Nat.le_of_ble_eq_true rfl) dX0_car_114 [0, 1, 2, 3, 4, 5, 6] [7] rfl rfl rfl rfl (by decide) ⟨(Nat.le_of_ble_eq_true rfl), (Nat.le_of_ble_eq_true rfl)⟩ (fun r u H locs hp hw => ?_)
                  have hw : Wd D A s [oS sa ha ta gt gf gc tra gs, oH ha (Hfl hv) (Hro hv) (Hrp hv) (Hca hv) (Hwy hv) (Hla hv) (Hmi hv) (Htf hv) (Htk hv), aV d ha 1 (HHO hv), aV d ha 2 (HAT hv), aV d ha 3 (HTO hv), aV d ha 4 (HWE hv), aV d ha 5 (HHE hv), aV d ha 6 (HRA hv)] H locs := hw
                  subst r
                  have hf := sm_e hf
                  subst hf
                  exact x_retI cx hw rfl () rfl [1, 2, 3, 4, 5, 6, 7, 0] rfl rfl (Nat.le_of_ble_eq_true rfl) (Nat.le_of_ble_eq_true rfl) dX0_car_117
                · have hf := if_f hf n6
                  by_cases n7 : p1 = 7
                  · have hf := if_t hf n7
                    refine lv_tableIn (tgt := 118) hx hb dX0_car_11 (by rw [n7]; decide) (by rw [n7]; decide) (by rw [n7]; rfl) (by decide) ?_
                    refine lv_aload_n hx hb dX0_car_118 rfl (lv_at hl 0 rfl) ?_
                    refine va_get (ci := 1) (C := RX0) (T := TX0) (N := 14) hx hb hts in_X0 hown hK hw.1 7 rfl rfl 4 (by decide) (hts _ q298) (fun _ h9 => h9) rfl dX0_car_119 ?_
                    obtain ⟨q4, hcq4, hf⟩ := op_e hf
                    refine x_VI (wr := [oS sa ha ta gt gf gc tra gs]) (rest := []) [] hX cx hw hl.1 (vX1_called l  D d cs wi ln lf dk dn him ha hv q4 hcq4) (lw_V q923 q806 q807 q83 q808) hd_X1_called ⟨(Nat.le_of_ble_eq_true rfl), (Nat.le_of_ble_eq_true rfl)⟩ (va_recv hK hw.1 (ci := 2) (q0 := 0) rfl rfl) rfl rfl (Nat.le_of_ble_eq_true rfl) dX0_car_122 [0, 1, 2, 3, 4, 5, 6] [7] rfl rfl rfl rfl (by decide) ⟨(Nat.le_of_ble_eq_true rfl), (Nat.le_of_ble_eq_true rfl)⟩ (fun r u H locs hp hw => ?_)
                    have hw : Wd D A s [oS sa ha ta gt gf gc tra gs, oH ha (Hfl hv) (Hro hv) (Hrp hv) (Hca hv) (Hwy hv) (Hla hv) (Hmi hv) (Htf hv) (Htk hv), aV d ha 1 (HHO hv), aV d ha 2 (HAT hv), aV d ha 3 (HTO hv), aV d ha 4 (HWE hv), aV d ha 5 (HHE hv), aV d ha 6 (HRA hv)] H locs := hw
                    subst r
                    have hf := sm_e hf
                    subst hf
                    exact x_retI cx hw rfl () rfl [1, 2, 3, 4, 5, 6, 7, 0] rfl rfl (Nat.le_of_ble_eq_true rfl) (Nat.le_of_ble_eq_true rfl) dX0_car_125
                  · have hf := if_f hf n7
                    by_cases n8 : p1 = 8
                    · have hf := if_t hf n8
                      refine lv_tableIn (tgt := 126) hx hb dX0_car_11 (by rw [n8]; decide) (by rw [n8]; decide) (by rw [n8]; rfl) (by decide) ?_
                      refine lv_aload_n hx hb dX0_car_126 rfl (lv_at hl 0 rfl) ?_
                      refine va_get (ci := 1) (C := RX0) (T := TX0) (N := 14) hx hb hts in_X0 hown hK hw.1 7 rfl rfl 4 (by decide) (hts _ q298) (fun _ h9 => h9) rfl dX0_car_127 ?_
                      obtain ⟨q5, hcq5, hf⟩ := op_e hf
                      refine x_VI (wr := [oS sa ha ta gt gf gc tra gs]) (rest := []) [] hX cx hw hl.1 (vX1_load l  D d cs wi ln lf dk dn him ha hv q5 hcq5) (lw_V q924 q798 q799 q83 q800) hd_X1_load ⟨(Nat.le_of_ble_eq_true rfl), (Nat.le_of_ble_eq_true rfl)⟩ (va_recv hK hw.1 (ci := 2) (q0 := 0) rfl rfl) rfl rfl (Nat.le_of_ble_eq_true rfl) dX0_car_130 [0, 1, 2, 3, 4, 5, 6] [7] rfl rfl rfl rfl (by decide) ⟨(Nat.le_of_ble_eq_true rfl), (Nat.le_of_ble_eq_true rfl)⟩ (fun r u H locs hp hw => ?_)
                      have hw : Wd D A s [oS sa ha ta gt gf gc tra gs, oH ha (Hfl hv) (Hro hv) (Hrp hv) (Hca hv) (Hwy hv) (Hla hv) (Hmi hv) (Htf hv) (Htk hv), aV d ha 1 (HHO hv), aV d ha 2 (HAT hv), aV d ha 3 (HTO hv), aV d ha 4 (HWE hv), aV d ha 5 (HHE hv), aV d ha 6 (HRA hv)] H locs := hw
                      subst r
                      have hf := sm_e hf
                      subst hf
                      exact x_retI cx hw rfl () rfl [1, 2, 3, 4, 5, 6, 7, 0] rfl rfl (Nat.le_of_ble_eq_true rfl) (Nat.le_of_ble_eq_true rfl) dX0_car_133
                    · have hf := if_f hf n8
                      have t0 := lv_neT (a := 0) n0 (by decide)
                      have t1 := lv_neT (a := 1) n1 (by decide)
                      have t2 := lv_neT (a := 2) n2 (by decide)
                      have t3 := lv_neT (a := 3) n3 (by decide)
                      have t4 := lv_neT (a := 4) n4 (by decide)
                      have t5 := lv_neT (a := 5) n5 (by decide)
                      have t6 := lv_neT (a := 6) n6 (by decide)
                      have t7 := lv_neT (a := 7) n7 (by decide)
                      have t8 := lv_neT (a := 8) n8 (by decide)
                      refine lv_tableOut (tgt := 134) hx hb dX0_car_11 (by omega) (by decide) ?_
                      refine lv_ldc (v := (-1000001)) hx hb hown (hts _ q350) dX0_car_134 ?_
                      have hf := sm_e hf
                      subst hf
                      exact x_retI cx hw rfl () rfl [0, 1, 2, 3, 4, 5, 6, 7] rfl rfl (Nat.le_of_ble_eq_true rfl) (Nat.le_of_ble_eq_true rfl) dX0_car_136
  · have hf := if_t hf c4
    refine lv_ldc (v := (-1000002)) hx hb hown (hts _ q764) dX0_car_7 ?_
    have hf := sm_e hf
    subst hf
    exact x_retI cx hw rfl () rfl [0, 1, 2, 3, 4, 5, 6, 7] rfl rfl (Nat.le_of_ble_eq_true rfl) (Nat.le_of_ble_eq_true rfl) dX0_car_9
theorem hd_X0_tried : yX0_tried.cls = "DishLift" ∧ yX0_tried.cls ≠ "java/lang/invoke/MethodHandle" ∧ yX0_tried.cls ≠ "java/lang/invoke/VarHandle" ∧ (parseMethodDescriptor yX0_tried.desc).map (fun d => d.parameters.length) = some 0 := by decide +kernel
set_option maxHeartbeats 4000000 in
theorem mX0_tried (l : Launch)  (D : va_G) (d : Nat → ClassId) (cs : Nat → Nat) (wi : va_W) (ln : Nat → Option Int32) (lf : Nat → Nat → Option Nat) (dk : Nat → Option Nat) (dn : Nat → Int32) (him : ImF d wi ln lf dk dn) (ha : Nat → Nat) (ta : Nat → Nat) (sa : Nat → Nat) (hv : HV) (tv : HV) (gt : Int32) (gf : Int32) (gc : Int32) (tra : Nat) (gs : Int32)  (res : HV) (hf : fX0_tried hv tv = some res) : MetA l yX0_tried (ws_ yX0_tried cX0_tried 1 (some (.object "DishLift$House"))) { frames := 2, cells := 0, slots := 0, locals := 61 } [.ref (sa 0)] (XI D cs wi) D d [oH ha (Hfl hv) (Hro hv) (Hrp hv) (Hca hv) (Hwy hv) (Hla hv) (Hmi hv) (Htf hv) (Htk hv), aV d ha 1 (HHO hv), aV d ha 2 (HAT hv), aV d ha 3 (HTO hv), aV d ha 4 (HWE hv), aV d ha 5 (HHE hv), aV d ha 6 (HRA hv), oS sa ha ta gt gf gc tra gs, oH ta (Hfl tv) (Hro tv) (Hrp tv) (Hca tv) (Hwy tv) (Hla tv) (Hmi tv) (Htf tv) (Htk tv), aV d ta 1 (HHO tv), aV d ta 2 (HAT tv), aV d ta 3 (HTO tv), aV d ta 4 (HWE tv), aV d ta 5 (HHE tv), aV d ta 6 (HRA tv)] (ta 0) (fun (_ : Unit) => True) (fun _ => [oH ha (Hfl hv) (Hro hv) (Hrp hv) (Hca hv) (Hwy hv) (Hla hv) (Hmi hv) (Htf hv) (Htk hv), aV d ha 1 (HHO hv), aV d ha 2 (HAT hv), aV d ha 3 (HTO hv), aV d ha 4 (HWE hv), aV d ha 5 (HHE hv), aV d ha 6 (HRA hv), oS sa ha ta gt gf gc tra gs, oH ta (Hfl res) (Hro res) (Hrp res) (Hca res) (Hwy res) (Hla res) (Hmi res) (Htf res) (Htk res), aV d ta 1 (HHO res), aV d ta 2 (HAT res), aV d ta 3 (HTO res), aV d ta 4 (HWE res), aV d ta 5 (HHE res), aV d ta 6 (HRA res)]) := by
  have hX := XI.ok (D := D) (cs := cs) (wi := wi)
  refine MetA.of (by decide +kernel) (Nat.le_of_ble_eq_true rfl) ?_
  intro p e s m below meth c A cx hw ls hl
  have cx : Cx p s m _ meth c (XI D cs wi) D d A "DishLift" cX0_tried 1 (some (.object "DishLift$House")) "tried" := cx
  have cx' := cx
  obtain ⟨hx, hb, hr, hlk, hml, hown, hts, hK, hA, hXs, hnm⟩ := cx'
  have hl : lv_has ls 1 [(0, .ref (sa 0))] := hl
  unfold fX0_tried at hf
  refine lv_aload_n hx hb dX0_tried_0 rfl (lv_at hl 0 rfl) ?_
  refine va_get (ci := 1) (C := RX0) (T := TX0) (N := 14) hx hb hts in_X0 hown hK hw.1 7 rfl rfl 5 (by decide) (hts _ q299) (fun _ h9 => h9) rfl dX0_tried_1 ?_
  refine lv_aload_n hx hb dX0_tried_4 rfl (lv_at hl 0 rfl) ?_
  refine va_get (ci := 1) (C := RX0) (T := TX0) (N := 14) hx hb hts in_X0 hown hK hw.1 7 rfl rfl 4 (by decide) (hts _ q298) (fun _ h9 => h9) rfl dX0_tried_5 ?_
  obtain ⟨q1, hcq1, hf⟩ := op_e hf
  refine x_VA (wr := [oS sa ha ta gt gf gc tra gs]) (rest := []) [.ref (ha 0)] hX cx hw hl.1 (vX1_become l  D d cs wi ln lf dk dn him ta ha tv hv q1 hcq1) (lw_V q750 q751 q752 q83 q753) hd_X1_become ⟨(Nat.le_of_ble_eq_true rfl), (Nat.le_of_ble_eq_true rfl)⟩ (va_recv hK hw.1 (ci := 2) (q0 := 8) rfl rfl) rfl rfl (Nat.le_of_ble_eq_true rfl) dX0_tried_8 [8, 9, 10, 11, 12, 13, 14, 0, 1, 2, 3, 4, 5, 6] [7] rfl rfl rfl rfl (by decide) ⟨(Nat.le_of_ble_eq_true rfl), (Nat.le_of_ble_eq_true rfl)⟩ (fun u H locs hp hw => ?_)
  have hw : Wd D A s [oS sa ha ta gt gf gc tra gs, oH ta (Hfl q1) (Hro q1) (Hrp q1) (Hca q1) (Hwy q1) (Hla q1) (Hmi q1) (Htf q1) (Htk q1), aV d ta 1 (HHO q1), aV d ta 2 (HAT q1), aV d ta 3 (HTO q1), aV d ta 4 (HWE q1), aV d ta 5 (HHE q1), aV d ta 6 (HRA q1), oH ha (Hfl hv) (Hro hv) (Hrp hv) (Hca hv) (Hwy hv) (Hla hv) (Hmi hv) (Htf hv) (Htk hv), aV d ha 1 (HHO hv), aV d ha 2 (HAT hv), aV d ha 3 (HTO hv), aV d ha 4 (HWE hv), aV d ha 5 (HHE hv), aV d ha 6 (HRA hv)] H locs := hw
  have hf := sm_e hf
  subst hf
  exact x_retA cx hw (Or.inl ⟨_, rfl⟩) () trivial [8, 9, 10, 11, 12, 13, 14, 0, 1, 2, 3, 4, 5, 6, 7] rfl rfl (Nat.le_of_ble_eq_true rfl) (Nat.le_of_ble_eq_true rfl) dX0_tried_11
theorem hd_X0_goOn : yX0_goOn.cls = "DishLift" ∧ yX0_goOn.cls ≠ "java/lang/invoke/MethodHandle" ∧ yX0_goOn.cls ≠ "java/lang/invoke/VarHandle" ∧ (parseMethodDescriptor yX0_goOn.desc).map (fun d => d.parameters.length) = some 1 := by decide +kernel
set_option maxHeartbeats 4000000 in
theorem mX0_goOn (l : Launch)  (D : va_G) (d : Nat → ClassId) (cs : Nat → Nat) (wi : va_W) (ln : Nat → Option Int32) (lf : Nat → Nat → Option Nat) (dk : Nat → Option Nat) (dn : Nat → Int32) (him : ImF d wi ln lf dk dn) (ta : Nat → Nat) (sa : Nat → Nat) (ha : Nat → Nat) (tv : HV) (gt : Int32) (gf : Int32) (gc : Int32) (tra : Nat) (gs : Int32) (p1 : Int32)  (res : HV) (hf : fX0_goOn ln lf dk tv p1 = some res) : MetA l yX0_goOn (ws_ yX0_goOn cX0_goOn 3 (some (.object "DishLift$House"))) { frames := 6, cells := 0, slots := 0, locals := 183 } [.ref (sa 0), .int p1] (XI D cs wi) D d [oS sa ha ta gt gf gc tra gs, oH ta (Hfl tv) (Hro tv) (Hrp tv) (Hca tv) (Hwy tv) (Hla tv) (Hmi tv) (Htf tv) (Htk tv), aV d ta 1 (HHO tv), aV d ta 2 (HAT tv), aV d ta 3 (HTO tv), aV d ta 4 (HWE tv), aV d ta 5 (HHE tv), aV d ta 6 (HRA tv)] (ta 0) (fun (_ : Unit) => True) (fun _ => [oS sa ha ta gt gf gc tra gs, oH ta (Hfl res) (Hro res) (Hrp res) (Hca res) (Hwy res) (Hla res) (Hmi res) (Htf res) (Htk res), aV d ta 1 (HHO res), aV d ta 2 (HAT res), aV d ta 3 (HTO res), aV d ta 4 (HWE res), aV d ta 5 (HHE res), aV d ta 6 (HRA res)]) := by
  have hX := XI.ok (D := D) (cs := cs) (wi := wi)
  refine MetA.of (by decide +kernel) (Nat.le_of_ble_eq_true rfl) ?_
  intro p e s m below meth c A cx hw ls hl
  have cx : Cx p s m _ meth c (XI D cs wi) D d A "DishLift" cX0_goOn 3 (some (.object "DishLift$House")) "goOn" := cx
  have cx' := cx
  obtain ⟨hx, hb, hr, hlk, hml, hown, hts, hK, hA, hXs, hnm⟩ := cx'
  have hl : lv_has ls 3 [(0, .ref (sa 0)), (1, .int p1)] := hl
  unfold fX0_goOn at hf
  refine lv_iconst (v := 0) hx hb dX0_goOn_0 (by decide) ?_
  refine lv_istore_n (lv' := [(2, .int 0), (0, .ref (sa 0)), (1, .int p1)]) hx hb dX0_goOn_1 rfl hl (by decide) rfl (fun ls hl => ?_)
  obtain ⟨r1, hlp2, hf⟩ := op_e hf
  refine x_join (A := A) (D := D) (J := 21) (nL := 3) (cells' := 0) (slots' := 0) (st := []) [oS sa ha ta gt gf gc tra gs, oH ta (Hfl r1) (Hro r1) (Hrp r1) (Hca r1) (Hwy r1) (Hla r1) (Hmi r1) (Htf r1) (Htk r1), aV d ta 1 (HHO r1), aV d ta 2 (HAT r1), aV d ta 3 (HTO r1), aV d ta 4 (HWE r1), aV d ta 5 (HHE r1), aV d ta 6 (HRA r1)] [(0, .ref (sa 0))] (fun H locs ls hw hl => ?_) (fun hK2 => ?_)
  · refine lv_aload_n hx hb dX0_goOn_21 rfl (lv_at hl 0 rfl) ?_
    refine va_get (ci := 1) (C := RX0) (T := TX0) (N := 14) hx hb hts in_X0 hown hK hw.1 0 rfl rfl 5 (by decide) (hts _ q299) (fun _ h9 => h9) rfl dX0_goOn_22 ?_
    have hf := sm_e hf
    subst hf
    exact x_retA cx hw (Or.inl ⟨_, rfl⟩) () trivial [0, 1, 2, 3, 4, 5, 6, 7] rfl rfl (Nat.le_of_ble_eq_true rfl) (Nat.le_of_ble_eq_true rfl) dX0_goOn_25
  · refine x_lp hlp2 (fun x2 => [oS sa ha ta gt gf gc tra gs, oH ta (Hfl x2.2) (Hro x2.2) (Hrp x2.2) (Hca x2.2) (Hwy x2.2) (Hla x2.2) (Hmi x2.2) (Htf x2.2) (Htk x2.2), aV d ta 1 (HHO x2.2), aV d ta 2 (HAT x2.2), aV d ta 3 (HTO x2.2), aV d ta 4 (HWE x2.2), aV d ta 5 (HHE x2.2), aV d ta 6 (HRA x2.2)]) (fun x2 => [(0, .ref (sa 0)), (1, .int p1), (2, .int x2.1)]) hw (lv_sub hl [1, 2, 0] rfl) (fun x2 y2 hf hin2 hout2 H locs ls hw hl => ?_)
    have hw : Wd D A s [oS sa ha ta gt gf gc tra gs, oH ta (Hfl x2.2) (Hro x2.2) (Hrp x2.2) (Hca x2.2) (Hwy x2.2) (Hla x2.2) (Hmi x2.2) (Htf x2.2) (Htk x2.2), aV d ta 1 (HHO x2.2), aV d ta 2 (HAT x2.2), aV d ta 3 (HTO x2.2), aV d ta 4 (HWE x2.2), aV d ta 5 (HHE x2.2), aV d ta 6 (HRA x2.2)] H locs := hw
    have hl : lv_has ls 3 [(0, .ref (sa 0)), (1, .int p1), (2, .int x2.1)] := hl
    refine lv_iload_n hx hb dX0_goOn_2 rfl (lv_at hl 2 rfl) ?_
    refine lv_iload_n hx hb dX0_goOn_3 rfl (lv_at hl 1 rfl) ?_
    refine lv_icmp_ge (tgt := 21) hx hb dX0_goOn_4 (by decide) (fun c4 => ?_) (fun c4 => ?_)
    · have hf := if_t hf c4
      have hf := sm_e hf
      subst hf
      have hz := hout2 _ rfl
      subst hz
      exact hK2 _ _ _ hw (lv_sub hl [0] rfl)
    · have hf := if_f hf c4
      refine lv_aload_n hx hb dX0_goOn_7 rfl (lv_at hl 0 rfl) ?_
      refine va_get (ci := 1) (C := RX0) (T := TX0) (N := 14) hx hb hts in_X0 hown hK hw.1 0 rfl rfl 5 (by decide) (hts _ q299) (fun _ h9 => h9) rfl dX0_goOn_8 ?_
      obtain ⟨q2, hcq2, hf⟩ := op_e hf
      refine x_VA (wr := [oS sa ha ta gt gf gc tra gs]) (rest := []) [] hX cx hw hl.1 (vX1_pass l  D d cs wi ln lf dk dn him ta x2.2 q2 hcq2) (lw_V q778 q779 q780 q83 q781) hd_X1_pass ⟨(Nat.le_of_ble_eq_true rfl), (Nat.le_of_ble_eq_true rfl)⟩ (va_recv hK hw.1 (ci := 2) (q0 := 1) rfl rfl) rfl rfl (Nat.le_of_ble_eq_true rfl) dX0_goOn_11 [1, 2, 3, 4, 5, 6, 7] [0] rfl rfl rfl rfl (by decide) ⟨(Nat.le_of_ble_eq_true rfl), (Nat.le_of_ble_eq_true rfl)⟩ (fun u H locs hp hw => ?_)
      have hw : Wd D A s [oS sa ha ta gt gf gc tra gs, oH ta (Hfl q2) (Hro q2) (Hrp q2) (Hca q2) (Hwy q2) (Hla q2) (Hmi q2) (Htf q2) (Htk q2), aV d ta 1 (HHO q2), aV d ta 2 (HAT q2), aV d ta 3 (HTO q2), aV d ta 4 (HWE q2), aV d ta 5 (HHE q2), aV d ta 6 (HRA q2)] H locs := hw
      refine lv_pop hx hb dX0_goOn_14 rfl ?_
      refine lv_iinc (v := (x2.1 + 1)) (lv' := [(2, .int (x2.1 + 1)), (0, .ref (sa 0)), (1, .int p1)]) hx hb dX0_goOn_15 hl (k := 2) rfl (by first | rfl | decide) (by decide) rfl (fun ls hl => ?_)
      refine lv_goto (tgt := 2) hx hb dX0_goOn_18 (by decide) ?_
      have hf := sm_e hf
      subst hf
      exact hin2 _ rfl _ _ _ hw (lv_sub hl [1, 2, 0] rfl)
theorem hd_X0_ahead : yX0_ahead.cls = "DishLift" ∧ yX0_ahead.cls ≠ "java/lang/invoke/MethodHandle" ∧ yX0_ahead.cls ≠ "java/lang/invoke/VarHandle" ∧ (parseMethodDescriptor yX0_ahead.desc).map (fun d => d.parameters.length) = some 3 := by decide +kernel
set_option maxHeartbeats 4000000 in
theorem mX0_ahead (l : Launch)  (D : va_G) (d : Nat → ClassId) (cs : Nat → Nat) (wi : va_W) (ln : Nat → Option Int32) (lf : Nat → Nat → Option Nat) (dk : Nat → Option Nat) (dn : Nat → Int32) (him : ImF d wi ln lf dk dn) (ha : Nat → Nat) (ta : Nat → Nat) (sa : Nat → Nat) (hv : HV) (tv : HV) (gt : Int32) (gf : Int32) (gc : Int32) (tra : Nat) (gs : Int32) (p1 : Int32) (p2 : Int32) (p3 : Int32)  (res : Int32 × HV) (hf : fX0_ahead ln lf dk hv tv p1 p2 p3 = some res) : MetI l yX0_ahead (ws_ yX0_ahead cX0_ahead 4 (some .int)) { frames := 7, cells := 0, slots := 0, locals := 205 } [.ref (sa 0), .int p1, .int p2, .int p3] (XI D cs wi) D d [oH ha (Hfl hv) (Hro hv) (Hrp hv) (Hca hv) (Hwy hv) (Hla hv) (Hmi hv) (Htf hv) (Htk hv), aV d ha 1 (HHO hv), aV d ha 2 (HAT hv), aV d ha 3 (HTO hv), aV d ha 4 (HWE hv), aV d ha 5 (HHE hv), aV d ha 6 (HRA hv), oS sa ha ta gt gf gc tra gs, oH ta (Hfl tv) (Hro tv) (Hrp tv) (Hca tv) (Hwy tv) (Hla tv) (Hmi tv) (Htf tv) (Htk tv), aV d ta 1 (HHO tv), aV d ta 2 (HAT tv), aV d ta 3 (HTO tv), aV d ta 4 (HWE tv), aV d ta 5 (HHE tv), aV d ta 6 (HRA tv)] (fun r (_ : Unit) => r = res.1) (fun _ => [oH ha (Hfl hv) (Hro hv) (Hrp hv) (Hca hv) (Hwy hv) (Hla hv) (Hmi hv) (Htf hv) (Htk hv), aV d ha 1 (HHO hv), aV d ha 2 (HAT hv), aV d ha 3 (HTO hv), aV d ha 4 (HWE hv), aV d ha 5 (HHE hv), aV d ha 6 (HRA hv), oS sa ha ta gt gf gc tra gs, oH ta (Hfl res.2) (Hro res.2) (Hrp res.2) (Hca res.2) (Hwy res.2) (Hla res.2) (Hmi res.2) (Htf res.2) (Htk res.2), aV d ta 1 (HHO res.2), aV d ta 2 (HAT res.2), aV d ta 3 (HTO res.2), aV d ta 4 (HWE res.2), aV d ta 5 (HHE res.2), aV d ta 6 (HRA res.2)]) := by
  have hX := XI.ok (D := D) (cs := cs) (wi := wi)
  refine MetI.of (by decide +kernel) (Nat.le_of_ble_eq_true rfl) ?_
  intro p e s m below meth c A cx hw ls hl
  have cx : Cx p s m _ meth c (XI D cs wi) D d A "DishLift" cX0_ahead 4 (some .int) "ahead" := cx
  have cx' := cx
  obtain ⟨hx, hb, hr, hlk, hml, hown, hts, hK, hA, hXs, hnm⟩ := cx'
  have hl : lv_has ls 4 [(0, .ref (sa 0)), (1, .int p1), (2, .int p2), (3, .int p3)] := hl
  unfold fX0_ahead at hf
  refine lv_aload_n hx hb dX0_ahead_0 rfl (lv_at hl 0 rfl) ?_
  refine lv_iload_n hx hb dX0_ahead_1 rfl (lv_at hl 1 rfl) ?_
  obtain ⟨q1, hcq1, hf⟩ := op_e hf
  refine x_VI (wr := [oH ta (Hfl tv) (Hro tv) (Hrp tv) (Hca tv) (Hwy tv) (Hla tv) (Hmi tv) (Htf tv) (Htk tv), aV d ta 1 (HHO tv), aV d ta 2 (HAT tv), aV d ta 3 (HTO tv), aV d ta 4 (HWE tv), aV d ta 5 (HHE tv), aV d ta 6 (HRA tv)]) (rest := []) [.int p1] hX cx hw hl.1 (mX0_isDish l  D d cs wi ln lf dk dn him ha sa ta hv gt gf gc tra gs p1 q1 hcq1) (lw_V q890 q892 qs23 q82 q893) hd_X0_isDish ⟨(Nat.le_of_ble_eq_true rfl), (Nat.le_of_ble_eq_true rfl)⟩ (va_recv hK hw.1 (ci := 1) (q0 := 7) rfl rfl) rfl rfl (Nat.le_of_ble_eq_true rfl) dX0_ahead_2 [0, 1, 2, 3, 4, 5, 6, 7] [8, 9, 10, 11, 12, 13, 14] rfl rfl rfl rfl (by decide) ⟨(Nat.le_of_ble_eq_true rfl), (Nat.le_of_ble_eq_true rfl)⟩ (fun r u H locs hp hw => ?_)
  have hw : Wd D A s [oH ta (Hfl tv) (Hro tv) (Hrp tv) (Hca tv) (Hwy tv) (Hla tv) (Hmi tv) (Htf tv) (Htk tv), aV d ta 1 (HHO tv), aV d ta 2 (HAT tv), aV d ta 3 (HTO tv), aV d ta 4 (HWE tv), aV d ta 5 (HHE tv), aV d ta 6 (HRA tv), oH ha (Hfl hv) (Hro hv) (Hrp hv) (Hca hv) (Hwy hv) (Hla hv) (Hmi hv) (Htf hv) (Htk hv), aV d ha 1 (HHO hv), aV d ha 2 (HAT hv), aV d ha 3 (HTO hv), aV d ha 4 (HWE hv), aV d ha 5 (HHE hv), aV d ha 6 (HRA hv), oS sa ha ta gt gf gc tra gs] H locs := hw
  subst r
  refine lv_if_eq (tgt := 27) hx hb dX0_ahead_5 (by decide) (fun c5 => ?_) (fun c5 => ?_)
  · have hf := if_t hf c5
    refine lv_ldc (v := (-1000001)) hx hb hown (hts _ q350) dX0_ahead_27 ?_
    have hf := sm_e hf
    subst hf
    exact x_retI cx hw rfl () rfl [7, 8, 9, 10, 11, 12, 13, 14, 0, 1, 2, 3, 4, 5, 6] rfl rfl (Nat.le_of_ble_eq_true rfl) (Nat.le_of_ble_eq_true rfl) dX0_ahead_29
  · have hf := if_f hf c5
    refine lv_iload_n hx hb dX0_ahead_8 rfl (lv_at hl 2 rfl) ?_
    obtain ⟨q2, hcq2, hf⟩ := op_e hf
    refine x_SI (wr := [oH ta (Hfl tv) (Hro tv) (Hrp tv) (Hca tv) (Hwy tv) (Hla tv) (Hmi tv) (Htf tv) (Htk tv), aV d ta 1 (HHO tv), aV d ta 2 (HAT tv), aV d ta 3 (HTO tv), aV d ta 4 (HWE tv), aV d ta 5 (HHE tv), aV d ta 6 (HRA tv), oH ha (Hfl hv) (Hro hv) (Hrp hv) (Hca hv) (Hwy hv) (Hla hv) (Hmi hv) (Htf hv) (Htk hv), aV d ha 1 (HHO hv), aV d ha 2 (HAT hv), aV d ha 3 (HTO hv), aV d ha 4 (HWE hv), aV d ha 5 (HHE hv), aV d ha 6 (HRA hv), oS sa ha ta gt gf gc tra gs]) (rest := []) [.int p2] hX cx hw hl.1 (mX0_isFar l (XI D cs wi) hX D d  p2 q2 hcq2) (lw_S q929 q930 q82 q931) hd_X0_isFar ⟨(Nat.le_of_ble_eq_true rfl), (Nat.le_of_ble_eq_true rfl)⟩ rfl rfl (Nat.le_of_ble_eq_true rfl) dX0_ahead_9 [] [0, 1, 2, 3, 4, 5, 6, 7, 8, 9, 10, 11, 12, 13, 14] rfl rfl rfl rfl (by decide) ⟨(Nat.le_of_ble_eq_true rfl), (Nat.le_of_ble_eq_true rfl)⟩ (fun r u H locs hp hw => ?_)
    have hw : Wd D A s [oH ta (Hfl tv) (Hro tv) (Hrp tv) (Hca tv) (Hwy tv) (Hla tv) (Hmi tv) (Htf tv) (Htk tv), aV d ta 1 (HHO tv), aV d ta 2 (HAT tv), aV d ta 3 (HTO tv), aV d ta 4 (HWE tv), aV d ta 5 (HHE tv), aV d ta 6 (HRA tv), oH ha (Hfl hv) (Hro hv) (Hrp hv) (Hca hv) (Hwy hv) (Hla hv) (Hmi hv) (Htf hv) (Htk hv), aV d ha 1 (HHO hv), aV d ha 2 (HAT hv), aV d ha 3 (HTO hv), aV d ha 4 (HWE hv), aV d ha 5 (HHE hv), aV d ha 6 (HRA hv), oS sa ha ta gt gf gc tra gs] H locs := hw
    subst r
    refine lv_if_eq (tgt := 27) hx hb dX0_ahead_12 (by decide) (fun c12 => ?_) (fun c12 => ?_)
    · have hf := if_t hf c12
      refine lv_ldc (v := (-1000001)) hx hb hown (hts _ q350) dX0_ahead_27 ?_
      have hf := sm_e hf
      subst hf
      exact x_retI cx hw rfl () rfl [7, 8, 9, 10, 11, 12, 13, 14, 0, 1, 2, 3, 4, 5, 6] rfl rfl (Nat.le_of_ble_eq_true rfl) (Nat.le_of_ble_eq_true rfl) dX0_ahead_29
    · have hf := if_f hf c12
      refine lv_iload_n hx hb dX0_ahead_15 rfl (lv_at hl 3 rfl) ?_
      refine lv_i2l (v := p3.toInt64) hx hb dX0_ahead_16 rfl ?_
      refine lv_lconst (v := 0) hx hb dX0_ahead_17 (by decide) ?_
      refine lv_ldc2 (v := 2) hx hb hown (hts _ q349) dX0_ahead_18 ?_
      obtain ⟨q3, hcq3, hf⟩ := op_e hf
      refine x_SI (wr := [oH ta (Hfl tv) (Hro tv) (Hrp tv) (Hca tv) (Hwy tv) (Hla tv) (Hmi tv) (Htf tv) (Htk tv), aV d ta 1 (HHO tv), aV d ta 2 (HAT tv), aV d ta 3 (HTO tv), aV d ta 4 (HWE tv), aV d ta 5 (HHE tv), aV d ta 6 (HRA tv), oH ha (Hfl hv) (Hro hv) (Hrp hv) (Hca hv) (Hwy hv) (Hla hv) (Hmi hv) (Htf hv) (Htk hv), aV d ha 1 (HHO hv), aV d ha 2 (HAT hv), aV d ha 3 (HTO hv), aV d ha 4 (HWE hv), aV d ha 5 (HHE hv), aV d ha 6 (HRA hv), oS sa ha ta gt gf gc tra gs]) (rest := []) [.long p3.toInt64, .long 0, .long 2] hX cx hw hl.1 (mX0_isIn l (XI D cs wi) hX D d  p3.toInt64 0 2 q3 hcq3) (lw_S q346 q347 q82 q348) hd_X0_isIn ⟨(Nat.le_of_ble_eq_true rfl), (Nat.le_of_ble_eq_true rfl)⟩ rfl rfl (Nat.le_of_ble_eq_true rfl) dX0_ahead_21 [] [0, 1, 2, 3, 4, 5, 6, 7, 8, 9, 10, 11, 12, 13, 14] rfl rfl rfl rfl (by decide) ⟨(Nat.le_of_ble_eq_true rfl), (Nat.le_of_ble_eq_true rfl)⟩ (fun r u H locs hp hw => ?_)
      have hw : Wd D A s [oH ta (Hfl tv) (Hro tv) (Hrp tv) (Hca tv) (Hwy tv) (Hla tv) (Hmi tv) (Htf tv) (Htk tv), aV d ta 1 (HHO tv), aV d ta 2 (HAT tv), aV d ta 3 (HTO tv), aV d ta 4 (HWE tv), aV d ta 5 (HHE tv), aV d ta 6 (HRA tv), oH ha (Hfl hv) (Hro hv) (Hrp hv) (Hca hv) (Hwy hv) (Hla hv) (Hmi hv) (Htf hv) (Htk hv), aV d ha 1 (HHO hv), aV d ha 2 (HAT hv), aV d ha 3 (HTO hv), aV d ha 4 (HWE hv), aV d ha 5 (HHE hv), aV d ha 6 (HRA hv), oS sa ha ta gt gf gc tra gs] H locs := hw
      subst r
      refine lv_if_ne (tgt := 30) hx hb dX0_ahead_24 (by decide) (fun c24 => ?_) (fun c24 => ?_)
      · have hf := if_f hf c24
        refine lv_aload_n hx hb dX0_ahead_30 rfl (lv_at hl 0 rfl) ?_
        obtain ⟨q4, hcq4, hf⟩ := op_e hf
        refine x_VA (wr := []) (rest := []) [] hX cx hw hl.1 (mX0_tried l  D d cs wi ln lf dk dn him ha ta sa hv tv gt gf gc tra gs q4 hcq4) (lw_V q932 q934 qs24 q82 q935) hd_X0_tried ⟨(Nat.le_of_ble_eq_true rfl), (Nat.le_of_ble_eq_true rfl)⟩ (va_recv hK hw.1 (ci := 1) (q0 := 14) rfl rfl) rfl rfl (Nat.le_of_ble_eq_true rfl) dX0_ahead_31 [7, 8, 9, 10, 11, 12, 13, 14, 0, 1, 2, 3, 4, 5, 6] [] rfl rfl rfl rfl (by decide) ⟨(Nat.le_of_ble_eq_true rfl), (Nat.le_of_ble_eq_true rfl)⟩ (fun u H locs hp hw => ?_)
        have hw : Wd D A s [oH ha (Hfl hv) (Hro hv) (Hrp hv) (Hca hv) (Hwy hv) (Hla hv) (Hmi hv) (Htf hv) (Htk hv), aV d ha 1 (HHO hv), aV d ha 2 (HAT hv), aV d ha 3 (HTO hv), aV d ha 4 (HWE hv), aV d ha 5 (HHE hv), aV d ha 6 (HRA hv), oS sa ha ta gt gf gc tra gs, oH ta (Hfl q4) (Hro q4) (Hrp q4) (Hca q4) (Hwy q4) (Hla q4) (Hmi q4) (Htf q4) (Htk q4), aV d ta 1 (HHO q4), aV d ta 2 (HAT q4), aV d ta 3 (HTO q4), aV d ta 4 (HWE q4), aV d ta 5 (HHE q4), aV d ta 6 (HRA q4)] H locs := hw
        refine lv_pop hx hb dX0_ahead_34 rfl ?_
        refine lv_aload_n hx hb dX0_ahead_35 rfl (lv_at hl 0 rfl) ?_
        refine lv_iload_n hx hb dX0_ahead_36 rfl (lv_at hl 2 rfl) ?_
        obtain ⟨q5, hcq5, hf⟩ := op_e hf
        refine x_VA (wr := [oH ha (Hfl hv) (Hro hv) (Hrp hv) (Hca hv) (Hwy hv) (Hla hv) (Hmi hv) (Htf hv) (Htk hv), aV d ha 1 (HHO hv), aV d ha 2 (HAT hv), aV d ha 3 (HTO hv), aV d ha 4 (HWE hv), aV d ha 5 (HHE hv), aV d ha 6 (HRA hv)]) (rest := []) [.int p2] hX cx hw hl.1 (mX0_goOn l  D d cs wi ln lf dk dn him ta sa ha q4 gt gf gc tra gs p2 q5 hcq5) (lw_V q936 q938 qs25 q82 q939) hd_X0_goOn ⟨(Nat.le_of_ble_eq_true rfl), (Nat.le_of_ble_eq_true rfl)⟩ (va_recv hK hw.1 (ci := 1) (q0 := 7) rfl rfl) rfl rfl (Nat.le_of_ble_eq_true rfl) dX0_ahead_37 [7, 8, 9, 10, 11, 12, 13, 14] [0, 1, 2, 3, 4, 5, 6] rfl rfl rfl rfl (by decide) ⟨(Nat.le_of_ble_eq_true rfl), (Nat.le_of_ble_eq_true rfl)⟩ (fun u H locs hp hw => ?_)
        have hw : Wd D A s [oH ha (Hfl hv) (Hro hv) (Hrp hv) (Hca hv) (Hwy hv) (Hla hv) (Hmi hv) (Htf hv) (Htk hv), aV d ha 1 (HHO hv), aV d ha 2 (HAT hv), aV d ha 3 (HTO hv), aV d ha 4 (HWE hv), aV d ha 5 (HHE hv), aV d ha 6 (HRA hv), oS sa ha ta gt gf gc tra gs, oH ta (Hfl q5) (Hro q5) (Hrp q5) (Hca q5) (Hwy q5) (Hla q5) (Hmi q5) (Htf q5) (Htk q5), aV d ta 1 (HHO q5), aV d ta 2 (HAT q5), aV d ta 3 (HTO q5), aV d ta 4 (HWE q5), aV d ta 5 (HHE q5), aV d ta 6 (HRA q5)] H locs := hw
        refine lv_pop hx hb dX0_ahead_40 rfl ?_
        refine lv_iload_n hx hb dX0_ahead_41 rfl (lv_at hl 3 rfl) ?_
        refine lv_if_ne (tgt := 56) hx hb dX0_ahead_42 (by decide) (fun c42 => ?_) (fun c42 => ?_)
        · have hf := if_f hf c42
          refine lv_iload_n hx hb dX0_ahead_56 rfl (lv_at hl 3 rfl) ?_
          refine lv_iconst (v := 1) hx hb dX0_ahead_57 (by decide) ?_
          refine lv_icmp_ne (tgt := 73) hx hb dX0_ahead_58 (by decide) (fun c58 => ?_) (fun c58 => ?_)
          · have hf := if_f hf c58
            refine lv_aload_n hx hb dX0_ahead_73 rfl (lv_at hl 0 rfl) ?_
            refine va_get (ci := 1) (C := RX0) (T := TX0) (N := 14) hx hb hts in_X0 hown hK hw.1 7 rfl rfl 5 (by decide) (hts _ q299) (fun _ h9 => h9) rfl dX0_ahead_74 ?_
            refine va_get (ci := 2) (C := RX1) (T := TX1) (N := 15) hx hb hts in_X1 hown hK hw.1 8 rfl rfl 9 (by decide) (hts _ q186) (fun _ h9 => h9) rfl dX0_ahead_77 ?_
            refine lv_iload_n hx hb dX0_ahead_80 rfl (lv_at hl 1 rfl) ?_
            obtain ⟨v8, hrd, hf⟩ := op_e hf
            refine x_iald (q0 := 12) cx hw rfl hrd dX0_ahead_81 ?_
            have hf := sm_e hf
            subst hf
            exact x_retI cx hw rfl () rfl [0, 1, 2, 3, 4, 5, 6, 7, 8, 9, 10, 11, 12, 13, 14] rfl rfl (Nat.le_of_ble_eq_true rfl) (Nat.le_of_ble_eq_true rfl) dX0_ahead_82
          · have hf := if_t hf c58
            refine lv_aload_n hx hb dX0_ahead_61 rfl (lv_at hl 0 rfl) ?_
            refine va_get (ci := 1) (C := RX0) (T := TX0) (N := 14) hx hb hts in_X0 hown hK hw.1 7 rfl rfl 5 (by decide) (hts _ q299) (fun _ h9 => h9) rfl dX0_ahead_62 ?_
            refine va_get (ci := 2) (C := RX1) (T := TX1) (N := 15) hx hb hts in_X1 hown hK hw.1 8 rfl rfl 10 (by decide) (hts _ q190) (fun _ h9 => h9) rfl dX0_ahead_65 ?_
            refine lv_iload_n hx hb dX0_ahead_68 rfl (lv_at hl 1 rfl) ?_
            obtain ⟨v7, hrd, hf⟩ := op_e hf
            refine x_iald (q0 := 13) cx hw rfl hrd dX0_ahead_69 ?_
            refine lv_goto (tgt := 82) hx hb dX0_ahead_70 (by decide) ?_
            have hf := sm_e hf
            subst hf
            exact x_retI cx hw rfl () rfl [0, 1, 2, 3, 4, 5, 6, 7, 8, 9, 10, 11, 12, 13, 14] rfl rfl (Nat.le_of_ble_eq_true rfl) (Nat.le_of_ble_eq_true rfl) dX0_ahead_82
        · have hf := if_t hf c42
          refine lv_aload_n hx hb dX0_ahead_45 rfl (lv_at hl 0 rfl) ?_
          refine va_get (ci := 1) (C := RX0) (T := TX0) (N := 14) hx hb hts in_X0 hown hK hw.1 7 rfl rfl 5 (by decide) (hts _ q299) (fun _ h9 => h9) rfl dX0_ahead_46 ?_
          refine lv_iload_n hx hb dX0_ahead_49 rfl (lv_at hl 1 rfl) ?_
          obtain ⟨q6, hcq6, hf⟩ := op_e hf
          refine x_SI (wr := [oH ha (Hfl hv) (Hro hv) (Hrp hv) (Hca hv) (Hwy hv) (Hla hv) (Hmi hv) (Htf hv) (Htk hv), aV d ha 1 (HHO hv), aV d ha 2 (HAT hv), aV d ha 3 (HTO hv), aV d ha 4 (HWE hv), aV d ha 5 (HHE hv), aV d ha 6 (HRA hv), oS sa ha ta gt gf gc tra gs]) (rest := []) [.ref (ta 0), .int p1] hX cx hw hl.1 (mX0_whereIn l  D d cs wi ln lf dk dn him ta q5 p1 q6 hcq6) (lw_S q903 q904 q82 q905) hd_X0_whereIn ⟨(Nat.le_of_ble_eq_true rfl), (Nat.le_of_ble_eq_true rfl)⟩ rfl rfl (Nat.le_of_ble_eq_true rfl) dX0_ahead_50 [8, 9, 10, 11, 12, 13, 14] [0, 1, 2, 3, 4, 5, 6, 7] rfl rfl rfl rfl (by decide) ⟨(Nat.le_of_ble_eq_true rfl), (Nat.le_of_ble_eq_true rfl)⟩ (fun r u H locs hp hw => ?_)
          have hw : Wd D A s [oH ha (Hfl hv) (Hro hv) (Hrp hv) (Hca hv) (Hwy hv) (Hla hv) (Hmi hv) (Htf hv) (Htk hv), aV d ha 1 (HHO hv), aV d ha 2 (HAT hv), aV d ha 3 (HTO hv), aV d ha 4 (HWE hv), aV d ha 5 (HHE hv), aV d ha 6 (HRA hv), oS sa ha ta gt gf gc tra gs, oH ta (Hfl q5) (Hro q5) (Hrp q5) (Hca q5) (Hwy q5) (Hla q5) (Hmi q5) (Htf q5) (Htk q5), aV d ta 1 (HHO q5), aV d ta 2 (HAT q5), aV d ta 3 (HTO q5), aV d ta 4 (HWE q5), aV d ta 5 (HHE q5), aV d ta 6 (HRA q5)] H locs := hw
          subst r
          refine lv_goto (tgt := 82) hx hb dX0_ahead_53 (by decide) ?_
          have hf := sm_e hf
          subst hf
          exact x_retI cx hw rfl () rfl [0, 1, 2, 3, 4, 5, 6, 7, 8, 9, 10, 11, 12, 13, 14] rfl rfl (Nat.le_of_ble_eq_true rfl) (Nat.le_of_ble_eq_true rfl) dX0_ahead_82
      · have hf := if_t hf c24
        refine lv_ldc (v := (-1000001)) hx hb hown (hts _ q350) dX0_ahead_27 ?_
        have hf := sm_e hf
        subst hf
        exact x_retI cx hw rfl () rfl [7, 8, 9, 10, 11, 12, 13, 14, 0, 1, 2, 3, 4, 5, 6] rfl rfl (Nat.le_of_ble_eq_true rfl) (Nat.le_of_ble_eq_true rfl) dX0_ahead_29
theorem hd_X0_later : yX0_later.cls = "DishLift" ∧ yX0_later.cls ≠ "java/lang/invoke/MethodHandle" ∧ yX0_later.cls ≠ "java/lang/invoke/VarHandle" ∧ (parseMethodDescriptor yX0_later.desc).map (fun d => d.parameters.length) = some 1 := by decide +kernel
set_option maxHeartbeats 4000000 in
theorem mX0_later (l : Launch)  (D : va_G) (d : Nat → ClassId) (cs : Nat → Nat) (wi : va_W) (ln : Nat → Option Int32) (lf : Nat → Nat → Option Nat) (dk : Nat → Option Nat) (dn : Nat → Int32) (him : ImF d wi ln lf dk dn) (ha : Nat → Nat) (ta : Nat → Nat) (sa : Nat → Nat) (hv : HV) (tv : HV) (gt : Int32) (gf : Int32) (gc : Int32) (tra : Nat) (gs : Int32) (p1 : Int32)  (res : Int32 × HV) (hf : fX0_later ln lf dk hv tv p1 = some res) : MetI l yX0_later (ws_ yX0_later cX0_later 2 (some .int)) { frames := 7, cells := 0, slots := 0, locals := 205 } [.ref (sa 0), .int p1] (XI D cs wi) D d [oH ha (Hfl hv) (Hro hv) (Hrp hv) (Hca hv) (Hwy hv) (Hla hv) (Hmi hv) (Htf hv) (Htk hv), aV d ha 1 (HHO hv), aV d ha 2 (HAT hv), aV d ha 3 (HTO hv), aV d ha 4 (HWE hv), aV d ha 5 (HHE hv), aV d ha 6 (HRA hv), oS sa ha ta gt gf gc tra gs, oH ta (Hfl tv) (Hro tv) (Hrp tv) (Hca tv) (Hwy tv) (Hla tv) (Hmi tv) (Htf tv) (Htk tv), aV d ta 1 (HHO tv), aV d ta 2 (HAT tv), aV d ta 3 (HTO tv), aV d ta 4 (HWE tv), aV d ta 5 (HHE tv), aV d ta 6 (HRA tv)] (fun r (_ : Unit) => r = res.1) (fun _ => [oH ha (Hfl hv) (Hro hv) (Hrp hv) (Hca hv) (Hwy hv) (Hla hv) (Hmi hv) (Htf hv) (Htk hv), aV d ha 1 (HHO hv), aV d ha 2 (HAT hv), aV d ha 3 (HTO hv), aV d ha 4 (HWE hv), aV d ha 5 (HHE hv), aV d ha 6 (HRA hv), oS sa ha ta gt gf gc tra gs, oH ta (Hfl res.2) (Hro res.2) (Hrp res.2) (Hca res.2) (Hwy res.2) (Hla res.2) (Hmi res.2) (Htf res.2) (Htk res.2), aV d ta 1 (HHO res.2), aV d ta 2 (HAT res.2), aV d ta 3 (HTO res.2), aV d ta 4 (HWE res.2), aV d ta 5 (HHE res.2), aV d ta 6 (HRA res.2)]) := by
  have hX := XI.ok (D := D) (cs := cs) (wi := wi)
  refine MetI.of (by decide +kernel) (Nat.le_of_ble_eq_true rfl) ?_
  intro p e s m below meth c A cx hw ls hl
  have cx : Cx p s m _ meth c (XI D cs wi) D d A "DishLift" cX0_later 2 (some .int) "later" := cx
  have cx' := cx
  obtain ⟨hx, hb, hr, hlk, hml, hown, hts, hK, hA, hXs, hnm⟩ := cx'
  have hl : lv_has ls 2 [(0, .ref (sa 0)), (1, .int p1)] := hl
  unfold fX0_later at hf
  refine lv_aload_n hx hb dX0_later_0 rfl (lv_at hl 0 rfl) ?_
  obtain ⟨q1, hcq1, hf⟩ := op_e hf
  refine x_VI (wr := [oH ta (Hfl tv) (Hro tv) (Hrp tv) (Hca tv) (Hwy tv) (Hla tv) (Hmi tv) (Htf tv) (Htk tv), aV d ta 1 (HHO tv), aV d ta 2 (HAT tv), aV d ta 3 (HTO tv), aV d ta 4 (HWE tv), aV d ta 5 (HHE tv), aV d ta 6 (HRA tv)]) (rest := []) [] hX cx hw hl.1 (mX0_isHouse l  D d cs wi ln lf dk dn him ha sa ta hv gt gf gc tra gs q1 hcq1) (lw_V q769 q771 qs17 q82 q772) hd_X0_isHouse ⟨(Nat.le_of_ble_eq_true rfl), (Nat.le_of_ble_eq_true rfl)⟩ (va_recv hK hw.1 (ci := 1) (q0 := 7) rfl rfl) rfl rfl (Nat.le_of_ble_eq_true rfl) dX0_later_1 [0, 1, 2, 3, 4, 5, 6, 7] [8, 9, 10, 11, 12, 13, 14] rfl rfl rfl rfl (by decide) ⟨(Nat.le_of_ble_eq_true rfl), (Nat.le_of_ble_eq_true rfl)⟩ (fun r u H locs hp hw => ?_)
  have hw : Wd D A s [oH ta (Hfl tv) (Hro tv) (Hrp tv) (Hca tv) (Hwy tv) (Hla tv) (Hmi tv) (Htf tv) (Htk tv), aV d ta 1 (HHO tv), aV d ta 2 (HAT tv), aV d ta 3 (HTO tv), aV d ta 4 (HWE tv), aV d ta 5 (HHE tv), aV d ta 6 (HRA tv), oH ha (Hfl hv) (Hro hv) (Hrp hv) (Hca hv) (Hwy hv) (Hla hv) (Hmi hv) (Htf hv) (Htk hv), aV d ha 1 (HHO hv), aV d ha 2 (HAT hv), aV d ha 3 (HTO hv), aV d ha 4 (HWE hv), aV d ha 5 (HHE hv), aV d ha 6 (HRA hv), oS sa ha ta gt gf gc tra gs] H locs := hw
  subst r
  refine lv_if_ne (tgt := 10) hx hb dX0_later_4 (by decide) (fun c4 => ?_) (fun c4 => ?_)
  · have hf := if_f hf c4
    refine lv_iload_n hx hb dX0_later_10 rfl (lv_at hl 1 rfl) ?_
    obtain ⟨q2, hcq2, hf⟩ := op_e hf
    refine x_SI (wr := [oH ta (Hfl tv) (Hro tv) (Hrp tv) (Hca tv) (Hwy tv) (Hla tv) (Hmi tv) (Htf tv) (Htk tv), aV d ta 1 (HHO tv), aV d ta 2 (HAT tv), aV d ta 3 (HTO tv), aV d ta 4 (HWE tv), aV d ta 5 (HHE tv), aV d ta 6 (HRA tv), oH ha (Hfl hv) (Hro hv) (Hrp hv) (Hca hv) (Hwy hv) (Hla hv) (Hmi hv) (Htf hv) (Htk hv), aV d ha 1 (HHO hv), aV d ha 2 (HAT hv), aV d ha 3 (HTO hv), aV d ha 4 (HWE hv), aV d ha 5 (HHE hv), aV d ha 6 (HRA hv), oS sa ha ta gt gf gc tra gs]) (rest := []) [.int p1] hX cx hw hl.1 (mX0_isFar l (XI D cs wi) hX D d  p1 q2 hcq2) (lw_S q929 q930 q82 q931) hd_X0_isFar ⟨(Nat.le_of_ble_eq_true rfl), (Nat.le_of_ble_eq_true rfl)⟩ rfl rfl (Nat.le_of_ble_eq_true rfl) dX0_later_11 [] [0, 1, 2, 3, 4, 5, 6, 7, 8, 9, 10, 11, 12, 13, 14] rfl rfl rfl rfl (by decide) ⟨(Nat.le_of_ble_eq_true rfl), (Nat.le_of_ble_eq_true rfl)⟩ (fun r u H locs hp hw => ?_)
    have hw : Wd D A s [oH ta (Hfl tv) (Hro tv) (Hrp tv) (Hca tv) (Hwy tv) (Hla tv) (Hmi tv) (Htf tv) (Htk tv), aV d ta 1 (HHO tv), aV d ta 2 (HAT tv), aV d ta 3 (HTO tv), aV d ta 4 (HWE tv), aV d ta 5 (HHE tv), aV d ta 6 (HRA tv), oH ha (Hfl hv) (Hro hv) (Hrp hv) (Hca hv) (Hwy hv) (Hla hv) (Hmi hv) (Htf hv) (Htk hv), aV d ha 1 (HHO hv), aV d ha 2 (HAT hv), aV d ha 3 (HTO hv), aV d ha 4 (HWE hv), aV d ha 5 (HHE hv), aV d ha 6 (HRA hv), oS sa ha ta gt gf gc tra gs] H locs := hw
    subst r
    refine lv_if_ne (tgt := 20) hx hb dX0_later_14 (by decide) (fun c14 => ?_) (fun c14 => ?_)
    · have hf := if_f hf c14
      refine lv_aload_n hx hb dX0_later_20 rfl (lv_at hl 0 rfl) ?_
      obtain ⟨q3, hcq3, hf⟩ := op_e hf
      refine x_VA (wr := []) (rest := []) [] hX cx hw hl.1 (mX0_tried l  D d cs wi ln lf dk dn him ha ta sa hv tv gt gf gc tra gs q3 hcq3) (lw_V q932 q934 qs24 q82 q935) hd_X0_tried ⟨(Nat.le_of_ble_eq_true rfl), (Nat.le_of_ble_eq_true rfl)⟩ (va_recv hK hw.1 (ci := 1) (q0 := 14) rfl rfl) rfl rfl (Nat.le_of_ble_eq_true rfl) dX0_later_21 [7, 8, 9, 10, 11, 12, 13, 14, 0, 1, 2, 3, 4, 5, 6] [] rfl rfl rfl rfl (by decide) ⟨(Nat.le_of_ble_eq_true rfl), (Nat.le_of_ble_eq_true rfl)⟩ (fun u H locs hp hw => ?_)
      have hw : Wd D A s [oH ha (Hfl hv) (Hro hv) (Hrp hv) (Hca hv) (Hwy hv) (Hla hv) (Hmi hv) (Htf hv) (Htk hv), aV d ha 1 (HHO hv), aV d ha 2 (HAT hv), aV d ha 3 (HTO hv), aV d ha 4 (HWE hv), aV d ha 5 (HHE hv), aV d ha 6 (HRA hv), oS sa ha ta gt gf gc tra gs, oH ta (Hfl q3) (Hro q3) (Hrp q3) (Hca q3) (Hwy q3) (Hla q3) (Hmi q3) (Htf q3) (Htk q3), aV d ta 1 (HHO q3), aV d ta 2 (HAT q3), aV d ta 3 (HTO q3), aV d ta 4 (HWE q3), aV d ta 5 (HHE q3), aV d ta 6 (HRA q3)] H locs := hw
      refine lv_pop hx hb dX0_later_24 rfl ?_
      refine lv_aload_n hx hb dX0_later_25 rfl (lv_at hl 0 rfl) ?_
      refine lv_iload_n hx hb dX0_later_26 rfl (lv_at hl 1 rfl) ?_
      obtain ⟨q4, hcq4, hf⟩ := op_e hf
      refine x_VA (wr := [oH ha (Hfl hv) (Hro hv) (Hrp hv) (Hca hv) (Hwy hv) (Hla hv) (Hmi hv) (Htf hv) (Htk hv), aV d ha 1 (HHO hv), aV d ha 2 (HAT hv), aV d ha 3 (HTO hv), aV d ha 4 (HWE hv), aV d ha 5 (HHE hv), aV d ha 6 (HRA hv)]) (rest := []) [.int p1] hX cx hw hl.1 (mX0_goOn l  D d cs wi ln lf dk dn him ta sa ha q3 gt gf gc tra gs p1 q4 hcq4) (lw_V q936 q938 qs25 q82 q939) hd_X0_goOn ⟨(Nat.le_of_ble_eq_true rfl), (Nat.le_of_ble_eq_true rfl)⟩ (va_recv hK hw.1 (ci := 1) (q0 := 7) rfl rfl) rfl rfl (Nat.le_of_ble_eq_true rfl) dX0_later_27 [7, 8, 9, 10, 11, 12, 13, 14] [0, 1, 2, 3, 4, 5, 6] rfl rfl rfl rfl (by decide) ⟨(Nat.le_of_ble_eq_true rfl), (Nat.le_of_ble_eq_true rfl)⟩ (fun u H locs hp hw => ?_)
      have hw : Wd D A s [oH ha (Hfl hv) (Hro hv) (Hrp hv) (Hca hv) (Hwy hv) (Hla hv) (Hmi hv) (Htf hv) (Htk hv), aV d ha 1 (HHO hv), aV d ha 2 (HAT hv), aV d ha 3 (HTO hv), aV d ha 4 (HWE hv), aV d ha 5 (HHE hv), aV d ha 6 (HRA hv), oS sa ha ta gt gf gc tra gs, oH ta (Hfl q4) (Hro q4) (Hrp q4) (Hca q4) (Hwy q4) (Hla q4) (Hmi q4) (Htf q4) (Htk q4), aV d ta 1 (HHO q4), aV d ta 2 (HAT q4), aV d ta 3 (HTO q4), aV d ta 4 (HWE q4), aV d ta 5 (HHE q4), aV d ta 6 (HRA q4)] H locs := hw
      refine va_get (ci := 2) (C := RX1) (T := TX1) (N := 15) hx hb hts in_X1 hown hK hw.1 8 rfl rfl 3 (by decide) (hts _ q169) (fun _ h9 => h9) rfl dX0_later_30 ?_
      have hf := sm_e hf
      subst hf
      exact x_retI cx hw rfl () rfl [0, 1, 2, 3, 4, 5, 6, 7, 8, 9, 10, 11, 12, 13, 14] rfl rfl (Nat.le_of_ble_eq_true rfl) (Nat.le_of_ble_eq_true rfl) dX0_later_33
    · have hf := if_t hf c14
      refine lv_ldc (v := (-1000001)) hx hb hown (hts _ q350) dX0_later_17 ?_
      have hf := sm_e hf
      subst hf
      exact x_retI cx hw rfl () rfl [7, 8, 9, 10, 11, 12, 13, 14, 0, 1, 2, 3, 4, 5, 6] rfl rfl (Nat.le_of_ble_eq_true rfl) (Nat.le_of_ble_eq_true rfl) dX0_later_19
  · have hf := if_t hf c4
    refine lv_ldc (v := (-1000002)) hx hb hown (hts _ q764) dX0_later_7 ?_
    have hf := sm_e hf
    subst hf
    exact x_retI cx hw rfl () rfl [7, 8, 9, 10, 11, 12, 13, 14, 0, 1, 2, 3, 4, 5, 6] rfl rfl (Nat.le_of_ble_eq_true rfl) (Nat.le_of_ble_eq_true rfl) dX0_later_9
theorem hd_X0_when : yX0_when.cls = "DishLift" ∧ yX0_when.cls ≠ "java/lang/invoke/MethodHandle" ∧ yX0_when.cls ≠ "java/lang/invoke/VarHandle" ∧ (parseMethodDescriptor yX0_when.desc).map (fun d => d.parameters.length) = some 1 := by decide +kernel
set_option maxHeartbeats 4000000 in
theorem mX0_when (l : Launch)  (D : va_G) (d : Nat → ClassId) (cs : Nat → Nat) (wi : va_W) (ln : Nat → Option Int32) (lf : Nat → Nat → Option Nat) (dk : Nat → Option Nat) (dn : Nat → Int32) (him : ImF d wi ln lf dk dn) (ha : Nat → Nat) (ta : Nat → Nat) (sa : Nat → Nat) (hv : HV) (tv : HV) (gt : Int32) (gf : Int32) (gc : Int32) (tra : Nat) (gs : Int32) (p1 : Int32)  (res : Int32 × HV) (hf : fX0_when ln lf dk hv tv p1 = some res) : MetI l yX0_when (ws_ yX0_when cX0_when 3 (some .int)) { frames := 6, cells := 0, slots := 0, locals := 183 } [.ref (sa 0), .int p1] (XI D cs wi) D d [oH ha (Hfl hv) (Hro hv) (Hrp hv) (Hca hv) (Hwy hv) (Hla hv) (Hmi hv) (Htf hv) (Htk hv), aV d ha 1 (HHO hv), aV d ha 2 (HAT hv), aV d ha 3 (HTO hv), aV d ha 4 (HWE hv), aV d ha 5 (HHE hv), aV d ha 6 (HRA hv), oS sa ha ta gt gf gc tra gs, oH ta (Hfl tv) (Hro tv) (Hrp tv) (Hca tv) (Hwy tv) (Hla tv) (Hmi tv) (Htf tv) (Htk tv), aV d ta 1 (HHO tv), aV d ta 2 (HAT tv), aV d ta 3 (HTO tv), aV d ta 4 (HWE tv), aV d ta 5 (HHE tv), aV d ta 6 (HRA tv)] (fun r (_ : Unit) => r = res.1) (fun _ => [oH ha (Hfl hv) (Hro hv) (Hrp hv) (Hca hv) (Hwy hv) (Hla hv) (Hmi hv) (Htf hv) (Htk hv), aV d ha 1 (HHO hv), aV d ha 2 (HAT hv), aV d ha 3 (HTO hv), aV d ha 4 (HWE hv), aV d ha 5 (HHE hv), aV d ha 6 (HRA hv), oS sa ha ta gt gf gc tra gs, oH ta (Hfl res.2) (Hro res.2) (Hrp res.2) (Hca res.2) (Hwy res.2) (Hla res.2) (Hmi res.2) (Htf res.2) (Htk res.2), aV d ta 1 (HHO res.2), aV d ta 2 (HAT res.2), aV d ta 3 (HTO res.2), aV d ta 4 (HWE res.2), aV d ta 5 (HHE res.2), aV d ta 6 (HRA res.2)]) := by
  have hX := XI.ok (D := D) (cs := cs) (wi := wi)
  refine MetI.of (by decide +kernel) (Nat.le_of_ble_eq_true rfl) ?_
  intro p e s m below meth c A cx hw ls hl
  have cx : Cx p s m _ meth c (XI D cs wi) D d A "DishLift" cX0_when 3 (some .int) "when" := cx
  have cx' := cx
  obtain ⟨hx, hb, hr, hlk, hml, hown, hts, hK, hA, hXs, hnm⟩ := cx'
  have hl : lv_has ls 3 [(0, .ref (sa 0)), (1, .int p1)] := hl
  unfold fX0_when at hf
  refine lv_aload_n hx hb dX0_when_0 rfl (lv_at hl 0 rfl) ?_
  refine lv_iload_n hx hb dX0_when_1 rfl (lv_at hl 1 rfl) ?_
  obtain ⟨q1, hcq1, hf⟩ := op_e hf
  refine x_VI (wr := [oH ta (Hfl tv) (Hro tv) (Hrp tv) (Hca tv) (Hwy tv) (Hla tv) (Hmi tv) (Htf tv) (Htk tv), aV d ta 1 (HHO tv), aV d ta 2 (HAT tv), aV d ta 3 (HTO tv), aV d ta 4 (HWE tv), aV d ta 5 (HHE tv), aV d ta 6 (HRA tv)]) (rest := []) [.int p1] hX cx hw hl.1 (mX0_isDish l  D d cs wi ln lf dk dn him ha sa ta hv gt gf gc tra gs p1 q1 hcq1) (lw_V q890 q892 qs23 q82 q893) hd_X0_isDish ⟨(Nat.le_of_ble_eq_true rfl), (Nat.le_of_ble_eq_true rfl)⟩ (va_recv hK hw.1 (ci := 1) (q0 := 7) rfl rfl) rfl rfl (Nat.le_of_ble_eq_true rfl) dX0_when_2 [0, 1, 2, 3, 4, 5, 6, 7] [8, 9, 10, 11, 12, 13, 14] rfl rfl rfl rfl (by decide) ⟨(Nat.le_of_ble_eq_true rfl), (Nat.le_of_ble_eq_true rfl)⟩ (fun r u H locs hp hw => ?_)
  have hw : Wd D A s [oH ta (Hfl tv) (Hro tv) (Hrp tv) (Hca tv) (Hwy tv) (Hla tv) (Hmi tv) (Htf tv) (Htk tv), aV d ta 1 (HHO tv), aV d ta 2 (HAT tv), aV d ta 3 (HTO tv), aV d ta 4 (HWE tv), aV d ta 5 (HHE tv), aV d ta 6 (HRA tv), oH ha (Hfl hv) (Hro hv) (Hrp hv) (Hca hv) (Hwy hv) (Hla hv) (Hmi hv) (Htf hv) (Htk hv), aV d ha 1 (HHO hv), aV d ha 2 (HAT hv), aV d ha 3 (HTO hv), aV d ha 4 (HWE hv), aV d ha 5 (HHE hv), aV d ha 6 (HRA hv), oS sa ha ta gt gf gc tra gs] H locs := hw
  subst r
  refine lv_if_ne (tgt := 11) hx hb dX0_when_5 (by decide) (fun c5 => ?_) (fun c5 => ?_)
  · have hf := if_f hf c5
    refine lv_aload_n hx hb dX0_when_11 rfl (lv_at hl 0 rfl) ?_
    obtain ⟨q2, hcq2, hf⟩ := op_e hf
    refine x_VA (wr := []) (rest := []) [] hX cx hw hl.1 (mX0_tried l  D d cs wi ln lf dk dn him ha ta sa hv tv gt gf gc tra gs q2 hcq2) (lw_V q932 q934 qs24 q82 q935) hd_X0_tried ⟨(Nat.le_of_ble_eq_true rfl), (Nat.le_of_ble_eq_true rfl)⟩ (va_recv hK hw.1 (ci := 1) (q0 := 14) rfl rfl) rfl rfl (Nat.le_of_ble_eq_true rfl) dX0_when_12 [7, 8, 9, 10, 11, 12, 13, 14, 0, 1, 2, 3, 4, 5, 6] [] rfl rfl rfl rfl (by decide) ⟨(Nat.le_of_ble_eq_true rfl), (Nat.le_of_ble_eq_true rfl)⟩ (fun u H locs hp hw => ?_)
    have hw : Wd D A s [oH ha (Hfl hv) (Hro hv) (Hrp hv) (Hca hv) (Hwy hv) (Hla hv) (Hmi hv) (Htf hv) (Htk hv), aV d ha 1 (HHO hv), aV d ha 2 (HAT hv), aV d ha 3 (HTO hv), aV d ha 4 (HWE hv), aV d ha 5 (HHE hv), aV d ha 6 (HRA hv), oS sa ha ta gt gf gc tra gs, oH ta (Hfl q2) (Hro q2) (Hrp q2) (Hca q2) (Hwy q2) (Hla q2) (Hmi q2) (Htf q2) (Htk q2), aV d ta 1 (HHO q2), aV d ta 2 (HAT q2), aV d ta 3 (HTO q2), aV d ta 4 (HWE q2), aV d ta 5 (HHE q2), aV d ta 6 (HRA q2)] H locs := hw
    refine lv_pop hx hb dX0_when_15 rfl ?_
    refine lv_iconst (v := 0) hx hb dX0_when_16 (by decide) ?_
    refine lv_istore_n (lv' := [(2, .int 0), (0, .ref (sa 0)), (1, .int p1)]) hx hb dX0_when_17 rfl hl (by decide) rfl (fun ls hl => ?_)
    refine x_lp hf (fun x18 => [oH ha (Hfl hv) (Hro hv) (Hrp hv) (Hca hv) (Hwy hv) (Hla hv) (Hmi hv) (Htf hv) (Htk hv), aV d ha 1 (HHO hv), aV d ha 2 (HAT hv), aV d ha 3 (HTO hv), aV d ha 4 (HWE hv), aV d ha 5 (HHE hv), aV d ha 6 (HRA hv), oS sa ha ta gt gf gc tra gs, oH ta (Hfl x18.2) (Hro x18.2) (Hrp x18.2) (Hca x18.2) (Hwy x18.2) (Hla x18.2) (Hmi x18.2) (Htf x18.2) (Htk x18.2), aV d ta 1 (HHO x18.2), aV d ta 2 (HAT x18.2), aV d ta 3 (HTO x18.2), aV d ta 4 (HWE x18.2), aV d ta 5 (HHE x18.2), aV d ta 6 (HRA x18.2)]) (fun x18 => [(0, .ref (sa 0)), (1, .int p1), (2, .int x18.1)]) hw (lv_sub hl [1, 2, 0] rfl) (fun x18 y18 hf hin18 hout18 H locs ls hw hl => ?_)
    have hw : Wd D A s [oH ha (Hfl hv) (Hro hv) (Hrp hv) (Hca hv) (Hwy hv) (Hla hv) (Hmi hv) (Htf hv) (Htk hv), aV d ha 1 (HHO hv), aV d ha 2 (HAT hv), aV d ha 3 (HTO hv), aV d ha 4 (HWE hv), aV d ha 5 (HHE hv), aV d ha 6 (HRA hv), oS sa ha ta gt gf gc tra gs, oH ta (Hfl x18.2) (Hro x18.2) (Hrp x18.2) (Hca x18.2) (Hwy x18.2) (Hla x18.2) (Hmi x18.2) (Htf x18.2) (Htk x18.2), aV d ta 1 (HHO x18.2), aV d ta 2 (HAT x18.2), aV d ta 3 (HTO x18.2), aV d ta 4 (HWE x18.2), aV d ta 5 (HHE x18.2), aV d ta 6 (HRA x18.2)] H locs := hw
    have hl : lv_has ls 3 [(0, .ref (sa 0)), (1, .int p1), (2, .int x18.1)] := hl
    refine lv_iload_n hx hb dX0_when_18 rfl (lv_at hl 2 rfl) ?_
    refine lv_bipush (v := 60) hx hb dX0_when_19 (by decide) ?_
    refine lv_icmp_gt (tgt := 53) hx hb dX0_when_21 (by decide) (fun c21 => ?_) (fun c21 => ?_)
    · have hf := if_t hf c21
      refine lv_ldcw (v := (-1000000)) hx hb hown (hts _ q948) dX0_when_53 ?_
      have hf := sm_e hf
      subst hf
      have hz := hout18 _ rfl
      subst hz
      exact x_retI cx hw rfl () rfl [0, 1, 2, 3, 4, 5, 6, 7, 8, 9, 10, 11, 12, 13, 14] rfl rfl (Nat.le_of_ble_eq_true rfl) (Nat.le_of_ble_eq_true rfl) dX0_when_56
    · have hf := if_f hf c21
      refine lv_aload_n hx hb dX0_when_24 rfl (lv_at hl 0 rfl) ?_
      refine va_get (ci := 1) (C := RX0) (T := TX0) (N := 14) hx hb hts in_X0 hown hK hw.1 7 rfl rfl 5 (by decide) (hts _ q299) (fun _ h9 => h9) rfl dX0_when_25 ?_
      refine va_get (ci := 2) (C := RX1) (T := TX1) (N := 15) hx hb hts in_X1 hown hK hw.1 8 rfl rfl 6 (by decide) (hts _ q176) (fun _ h9 => h9) rfl dX0_when_28 ?_
      refine lv_iload_n hx hb dX0_when_31 rfl (lv_at hl 1 rfl) ?_
      obtain ⟨v3, hrd, hf⟩ := op_e hf
      refine x_iald (q0 := 9) cx hw rfl hrd dX0_when_32 ?_
      refine lv_iconst (v := 2) hx hb dX0_when_33 (by decide) ?_
      refine lv_icmp_ne (tgt := 39) hx hb dX0_when_34 (by decide) (fun c34 => ?_) (fun c34 => ?_)
      · have hf := if_f hf c34
        refine lv_aload_n hx hb dX0_when_39 rfl (lv_at hl 0 rfl) ?_
        refine va_get (ci := 1) (C := RX0) (T := TX0) (N := 14) hx hb hts in_X0 hown hK hw.1 7 rfl rfl 5 (by decide) (hts _ q299) (fun _ h9 => h9) rfl dX0_when_40 ?_
        obtain ⟨q4, hcq4, hf⟩ := op_e hf
        refine x_VA (wr := [oH ha (Hfl hv) (Hro hv) (Hrp hv) (Hca hv) (Hwy hv) (Hla hv) (Hmi hv) (Htf hv) (Htk hv), aV d ha 1 (HHO hv), aV d ha 2 (HAT hv), aV d ha 3 (HTO hv), aV d ha 4 (HWE hv), aV d ha 5 (HHE hv), aV d ha 6 (HRA hv), oS sa ha ta gt gf gc tra gs]) (rest := []) [] hX cx hw hl.1 (vX1_pass l  D d cs wi ln lf dk dn him ta x18.2 q4 hcq4) (lw_V q778 q779 q780 q83 q781) hd_X1_pass ⟨(Nat.le_of_ble_eq_true rfl), (Nat.le_of_ble_eq_true rfl)⟩ (va_recv hK hw.1 (ci := 2) (q0 := 8) rfl rfl) rfl rfl (Nat.le_of_ble_eq_true rfl) dX0_when_43 [8, 9, 10, 11, 12, 13, 14] [0, 1, 2, 3, 4, 5, 6, 7] rfl rfl rfl rfl (by decide) ⟨(Nat.le_of_ble_eq_true rfl), (Nat.le_of_ble_eq_true rfl)⟩ (fun u H locs hp hw => ?_)
        have hw : Wd D A s [oH ha (Hfl hv) (Hro hv) (Hrp hv) (Hca hv) (Hwy hv) (Hla hv) (Hmi hv) (Htf hv) (Htk hv), aV d ha 1 (HHO hv), aV d ha 2 (HAT hv), aV d ha 3 (HTO hv), aV d ha 4 (HWE hv), aV d ha 5 (HHE hv), aV d ha 6 (HRA hv), oS sa ha ta gt gf gc tra gs, oH ta (Hfl q4) (Hro q4) (Hrp q4) (Hca q4) (Hwy q4) (Hla q4) (Hmi q4) (Htf q4) (Htk q4), aV d ta 1 (HHO q4), aV d ta 2 (HAT q4), aV d ta 3 (HTO q4), aV d ta 4 (HWE q4), aV d ta 5 (HHE q4), aV d ta 6 (HRA q4)] H locs := hw
        refine lv_pop hx hb dX0_when_46 rfl ?_
        refine lv_iinc (v := (x18.1 + 1)) (lv' := [(2, .int (x18.1 + 1)), (0, .ref (sa 0)), (1, .int p1)]) hx hb dX0_when_47 hl (k := 2) rfl (by first | rfl | decide) (by decide) rfl (fun ls hl => ?_)
        refine lv_goto (tgt := 18) hx hb dX0_when_50 (by decide) ?_
        have hf := sm_e hf
        subst hf
        exact hin18 _ rfl _ _ _ hw (lv_sub hl [1, 2, 0] rfl)
      · have hf := if_t hf c34
        refine lv_iload_n hx hb dX0_when_37 rfl (lv_at hl 2 rfl) ?_
        have hf := sm_e hf
        subst hf
        have hz := hout18 _ rfl
        subst hz
        exact x_retI cx hw rfl () rfl [0, 1, 2, 3, 4, 5, 6, 7, 8, 9, 10, 11, 12, 13, 14] rfl rfl (Nat.le_of_ble_eq_true rfl) (Nat.le_of_ble_eq_true rfl) dX0_when_38
  · have hf := if_t hf c5
    refine lv_ldc (v := (-1000001)) hx hb hown (hts _ q350) dX0_when_8 ?_
    have hf := sm_e hf
    subst hf
    exact x_retI cx hw rfl () rfl [7, 8, 9, 10, 11, 12, 13, 14, 0, 1, 2, 3, 4, 5, 6] rfl rfl (Nat.le_of_ble_eq_true rfl) (Nat.le_of_ble_eq_true rfl) dX0_when_10
theorem hd_X0_done : yX0_done.cls = "DishLift" ∧ yX0_done.cls ≠ "java/lang/invoke/MethodHandle" ∧ yX0_done.cls ≠ "java/lang/invoke/VarHandle" ∧ (parseMethodDescriptor yX0_done.desc).map (fun d => d.parameters.length) = some 0 := by decide +kernel
set_option maxHeartbeats 4000000 in
theorem mX0_done (l : Launch)  (D : va_G) (d : Nat → ClassId) (cs : Nat → Nat) (wi : va_W) (ln : Nat → Option Int32) (lf : Nat → Nat → Option Nat) (dk : Nat → Option Nat) (dn : Nat → Int32) (him : ImF d wi ln lf dk dn) (ha : Nat → Nat) (ta : Nat → Nat) (sa : Nat → Nat) (hv : HV) (tv : HV) (gt : Int32) (gf : Int32) (gc : Int32) (tra : Nat) (gs : Int32)  (res : Int32 × HV) (hf : fX0_done ln lf dk hv tv = some res) : MetI l yX0_done (ws_ yX0_done cX0_done 2 (some .int)) { frames := 6, cells := 0, slots := 0, locals := 183 } [.ref (sa 0)] (XI D cs wi) D d [oH ha (Hfl hv) (Hro hv) (Hrp hv) (Hca hv) (Hwy hv) (Hla hv) (Hmi hv) (Htf hv) (Htk hv), aV d ha 1 (HHO hv), aV d ha 2 (HAT hv), aV d ha 3 (HTO hv), aV d ha 4 (HWE hv), aV d ha 5 (HHE hv), aV d ha 6 (HRA hv), oS sa ha ta gt gf gc tra gs, oH ta (Hfl tv) (Hro tv) (Hrp tv) (Hca tv) (Hwy tv) (Hla tv) (Hmi tv) (Htf tv) (Htk tv), aV d ta 1 (HHO tv), aV d ta 2 (HAT tv), aV d ta 3 (HTO tv), aV d ta 4 (HWE tv), aV d ta 5 (HHE tv), aV d ta 6 (HRA tv)] (fun r (_ : Unit) => r = res.1) (fun _ => [oH ha (Hfl hv) (Hro hv) (Hrp hv) (Hca hv) (Hwy hv) (Hla hv) (Hmi hv) (Htf hv) (Htk hv), aV d ha 1 (HHO hv), aV d ha 2 (HAT hv), aV d ha 3 (HTO hv), aV d ha 4 (HWE hv), aV d ha 5 (HHE hv), aV d ha 6 (HRA hv), oS sa ha ta gt gf gc tra gs, oH ta (Hfl res.2) (Hro res.2) (Hrp res.2) (Hca res.2) (Hwy res.2) (Hla res.2) (Hmi res.2) (Htf res.2) (Htk res.2), aV d ta 1 (HHO res.2), aV d ta 2 (HAT res.2), aV d ta 3 (HTO res.2), aV d ta 4 (HWE res.2), aV d ta 5 (HHE res.2), aV d ta 6 (HRA res.2)]) := by
  have hX := XI.ok (D := D) (cs := cs) (wi := wi)
  refine MetI.of (by decide +kernel) (Nat.le_of_ble_eq_true rfl) ?_
  intro p e s m below meth c A cx hw ls hl
  have cx : Cx p s m _ meth c (XI D cs wi) D d A "DishLift" cX0_done 2 (some .int) "done" := cx
  have cx' := cx
  obtain ⟨hx, hb, hr, hlk, hml, hown, hts, hK, hA, hXs, hnm⟩ := cx'
  have hl : lv_has ls 2 [(0, .ref (sa 0))] := hl
  unfold fX0_done at hf
  refine lv_aload_n hx hb dX0_done_0 rfl (lv_at hl 0 rfl) ?_
  obtain ⟨q1, hcq1, hf⟩ := op_e hf
  refine x_VI (wr := [oH ta (Hfl tv) (Hro tv) (Hrp tv) (Hca tv) (Hwy tv) (Hla tv) (Hmi tv) (Htf tv) (Htk tv), aV d ta 1 (HHO tv), aV d ta 2 (HAT tv), aV d ta 3 (HTO tv), aV d ta 4 (HWE tv), aV d ta 5 (HHE tv), aV d ta 6 (HRA tv)]) (rest := []) [] hX cx hw hl.1 (mX0_isHouse l  D d cs wi ln lf dk dn him ha sa ta hv gt gf gc tra gs q1 hcq1) (lw_V q769 q771 qs17 q82 q772) hd_X0_isHouse ⟨(Nat.le_of_ble_eq_true rfl), (Nat.le_of_ble_eq_true rfl)⟩ (va_recv hK hw.1 (ci := 1) (q0 := 7) rfl rfl) rfl rfl (Nat.le_of_ble_eq_true rfl) dX0_done_1 [0, 1, 2, 3, 4, 5, 6, 7] [8, 9, 10, 11, 12, 13, 14] rfl rfl rfl rfl (by decide) ⟨(Nat.le_of_ble_eq_true rfl), (Nat.le_of_ble_eq_true rfl)⟩ (fun r u H locs hp hw => ?_)
  have hw : Wd D A s [oH ta (Hfl tv) (Hro tv) (Hrp tv) (Hca tv) (Hwy tv) (Hla tv) (Hmi tv) (Htf tv) (Htk tv), aV d ta 1 (HHO tv), aV d ta 2 (HAT tv), aV d ta 3 (HTO tv), aV d ta 4 (HWE tv), aV d ta 5 (HHE tv), aV d ta 6 (HRA tv), oH ha (Hfl hv) (Hro hv) (Hrp hv) (Hca hv) (Hwy hv) (Hla hv) (Hmi hv) (Htf hv) (Htk hv), aV d ha 1 (HHO hv), aV d ha 2 (HAT hv), aV d ha 3 (HTO hv), aV d ha 4 (HWE hv), aV d ha 5 (HHE hv), aV d ha 6 (HRA hv), oS sa ha ta gt gf gc tra gs] H locs := hw
  subst r
  refine lv_if_ne (tgt := 10) hx hb dX0_done_4 (by decide) (fun c4 => ?_) (fun c4 => ?_)
  · have hf := if_f hf c4
    refine lv_aload_n hx hb dX0_done_10 rfl (lv_at hl 0 rfl) ?_
    obtain ⟨q2, hcq2, hf⟩ := op_e hf
    refine x_VA (wr := []) (rest := []) [] hX cx hw hl.1 (mX0_tried l  D d cs wi ln lf dk dn him ha ta sa hv tv gt gf gc tra gs q2 hcq2) (lw_V q932 q934 qs24 q82 q935) hd_X0_tried ⟨(Nat.le_of_ble_eq_true rfl), (Nat.le_of_ble_eq_true rfl)⟩ (va_recv hK hw.1 (ci := 1) (q0 := 14) rfl rfl) rfl rfl (Nat.le_of_ble_eq_true rfl) dX0_done_11 [7, 8, 9, 10, 11, 12, 13, 14, 0, 1, 2, 3, 4, 5, 6] [] rfl rfl rfl rfl (by decide) ⟨(Nat.le_of_ble_eq_true rfl), (Nat.le_of_ble_eq_true rfl)⟩ (fun u H locs hp hw => ?_)
    have hw : Wd D A s [oH ha (Hfl hv) (Hro hv) (Hrp hv) (Hca hv) (Hwy hv) (Hla hv) (Hmi hv) (Htf hv) (Htk hv), aV d ha 1 (HHO hv), aV d ha 2 (HAT hv), aV d ha 3 (HTO hv), aV d ha 4 (HWE hv), aV d ha 5 (HHE hv), aV d ha 6 (HRA hv), oS sa ha ta gt gf gc tra gs, oH ta (Hfl q2) (Hro q2) (Hrp q2) (Hca q2) (Hwy q2) (Hla q2) (Hmi q2) (Htf q2) (Htk q2), aV d ta 1 (HHO q2), aV d ta 2 (HAT q2), aV d ta 3 (HTO q2), aV d ta 4 (HWE q2), aV d ta 5 (HHE q2), aV d ta 6 (HRA q2)] H locs := hw
    refine lv_pop hx hb dX0_done_14 rfl ?_
    refine lv_iconst (v := 0) hx hb dX0_done_15 (by decide) ?_
    refine lv_istore_n (lv' := [(1, .int 0), (0, .ref (sa 0))]) hx hb dX0_done_16 rfl hl (by decide) rfl (fun ls hl => ?_)
    refine x_lp hf (fun x17 => [oH ha (Hfl hv) (Hro hv) (Hrp hv) (Hca hv) (Hwy hv) (Hla hv) (Hmi hv) (Htf hv) (Htk hv), aV d ha 1 (HHO hv), aV d ha 2 (HAT hv), aV d ha 3 (HTO hv), aV d ha 4 (HWE hv), aV d ha 5 (HHE hv), aV d ha 6 (HRA hv), oS sa ha ta gt gf gc tra gs, oH ta (Hfl x17.2) (Hro x17.2) (Hrp x17.2) (Hca x17.2) (Hwy x17.2) (Hla x17.2) (Hmi x17.2) (Htf x17.2) (Htk x17.2), aV d ta 1 (HHO x17.2), aV d ta 2 (HAT x17.2), aV d ta 3 (HTO x17.2), aV d ta 4 (HWE x17.2), aV d ta 5 (HHE x17.2), aV d ta 6 (HRA x17.2)]) (fun x17 => [(0, .ref (sa 0)), (1, .int x17.1)]) hw (lv_sub hl [1, 0] rfl) (fun x17 y17 hf hin17 hout17 H locs ls hw hl => ?_)
    have hw : Wd D A s [oH ha (Hfl hv) (Hro hv) (Hrp hv) (Hca hv) (Hwy hv) (Hla hv) (Hmi hv) (Htf hv) (Htk hv), aV d ha 1 (HHO hv), aV d ha 2 (HAT hv), aV d ha 3 (HTO hv), aV d ha 4 (HWE hv), aV d ha 5 (HHE hv), aV d ha 6 (HRA hv), oS sa ha ta gt gf gc tra gs, oH ta (Hfl x17.2) (Hro x17.2) (Hrp x17.2) (Hca x17.2) (Hwy x17.2) (Hla x17.2) (Hmi x17.2) (Htf x17.2) (Htk x17.2), aV d ta 1 (HHO x17.2), aV d ta 2 (HAT x17.2), aV d ta 3 (HTO x17.2), aV d ta 4 (HWE x17.2), aV d ta 5 (HHE x17.2), aV d ta 6 (HRA x17.2)] H locs := hw
    have hl : lv_has ls 2 [(0, .ref (sa 0)), (1, .int x17.1)] := hl
    refine lv_iload_n hx hb dX0_done_17 rfl (lv_at hl 1 rfl) ?_
    refine lv_bipush (v := 60) hx hb dX0_done_18 (by decide) ?_
    refine lv_icmp_gt (tgt := 49) hx hb dX0_done_20 (by decide) (fun c20 => ?_) (fun c20 => ?_)
    · have hf := if_t hf c20
      refine lv_ldcw (v := (-1000000)) hx hb hown (hts _ q948) dX0_done_49 ?_
      have hf := sm_e hf
      subst hf
      have hz := hout17 _ rfl
      subst hz
      exact x_retI cx hw rfl () rfl [0, 1, 2, 3, 4, 5, 6, 7, 8, 9, 10, 11, 12, 13, 14] rfl rfl (Nat.le_of_ble_eq_true rfl) (Nat.le_of_ble_eq_true rfl) dX0_done_52
    · have hf := if_f hf c20
      refine lv_aload_n hx hb dX0_done_23 rfl (lv_at hl 0 rfl) ?_
      refine va_get (ci := 1) (C := RX0) (T := TX0) (N := 14) hx hb hts in_X0 hown hK hw.1 7 rfl rfl 5 (by decide) (hts _ q299) (fun _ h9 => h9) rfl dX0_done_24 ?_
      obtain ⟨q3, hcq3, hf⟩ := op_e hf
      refine x_VI (wr := [oH ha (Hfl hv) (Hro hv) (Hrp hv) (Hca hv) (Hwy hv) (Hla hv) (Hmi hv) (Htf hv) (Htk hv), aV d ha 1 (HHO hv), aV d ha 2 (HAT hv), aV d ha 3 (HTO hv), aV d ha 4 (HWE hv), aV d ha 5 (HHE hv), aV d ha 6 (HRA hv), oS sa ha ta gt gf gc tra gs]) (rest := []) [] hX cx hw hl.1 (vX1_isDone l  D d cs wi ln lf dk dn him ta x17.2 q3 hcq3) (lw_V q953 q954 q955 q83 q956) hd_X1_isDone ⟨(Nat.le_of_ble_eq_true rfl), (Nat.le_of_ble_eq_true rfl)⟩ (va_recv hK hw.1 (ci := 2) (q0 := 8) rfl rfl) rfl rfl (Nat.le_of_ble_eq_true rfl) dX0_done_27 [8, 9, 10, 11, 12, 13, 14] [0, 1, 2, 3, 4, 5, 6, 7] rfl rfl rfl rfl (by decide) ⟨(Nat.le_of_ble_eq_true rfl), (Nat.le_of_ble_eq_true rfl)⟩ (fun r u H locs hp hw => ?_)
      have hw : Wd D A s [oH ha (Hfl hv) (Hro hv) (Hrp hv) (Hca hv) (Hwy hv) (Hla hv) (Hmi hv) (Htf hv) (Htk hv), aV d ha 1 (HHO hv), aV d ha 2 (HAT hv), aV d ha 3 (HTO hv), aV d ha 4 (HWE hv), aV d ha 5 (HHE hv), aV d ha 6 (HRA hv), oS sa ha ta gt gf gc tra gs, oH ta (Hfl x17.2) (Hro x17.2) (Hrp x17.2) (Hca x17.2) (Hwy x17.2) (Hla x17.2) (Hmi x17.2) (Htf x17.2) (Htk x17.2), aV d ta 1 (HHO x17.2), aV d ta 2 (HAT x17.2), aV d ta 3 (HTO x17.2), aV d ta 4 (HWE x17.2), aV d ta 5 (HHE x17.2), aV d ta 6 (HRA x17.2)] H locs := hw
      subst r
      refine lv_if_eq (tgt := 35) hx hb dX0_done_30 (by decide) (fun c30 => ?_) (fun c30 => ?_)
      · have hf := if_t hf c30
        refine lv_aload_n hx hb dX0_done_35 rfl (lv_at hl 0 rfl) ?_
        refine va_get (ci := 1) (C := RX0) (T := TX0) (N := 14) hx hb hts in_X0 hown hK hw.1 7 rfl rfl 5 (by decide) (hts _ q299) (fun _ h9 => h9) rfl dX0_done_36 ?_
        obtain ⟨q4, hcq4, hf⟩ := op_e hf
        refine x_VA (wr := [oH ha (Hfl hv) (Hro hv) (Hrp hv) (Hca hv) (Hwy hv) (Hla hv) (Hmi hv) (Htf hv) (Htk hv), aV d ha 1 (HHO hv), aV d ha 2 (HAT hv), aV d ha 3 (HTO hv), aV d ha 4 (HWE hv), aV d ha 5 (HHE hv), aV d ha 6 (HRA hv), oS sa ha ta gt gf gc tra gs]) (rest := []) [] hX cx hw hl.1 (vX1_pass l  D d cs wi ln lf dk dn him ta x17.2 q4 hcq4) (lw_V q778 q779 q780 q83 q781) hd_X1_pass ⟨(Nat.le_of_ble_eq_true rfl), (Nat.le_of_ble_eq_true rfl)⟩ (va_recv hK hw.1 (ci := 2) (q0 := 8) rfl rfl) rfl rfl (Nat.le_of_ble_eq_true rfl) dX0_done_39 [8, 9, 10, 11, 12, 13, 14] [0, 1, 2, 3, 4, 5, 6, 7] rfl rfl rfl rfl (by decide) ⟨(Nat.le_of_ble_eq_true rfl), (Nat.le_of_ble_eq_true rfl)⟩ (fun u H locs hp hw => ?_)
        have hw : Wd D A s [oH ha (Hfl hv) (Hro hv) (Hrp hv) (Hca hv) (Hwy hv) (Hla hv) (Hmi hv) (Htf hv) (Htk hv), aV d ha 1 (HHO hv), aV d ha 2 (HAT hv), aV d ha 3 (HTO hv), aV d ha 4 (HWE hv), aV d ha 5 (HHE hv), aV d ha 6 (HRA hv), oS sa ha ta gt gf gc tra gs, oH ta (Hfl q4) (Hro q4) (Hrp q4) (Hca q4) (Hwy q4) (Hla q4) (Hmi q4) (Htf q4) (Htk q4), aV d ta 1 (HHO q4), aV d ta 2 (HAT q4), aV d ta 3 (HTO q4), aV d ta 4 (HWE q4), aV d ta 5 (HHE q4), aV d ta 6 (HRA q4)] H locs := hw
        refine lv_pop hx hb dX0_done_42 rfl ?_
        refine lv_iinc (v := (x17.1 + 1)) (lv' := [(1, .int (x17.1 + 1)), (0, .ref (sa 0))]) hx hb dX0_done_43 hl (k := 1) rfl (by first | rfl | decide) (by decide) rfl (fun ls hl => ?_)
        refine lv_goto (tgt := 17) hx hb dX0_done_46 (by decide) ?_
        have hf := sm_e hf
        subst hf
        exact hin17 _ rfl _ _ _ hw (lv_sub hl [1, 0] rfl)
      · have hf := if_f hf c30
        refine lv_iload_n hx hb dX0_done_33 rfl (lv_at hl 1 rfl) ?_
        have hf := sm_e hf
        subst hf
        have hz := hout17 _ rfl
        subst hz
        exact x_retI cx hw rfl () rfl [0, 1, 2, 3, 4, 5, 6, 7, 8, 9, 10, 11, 12, 13, 14] rfl rfl (Nat.le_of_ble_eq_true rfl) (Nat.le_of_ble_eq_true rfl) dX0_done_34
  · have hf := if_t hf c4
    refine lv_ldc (v := (-1000002)) hx hb hown (hts _ q764) dX0_done_7 ?_
    have hf := sm_e hf
    subst hf
    exact x_retI cx hw rfl () rfl [7, 8, 9, 10, 11, 12, 13, 14, 0, 1, 2, 3, 4, 5, 6] rfl rfl (Nat.le_of_ble_eq_true rfl) (Nat.le_of_ble_eq_true rfl) dX0_done_9
theorem hd_X0_fine : yX0_fine.cls = "DishLift" ∧ yX0_fine.cls ≠ "java/lang/invoke/MethodHandle" ∧ yX0_fine.cls ≠ "java/lang/invoke/VarHandle" ∧ (parseMethodDescriptor yX0_fine.desc).map (fun d => d.parameters.length) = some 1 := by decide +kernel
set_option maxHeartbeats 4000000 in
theorem mX0_fine (l : Launch)  (D : va_G) (d : Nat → ClassId) (cs : Nat → Nat) (wi : va_W) (ln : Nat → Option Int32) (lf : Nat → Nat → Option Nat) (dk : Nat → Option Nat) (dn : Nat → Int32) (him : ImF d wi ln lf dk dn) (ha : Nat → Nat) (ta : Nat → Nat) (sa : Nat → Nat) (hv : HV) (tv : HV) (gt : Int32) (gf : Int32) (gc : Int32) (tra : Nat) (gs : Int32) (p1 : Int32)  (res : Int32 × HV) (hf : fX0_fine ln lf dk hv tv p1 = some res) : MetI l yX0_fine (ws_ yX0_fine cX0_fine 2 (some .int)) { frames := 7, cells := 0, slots := 0, locals := 205 } [.ref (sa 0), .int p1] (XI D cs wi) D d [oH ha (Hfl hv) (Hro hv) (Hrp hv) (Hca hv) (Hwy hv) (Hla hv) (Hmi hv) (Htf hv) (Htk hv), aV d ha 1 (HHO hv), aV d ha 2 (HAT hv), aV d ha 3 (HTO hv), aV d ha 4 (HWE hv), aV d ha 5 (HHE hv), aV d ha 6 (HRA hv), oS sa ha ta gt gf gc tra gs, oH ta (Hfl tv) (Hro tv) (Hrp tv) (Hca tv) (Hwy tv) (Hla tv) (Hmi tv) (Htf tv) (Htk tv), aV d ta 1 (HHO tv), aV d ta 2 (HAT tv), aV d ta 3 (HTO tv), aV d ta 4 (HWE tv), aV d ta 5 (HHE tv), aV d ta 6 (HRA tv)] (fun r (_ : Unit) => r = res.1) (fun _ => [oH ha (Hfl hv) (Hro hv) (Hrp hv) (Hca hv) (Hwy hv) (Hla hv) (Hmi hv) (Htf hv) (Htk hv), aV d ha 1 (HHO hv), aV d ha 2 (HAT hv), aV d ha 3 (HTO hv), aV d ha 4 (HWE hv), aV d ha 5 (HHE hv), aV d ha 6 (HRA hv), oS sa ha ta gt gf gc tra gs, oH ta (Hfl res.2) (Hro res.2) (Hrp res.2) (Hca res.2) (Hwy res.2) (Hla res.2) (Hmi res.2) (Htf res.2) (Htk res.2), aV d ta 1 (HHO res.2), aV d ta 2 (HAT res.2), aV d ta 3 (HTO res.2), aV d ta 4 (HWE res.2), aV d ta 5 (HHE res.2), aV d ta 6 (HRA res.2)]) := by
  have hX := XI.ok (D := D) (cs := cs) (wi := wi)
  refine MetI.of (by decide +kernel) (Nat.le_of_ble_eq_true rfl) ?_
  intro p e s m below meth c A cx hw ls hl
  have cx : Cx p s m _ meth c (XI D cs wi) D d A "DishLift" cX0_fine 2 (some .int) "fine" := cx
  have cx' := cx
  obtain ⟨hx, hb, hr, hlk, hml, hown, hts, hK, hA, hXs, hnm⟩ := cx'
  have hl : lv_has ls 2 [(0, .ref (sa 0)), (1, .int p1)] := hl
  unfold fX0_fine at hf
  refine lv_aload_n hx hb dX0_fine_0 rfl (lv_at hl 0 rfl) ?_
  obtain ⟨q1, hcq1, hf⟩ := op_e hf
  refine x_VI (wr := [oH ta (Hfl tv) (Hro tv) (Hrp tv) (Hca tv) (Hwy tv) (Hla tv) (Hmi tv) (Htf tv) (Htk tv), aV d ta 1 (HHO tv), aV d ta 2 (HAT tv), aV d ta 3 (HTO tv), aV d ta 4 (HWE tv), aV d ta 5 (HHE tv), aV d ta 6 (HRA tv)]) (rest := []) [] hX cx hw hl.1 (mX0_isHouse l  D d cs wi ln lf dk dn him ha sa ta hv gt gf gc tra gs q1 hcq1) (lw_V q769 q771 qs17 q82 q772) hd_X0_isHouse ⟨(Nat.le_of_ble_eq_true rfl), (Nat.le_of_ble_eq_true rfl)⟩ (va_recv hK hw.1 (ci := 1) (q0 := 7) rfl rfl) rfl rfl (Nat.le_of_ble_eq_true rfl) dX0_fine_1 [0, 1, 2, 3, 4, 5, 6, 7] [8, 9, 10, 11, 12, 13, 14] rfl rfl rfl rfl (by decide) ⟨(Nat.le_of_ble_eq_true rfl), (Nat.le_of_ble_eq_true rfl)⟩ (fun r u H locs hp hw => ?_)
  have hw : Wd D A s [oH ta (Hfl tv) (Hro tv) (Hrp tv) (Hca tv) (Hwy tv) (Hla tv) (Hmi tv) (Htf tv) (Htk tv), aV d ta 1 (HHO tv), aV d ta 2 (HAT tv), aV d ta 3 (HTO tv), aV d ta 4 (HWE tv), aV d ta 5 (HHE tv), aV d ta 6 (HRA tv), oH ha (Hfl hv) (Hro hv) (Hrp hv) (Hca hv) (Hwy hv) (Hla hv) (Hmi hv) (Htf hv) (Htk hv), aV d ha 1 (HHO hv), aV d ha 2 (HAT hv), aV d ha 3 (HTO hv), aV d ha 4 (HWE hv), aV d ha 5 (HHE hv), aV d ha 6 (HRA hv), oS sa ha ta gt gf gc tra gs] H locs := hw
  subst r
  refine lv_if_ne (tgt := 10) hx hb dX0_fine_4 (by decide) (fun c4 => ?_) (fun c4 => ?_)
  · have hf := if_f hf c4
    refine lv_iload_n hx hb dX0_fine_10 rfl (lv_at hl 1 rfl) ?_
    obtain ⟨q2, hcq2, hf⟩ := op_e hf
    refine x_SI (wr := [oH ta (Hfl tv) (Hro tv) (Hrp tv) (Hca tv) (Hwy tv) (Hla tv) (Hmi tv) (Htf tv) (Htk tv), aV d ta 1 (HHO tv), aV d ta 2 (HAT tv), aV d ta 3 (HTO tv), aV d ta 4 (HWE tv), aV d ta 5 (HHE tv), aV d ta 6 (HRA tv), oH ha (Hfl hv) (Hro hv) (Hrp hv) (Hca hv) (Hwy hv) (Hla hv) (Hmi hv) (Htf hv) (Htk hv), aV d ha 1 (HHO hv), aV d ha 2 (HAT hv), aV d ha 3 (HTO hv), aV d ha 4 (HWE hv), aV d ha 5 (HHE hv), aV d ha 6 (HRA hv), oS sa ha ta gt gf gc tra gs]) (rest := []) [.int p1] hX cx hw hl.1 (mX0_isFar l (XI D cs wi) hX D d  p1 q2 hcq2) (lw_S q929 q930 q82 q931) hd_X0_isFar ⟨(Nat.le_of_ble_eq_true rfl), (Nat.le_of_ble_eq_true rfl)⟩ rfl rfl (Nat.le_of_ble_eq_true rfl) dX0_fine_11 [] [0, 1, 2, 3, 4, 5, 6, 7, 8, 9, 10, 11, 12, 13, 14] rfl rfl rfl rfl (by decide) ⟨(Nat.le_of_ble_eq_true rfl), (Nat.le_of_ble_eq_true rfl)⟩ (fun r u H locs hp hw => ?_)
    have hw : Wd D A s [oH ta (Hfl tv) (Hro tv) (Hrp tv) (Hca tv) (Hwy tv) (Hla tv) (Hmi tv) (Htf tv) (Htk tv), aV d ta 1 (HHO tv), aV d ta 2 (HAT tv), aV d ta 3 (HTO tv), aV d ta 4 (HWE tv), aV d ta 5 (HHE tv), aV d ta 6 (HRA tv), oH ha (Hfl hv) (Hro hv) (Hrp hv) (Hca hv) (Hwy hv) (Hla hv) (Hmi hv) (Htf hv) (Htk hv), aV d ha 1 (HHO hv), aV d ha 2 (HAT hv), aV d ha 3 (HTO hv), aV d ha 4 (HWE hv), aV d ha 5 (HHE hv), aV d ha 6 (HRA hv), oS sa ha ta gt gf gc tra gs] H locs := hw
    subst r
    refine lv_if_ne (tgt := 20) hx hb dX0_fine_14 (by decide) (fun c14 => ?_) (fun c14 => ?_)
    · have hf := if_f hf c14
      refine lv_aload_n hx hb dX0_fine_20 rfl (lv_at hl 0 rfl) ?_
      obtain ⟨q3, hcq3, hf⟩ := op_e hf
      refine x_VA (wr := []) (rest := []) [] hX cx hw hl.1 (mX0_tried l  D d cs wi ln lf dk dn him ha ta sa hv tv gt gf gc tra gs q3 hcq3) (lw_V q932 q934 qs24 q82 q935) hd_X0_tried ⟨(Nat.le_of_ble_eq_true rfl), (Nat.le_of_ble_eq_true rfl)⟩ (va_recv hK hw.1 (ci := 1) (q0 := 14) rfl rfl) rfl rfl (Nat.le_of_ble_eq_true rfl) dX0_fine_21 [7, 8, 9, 10, 11, 12, 13, 14, 0, 1, 2, 3, 4, 5, 6] [] rfl rfl rfl rfl (by decide) ⟨(Nat.le_of_ble_eq_true rfl), (Nat.le_of_ble_eq_true rfl)⟩ (fun u H locs hp hw => ?_)
      have hw : Wd D A s [oH ha (Hfl hv) (Hro hv) (Hrp hv) (Hca hv) (Hwy hv) (Hla hv) (Hmi hv) (Htf hv) (Htk hv), aV d ha 1 (HHO hv), aV d ha 2 (HAT hv), aV d ha 3 (HTO hv), aV d ha 4 (HWE hv), aV d ha 5 (HHE hv), aV d ha 6 (HRA hv), oS sa ha ta gt gf gc tra gs, oH ta (Hfl q3) (Hro q3) (Hrp q3) (Hca q3) (Hwy q3) (Hla q3) (Hmi q3) (Htf q3) (Htk q3), aV d ta 1 (HHO q3), aV d ta 2 (HAT q3), aV d ta 3 (HTO q3), aV d ta 4 (HWE q3), aV d ta 5 (HHE q3), aV d ta 6 (HRA q3)] H locs := hw
      refine lv_pop hx hb dX0_fine_24 rfl ?_
      refine lv_aload_n hx hb dX0_fine_25 rfl (lv_at hl 0 rfl) ?_
      refine lv_iload_n hx hb dX0_fine_26 rfl (lv_at hl 1 rfl) ?_
      obtain ⟨q4, hcq4, hf⟩ := op_e hf
      refine x_VA (wr := [oH ha (Hfl hv) (Hro hv) (Hrp hv) (Hca hv) (Hwy hv) (Hla hv) (Hmi hv) (Htf hv) (Htk hv), aV d ha 1 (HHO hv), aV d ha 2 (HAT hv), aV d ha 3 (HTO hv), aV d ha 4 (HWE hv), aV d ha 5 (HHE hv), aV d ha 6 (HRA hv)]) (rest := []) [.int p1] hX cx hw hl.1 (mX0_goOn l  D d cs wi ln lf dk dn him ta sa ha q3 gt gf gc tra gs p1 q4 hcq4) (lw_V q936 q938 qs25 q82 q939) hd_X0_goOn ⟨(Nat.le_of_ble_eq_true rfl), (Nat.le_of_ble_eq_true rfl)⟩ (va_recv hK hw.1 (ci := 1) (q0 := 7) rfl rfl) rfl rfl (Nat.le_of_ble_eq_true rfl) dX0_fine_27 [7, 8, 9, 10, 11, 12, 13, 14] [0, 1, 2, 3, 4, 5, 6] rfl rfl rfl rfl (by decide) ⟨(Nat.le_of_ble_eq_true rfl), (Nat.le_of_ble_eq_true rfl)⟩ (fun u H locs hp hw => ?_)
      have hw : Wd D A s [oH ha (Hfl hv) (Hro hv) (Hrp hv) (Hca hv) (Hwy hv) (Hla hv) (Hmi hv) (Htf hv) (Htk hv), aV d ha 1 (HHO hv), aV d ha 2 (HAT hv), aV d ha 3 (HTO hv), aV d ha 4 (HWE hv), aV d ha 5 (HHE hv), aV d ha 6 (HRA hv), oS sa ha ta gt gf gc tra gs, oH ta (Hfl q4) (Hro q4) (Hrp q4) (Hca q4) (Hwy q4) (Hla q4) (Hmi q4) (Htf q4) (Htk q4), aV d ta 1 (HHO q4), aV d ta 2 (HAT q4), aV d ta 3 (HTO q4), aV d ta 4 (HWE q4), aV d ta 5 (HHE q4), aV d ta 6 (HRA q4)] H locs := hw
      obtain ⟨q5, hcq5, hf⟩ := op_e hf
      refine x_VI (wr := [oH ha (Hfl hv) (Hro hv) (Hrp hv) (Hca hv) (Hwy hv) (Hla hv) (Hmi hv) (Htf hv) (Htk hv), aV d ha 1 (HHO hv), aV d ha 2 (HAT hv), aV d ha 3 (HTO hv), aV d ha 4 (HWE hv), aV d ha 5 (HHE hv), aV d ha 6 (HRA hv), oS sa ha ta gt gf gc tra gs]) (rest := []) [] hX cx hw hl.1 (vX1_fine l  D d cs wi ln lf dk dn him ta q4 q5 hcq5) (lw_V q961 q962 q963 q83 q964) hd_X1_fine ⟨(Nat.le_of_ble_eq_true rfl), (Nat.le_of_ble_eq_true rfl)⟩ (va_recv hK hw.1 (ci := 2) (q0 := 8) rfl rfl) rfl rfl (Nat.le_of_ble_eq_true rfl) dX0_fine_30 [8, 9, 10, 11, 12, 13, 14] [0, 1, 2, 3, 4, 5, 6, 7] rfl rfl rfl rfl (by decide) ⟨(Nat.le_of_ble_eq_true rfl), (Nat.le_of_ble_eq_true rfl)⟩ (fun r u H locs hp hw => ?_)
      have hw : Wd D A s [oH ha (Hfl hv) (Hro hv) (Hrp hv) (Hca hv) (Hwy hv) (Hla hv) (Hmi hv) (Htf hv) (Htk hv), aV d ha 1 (HHO hv), aV d ha 2 (HAT hv), aV d ha 3 (HTO hv), aV d ha 4 (HWE hv), aV d ha 5 (HHE hv), aV d ha 6 (HRA hv), oS sa ha ta gt gf gc tra gs, oH ta (Hfl q4) (Hro q4) (Hrp q4) (Hca q4) (Hwy q4) (Hla q4) (Hmi q4) (Htf q4) (Htk q4), aV d ta 1 (HHO q4), aV d ta 2 (HAT q4), aV d ta 3 (HTO q4), aV d ta 4 (HWE q4), aV d ta 5 (HHE q4), aV d ta 6 (HRA q4)] H locs := hw
      subst r
      have hf := sm_e hf
      subst hf
      exact x_retI cx hw rfl () rfl [0, 1, 2, 3, 4, 5, 6, 7, 8, 9, 10, 11, 12, 13, 14] rfl rfl (Nat.le_of_ble_eq_true rfl) (Nat.le_of_ble_eq_true rfl) dX0_fine_33
    · have hf := if_t hf c14
      refine lv_ldc (v := (-1000001)) hx hb hown (hts _ q350) dX0_fine_17 ?_
      have hf := sm_e hf
      subst hf
      exact x_retI cx hw rfl () rfl [7, 8, 9, 10, 11, 12, 13, 14, 0, 1, 2, 3, 4, 5, 6] rfl rfl (Nat.le_of_ble_eq_true rfl) (Nat.le_of_ble_eq_true rfl) dX0_fine_19
  · have hf := if_t hf c4
    refine lv_ldc (v := (-1000002)) hx hb hown (hts _ q764) dX0_fine_7 ?_
    have hf := sm_e hf
    subst hf
    exact x_retI cx hw rfl () rfl [7, 8, 9, 10, 11, 12, 13, 14, 0, 1, 2, 3, 4, 5, 6] rfl rfl (Nat.le_of_ble_eq_true rfl) (Nat.le_of_ble_eq_true rfl) dX0_fine_9
theorem hd_X0_site : yX0_site.cls = "DishLift" ∧ yX0_site.cls ≠ "java/lang/invoke/MethodHandle" ∧ yX0_site.cls ≠ "java/lang/invoke/VarHandle" ∧ (parseMethodDescriptor yX0_site.desc).map (fun d => d.parameters.length) = some 2 := by decide +kernel
set_option maxHeartbeats 4000000 in
theorem mX0_site (l : Launch)  (D : va_G) (d : Nat → ClassId) (cs : Nat → Nat) (wi : va_W) (ln : Nat → Option Int32) (lf : Nat → Nat → Option Nat) (dk : Nat → Option Nat) (dn : Nat → Int32) (him : ImF d wi ln lf dk dn) (ha : Nat → Nat) (ta : Nat → Nat) (sa : Nat → Nat) (hv : HV) (tv : HV) (gt : Int32) (gf : Int32) (gc : Int32) (tra : Nat) (gs : Int32) (p1 : Int32) (p2 : Int32)  (res : Int32 × HV) (hf : fX0_site ln lf dk hv tv p1 p2 = some res) : MetI l yX0_site (ws_ yX0_site cX0_site 7 (some .int)) { frames := 7, cells := 0, slots := 0, locals := 205 } [.ref (sa 0), .int p1, .int p2] (XI D cs wi) D d [oH ha (Hfl hv) (Hro hv) (Hrp hv) (Hca hv) (Hwy hv) (Hla hv) (Hmi hv) (Htf hv) (Htk hv), aV d ha 1 (HHO hv), aV d ha 2 (HAT hv), aV d ha 3 (HTO hv), aV d ha 4 (HWE hv), aV d ha 5 (HHE hv), aV d ha 6 (HRA hv), oS sa ha ta gt gf gc tra gs, oH ta (Hfl tv) (Hro tv) (Hrp tv) (Hca tv) (Hwy tv) (Hla tv) (Hmi tv) (Htf tv) (Htk tv), aV d ta 1 (HHO tv), aV d ta 2 (HAT tv), aV d ta 3 (HTO tv), aV d ta 4 (HWE tv), aV d ta 5 (HHE tv), aV d ta 6 (HRA tv)] (fun r (_ : Unit) => r = res.1) (fun _ => [oH ha (Hfl hv) (Hro hv) (Hrp hv) (Hca hv) (Hwy hv) (Hla hv) (Hmi hv) (Htf hv) (Htk hv), aV d ha 1 (HHO hv), aV d ha 2 (HAT hv), aV d ha 3 (HTO hv), aV d ha 4 (HWE hv), aV d ha 5 (HHE hv), aV d ha 6 (HRA hv), oS sa ha ta gt gf gc tra gs, oH ta (Hfl res.2) (Hro res.2) (Hrp res.2) (Hca res.2) (Hwy res.2) (Hla res.2) (Hmi res.2) (Htf res.2) (Htk res.2), aV d ta 1 (HHO res.2), aV d ta 2 (HAT res.2), aV d ta 3 (HTO res.2), aV d ta 4 (HWE res.2), aV d ta 5 (HHE res.2), aV d ta 6 (HRA res.2)]) := by
  have hX := XI.ok (D := D) (cs := cs) (wi := wi)
  refine MetI.of (by decide +kernel) (Nat.le_of_ble_eq_true rfl) ?_
  intro p e s m below meth c A cx hw ls hl
  have cx : Cx p s m _ meth c (XI D cs wi) D d A "DishLift" cX0_site 7 (some .int) "site" := cx
  have cx' := cx
  obtain ⟨hx, hb, hr, hlk, hml, hown, hts, hK, hA, hXs, hnm⟩ := cx'
  have hl : lv_has ls 7 [(0, .ref (sa 0)), (1, .int p1), (2, .int p2)] := hl
  unfold fX0_site at hf
  refine lv_aload_n hx hb dX0_site_0 rfl (lv_at hl 0 rfl) ?_
  obtain ⟨q1, hcq1, hf⟩ := op_e hf
  refine x_VI (wr := [oH ta (Hfl tv) (Hro tv) (Hrp tv) (Hca tv) (Hwy tv) (Hla tv) (Hmi tv) (Htf tv) (Htk tv), aV d ta 1 (HHO tv), aV d ta 2 (HAT tv), aV d ta 3 (HTO tv), aV d ta 4 (HWE tv), aV d ta 5 (HHE tv), aV d ta 6 (HRA tv)]) (rest := []) [] hX cx hw hl.1 (mX0_isHouse l  D d cs wi ln lf dk dn him ha sa ta hv gt gf gc tra gs q1 hcq1) (lw_V q769 q771 qs17 q82 q772) hd_X0_isHouse ⟨(Nat.le_of_ble_eq_true rfl), (Nat.le_of_ble_eq_true rfl)⟩ (va_recv hK hw.1 (ci := 1) (q0 := 7) rfl rfl) rfl rfl (Nat.le_of_ble_eq_true rfl) dX0_site_1 [0, 1, 2, 3, 4, 5, 6, 7] [8, 9, 10, 11, 12, 13, 14] rfl rfl rfl rfl (by decide) ⟨(Nat.le_of_ble_eq_true rfl), (Nat.le_of_ble_eq_true rfl)⟩ (fun r u H locs hp hw => ?_)
  have hw : Wd D A s [oH ta (Hfl tv) (Hro tv) (Hrp tv) (Hca tv) (Hwy tv) (Hla tv) (Hmi tv) (Htf tv) (Htk tv), aV d ta 1 (HHO tv), aV d ta 2 (HAT tv), aV d ta 3 (HTO tv), aV d ta 4 (HWE tv), aV d ta 5 (HHE tv), aV d ta 6 (HRA tv), oH ha (Hfl hv) (Hro hv) (Hrp hv) (Hca hv) (Hwy hv) (Hla hv) (Hmi hv) (Htf hv) (Htk hv), aV d ha 1 (HHO hv), aV d ha 2 (HAT hv), aV d ha 3 (HTO hv), aV d ha 4 (HWE hv), aV d ha 5 (HHE hv), aV d ha 6 (HRA hv), oS sa ha ta gt gf gc tra gs] H locs := hw
  subst r
  refine lv_if_ne (tgt := 10) hx hb dX0_site_4 (by decide) (fun c4 => ?_) (fun c4 => ?_)
  · have hf := if_f hf c4
    refine lv_iload_n hx hb dX0_site_10 rfl (lv_at hl 1 rfl) ?_
    obtain ⟨q2, hcq2, hf⟩ := op_e hf
    refine x_SI (wr := [oH ta (Hfl tv) (Hro tv) (Hrp tv) (Hca tv) (Hwy tv) (Hla tv) (Hmi tv) (Htf tv) (Htk tv), aV d ta 1 (HHO tv), aV d ta 2 (HAT tv), aV d ta 3 (HTO tv), aV d ta 4 (HWE tv), aV d ta 5 (HHE tv), aV d ta 6 (HRA tv), oH ha (Hfl hv) (Hro hv) (Hrp hv) (Hca hv) (Hwy hv) (Hla hv) (Hmi hv) (Htf hv) (Htk hv), aV d ha 1 (HHO hv), aV d ha 2 (HAT hv), aV d ha 3 (HTO hv), aV d ha 4 (HWE hv), aV d ha 5 (HHE hv), aV d ha 6 (HRA hv), oS sa ha ta gt gf gc tra gs]) (rest := []) [.int p1] hX cx hw hl.1 (mX0_isNear l (XI D cs wi) hX D d  p1 q2 hcq2) (lw_S q970 q971 q82 q972) hd_X0_isNear ⟨(Nat.le_of_ble_eq_true rfl), (Nat.le_of_ble_eq_true rfl)⟩ rfl rfl (Nat.le_of_ble_eq_true rfl) dX0_site_11 [] [0, 1, 2, 3, 4, 5, 6, 7, 8, 9, 10, 11, 12, 13, 14] rfl rfl rfl rfl (by decide) ⟨(Nat.le_of_ble_eq_true rfl), (Nat.le_of_ble_eq_true rfl)⟩ (fun r u H locs hp hw => ?_)
    have hw : Wd D A s [oH ta (Hfl tv) (Hro tv) (Hrp tv) (Hca tv) (Hwy tv) (Hla tv) (Hmi tv) (Htf tv) (Htk tv), aV d ta 1 (HHO tv), aV d ta 2 (HAT tv), aV d ta 3 (HTO tv), aV d ta 4 (HWE tv), aV d ta 5 (HHE tv), aV d ta 6 (HRA tv), oH ha (Hfl hv) (Hro hv) (Hrp hv) (Hca hv) (Hwy hv) (Hla hv) (Hmi hv) (Htf hv) (Htk hv), aV d ha 1 (HHO hv), aV d ha 2 (HAT hv), aV d ha 3 (HTO hv), aV d ha 4 (HWE hv), aV d ha 5 (HHE hv), aV d ha 6 (HRA hv), oS sa ha ta gt gf gc tra gs] H locs := hw
    subst r
    refine lv_if_eq (tgt := 24) hx hb dX0_site_14 (by decide) (fun c14 => ?_) (fun c14 => ?_)
    · have hf := if_t hf c14
      refine lv_ldc (v := (-1000001)) hx hb hown (hts _ q350) dX0_site_24 ?_
      have hf := sm_e hf
      subst hf
      exact x_retI cx hw rfl () rfl [7, 8, 9, 10, 11, 12, 13, 14, 0, 1, 2, 3, 4, 5, 6] rfl rfl (Nat.le_of_ble_eq_true rfl) (Nat.le_of_ble_eq_true rfl) dX0_site_26
    · have hf := if_f hf c14
      refine lv_iload_n hx hb dX0_site_17 rfl (lv_at hl 2 rfl) ?_
      obtain ⟨q3, hcq3, hf⟩ := op_e hf
      refine x_SI (wr := [oH ta (Hfl tv) (Hro tv) (Hrp tv) (Hca tv) (Hwy tv) (Hla tv) (Hmi tv) (Htf tv) (Htk tv), aV d ta 1 (HHO tv), aV d ta 2 (HAT tv), aV d ta 3 (HTO tv), aV d ta 4 (HWE tv), aV d ta 5 (HHE tv), aV d ta 6 (HRA tv), oH ha (Hfl hv) (Hro hv) (Hrp hv) (Hca hv) (Hwy hv) (Hla hv) (Hmi hv) (Htf hv) (Htk hv), aV d ha 1 (HHO hv), aV d ha 2 (HAT hv), aV d ha 3 (HTO hv), aV d ha 4 (HWE hv), aV d ha 5 (HHE hv), aV d ha 6 (HRA hv), oS sa ha ta gt gf gc tra gs]) (rest := []) [.int p2] hX cx hw hl.1 (mX0_isHalf l (XI D cs wi) hX D d  p2 q3 hcq3) (lw_S q973 q974 q82 q975) hd_X0_isHalf ⟨(Nat.le_of_ble_eq_true rfl), (Nat.le_of_ble_eq_true rfl)⟩ rfl rfl (Nat.le_of_ble_eq_true rfl) dX0_site_18 [] [0, 1, 2, 3, 4, 5, 6, 7, 8, 9, 10, 11, 12, 13, 14] rfl rfl rfl rfl (by decide) ⟨(Nat.le_of_ble_eq_true rfl), (Nat.le_of_ble_eq_true rfl)⟩ (fun r u H locs hp hw => ?_)
      have hw : Wd D A s [oH ta (Hfl tv) (Hro tv) (Hrp tv) (Hca tv) (Hwy tv) (Hla tv) (Hmi tv) (Htf tv) (Htk tv), aV d ta 1 (HHO tv), aV d ta 2 (HAT tv), aV d ta 3 (HTO tv), aV d ta 4 (HWE tv), aV d ta 5 (HHE tv), aV d ta 6 (HRA tv), oH ha (Hfl hv) (Hro hv) (Hrp hv) (Hca hv) (Hwy hv) (Hla hv) (Hmi hv) (Htf hv) (Htk hv), aV d ha 1 (HHO hv), aV d ha 2 (HAT hv), aV d ha 3 (HTO hv), aV d ha 4 (HWE hv), aV d ha 5 (HHE hv), aV d ha 6 (HRA hv), oS sa ha ta gt gf gc tra gs] H locs := hw
      subst r
      refine lv_if_ne (tgt := 27) hx hb dX0_site_21 (by decide) (fun c21 => ?_) (fun c21 => ?_)
      · have hf := if_f hf c21
        refine lv_iconst (v := 0) hx hb dX0_site_27 (by decide) ?_
        refine lv_istore_n (lv' := [(3, .int 0), (0, .ref (sa 0)), (1, .int p1), (2, .int p2)]) hx hb dX0_site_28 rfl hl (by decide) rfl (fun ls hl => ?_)
        refine lv_iconst (v := (-1)) hx hb dX0_site_29 (by decide) ?_
        refine lv_istore (lv' := [(4, .int (-1)), (3, .int 0), (0, .ref (sa 0)), (1, .int p1), (2, .int p2)]) hx hb dX0_site_30 hl (by decide) rfl (fun ls hl => ?_)
        refine lv_iconst (v := 0) hx hb dX0_site_32 (by decide) ?_
        refine lv_istore (lv' := [(5, .int 0), (4, .int (-1)), (3, .int 0), (0, .ref (sa 0)), (1, .int p1), (2, .int p2)]) hx hb dX0_site_33 hl (by decide) rfl (fun ls hl => ?_)
        obtain ⟨r4, hlp35, hf⟩ := op_e hf
        refine x_join (A := A) (D := D) (J := 98) (nL := 7) (cells' := 0) (slots' := 0) (st := []) [oH ha (Hfl hv) (Hro hv) (Hrp hv) (Hca hv) (Hwy hv) (Hla hv) (Hmi hv) (Htf hv) (Htk hv), aV d ha 1 (HHO hv), aV d ha 2 (HAT hv), aV d ha 3 (HTO hv), aV d ha 4 (HWE hv), aV d ha 5 (HHE hv), aV d ha 6 (HRA hv), oS sa ha ta gt gf gc tra gs, oH ta (Hfl r4.2.2) (Hro r4.2.2) (Hrp r4.2.2) (Hca r4.2.2) (Hwy r4.2.2) (Hla r4.2.2) (Hmi r4.2.2) (Htf r4.2.2) (Htk r4.2.2), aV d ta 1 (HHO r4.2.2), aV d ta 2 (HAT r4.2.2), aV d ta 3 (HTO r4.2.2), aV d ta 4 (HWE r4.2.2), aV d ta 5 (HHE r4.2.2), aV d ta 6 (HRA r4.2.2)] [(2, .int p2), (3, .int r4.1), (4, .int r4.2.1)] (fun H locs ls hw hl => ?_) (fun hK35 => ?_)
        · refine lv_iload_n hx hb dX0_site_98 rfl (lv_at hl 0 rfl) ?_
          refine lv_if_ne (tgt := 106) hx hb dX0_site_99 (by decide) (fun c99 => ?_) (fun c99 => ?_)
          · have hf := if_f hf c99
            refine lv_iload hx hb dX0_site_106 (lv_at hl 2 rfl) ?_
            have hf := sm_e hf
            subst hf
            exact x_retI cx hw rfl () rfl [0, 1, 2, 3, 4, 5, 6, 7, 8, 9, 10, 11, 12, 13, 14] rfl rfl (Nat.le_of_ble_eq_true rfl) (Nat.le_of_ble_eq_true rfl) dX0_site_108
          · have hf := if_t hf c99
            refine lv_iload_n hx hb dX0_site_102 rfl (lv_at hl 1 rfl) ?_
            refine lv_goto (tgt := 108) hx hb dX0_site_103 (by decide) ?_
            have hf := sm_e hf
            subst hf
            exact x_retI cx hw rfl () rfl [0, 1, 2, 3, 4, 5, 6, 7, 8, 9, 10, 11, 12, 13, 14] rfl rfl (Nat.le_of_ble_eq_true rfl) (Nat.le_of_ble_eq_true rfl) dX0_site_108
        · refine x_lp hlp35 (fun x35 => [oH ha (Hfl hv) (Hro hv) (Hrp hv) (Hca hv) (Hwy hv) (Hla hv) (Hmi hv) (Htf hv) (Htk hv), aV d ha 1 (HHO hv), aV d ha 2 (HAT hv), aV d ha 3 (HTO hv), aV d ha 4 (HWE hv), aV d ha 5 (HHE hv), aV d ha 6 (HRA hv), oS sa ha ta gt gf gc tra gs, oH ta (Hfl x35.2.2.2) (Hro x35.2.2.2) (Hrp x35.2.2.2) (Hca x35.2.2.2) (Hwy x35.2.2.2) (Hla x35.2.2.2) (Hmi x35.2.2.2) (Htf x35.2.2.2) (Htk x35.2.2.2), aV d ta 1 (HHO x35.2.2.2), aV d ta 2 (HAT x35.2.2.2), aV d ta 3 (HTO x35.2.2.2), aV d ta 4 (HWE x35.2.2.2), aV d ta 5 (HHE x35.2.2.2), aV d ta 6 (HRA x35.2.2.2)]) (fun x35 => [(0, .ref (sa 0)), (1, .int p1), (2, .int p2), (3, .int x35.1), (4, .int x35.2.1), (5, .int x35.2.2.1)]) (hw.sub [7, 8, 9, 10, 11, 12, 13, 14, 0, 1, 2, 3, 4, 5, 6] rfl rfl) (lv_sub hl [3, 4, 5, 2, 1, 0] rfl) (fun x35 y35 hf hin35 hout35 H locs ls hw hl => ?_)
          have hw : Wd D A s [oH ha (Hfl hv) (Hro hv) (Hrp hv) (Hca hv) (Hwy hv) (Hla hv) (Hmi hv) (Htf hv) (Htk hv), aV d ha 1 (HHO hv), aV d ha 2 (HAT hv), aV d ha 3 (HTO hv), aV d ha 4 (HWE hv), aV d ha 5 (HHE hv), aV d ha 6 (HRA hv), oS sa ha ta gt gf gc tra gs, oH ta (Hfl x35.2.2.2) (Hro x35.2.2.2) (Hrp x35.2.2.2) (Hca x35.2.2.2) (Hwy x35.2.2.2) (Hla x35.2.2.2) (Hmi x35.2.2.2) (Htf x35.2.2.2) (Htk x35.2.2.2), aV d ta 1 (HHO x35.2.2.2), aV d ta 2 (HAT x35.2.2.2), aV d ta 3 (HTO x35.2.2.2), aV d ta 4 (HWE x35.2.2.2), aV d ta 5 (HHE x35.2.2.2), aV d ta 6 (HRA x35.2.2.2)] H locs := hw
          have hl : lv_has ls 7 [(0, .ref (sa 0)), (1, .int p1), (2, .int p2), (3, .int x35.1), (4, .int x35.2.1), (5, .int x35.2.2.1)] := hl
          refine lv_iload hx hb dX0_site_35 (lv_at hl 5 rfl) ?_
          refine lv_aload_n hx hb dX0_site_37 rfl (lv_at hl 0 rfl) ?_
          refine va_get (ci := 1) (C := RX0) (T := TX0) (N := 14) hx hb hts in_X0 hown hK hw.1 7 rfl rfl 4 (by decide) (hts _ q298) (fun _ h9 => h9) rfl dX0_site_38 ?_
          refine va_get (ci := 2) (C := RX1) (T := TX1) (N := 15) hx hb hts in_X1 hown hK hw.1 0 rfl rfl 0 (by decide) (hts _ q161) (fun _ h9 => h9) rfl dX0_site_41 ?_
          refine lv_icmp_ge (tgt := 98) hx hb dX0_site_44 (by decide) (fun c44 => ?_) (fun c44 => ?_)
          · have hf := if_t hf c44
            have hf := sm_e hf
            subst hf
            have hz := hout35 _ rfl
            subst hz
            exact hK35 _ _ _ hw (lv_sub hl [2, 3, 4] rfl)
          · have hf := if_f hf c44
            refine lv_aload_n hx hb dX0_site_47 rfl (lv_at hl 0 rfl) ?_
            obtain ⟨q5, hcq5, hf⟩ := op_e hf
            refine x_VA (wr := []) (rest := []) [] hX cx hw hl.1 (mX0_tried l  D d cs wi ln lf dk dn him ha ta sa hv x35.2.2.2 gt gf gc tra gs q5 hcq5) (lw_V q932 q934 qs24 q82 q935) hd_X0_tried ⟨(Nat.le_of_ble_eq_true rfl), (Nat.le_of_ble_eq_true rfl)⟩ (va_recv hK hw.1 (ci := 1) (q0 := 7) rfl rfl) rfl rfl (Nat.le_of_ble_eq_true rfl) dX0_site_48 [0, 1, 2, 3, 4, 5, 6, 7, 8, 9, 10, 11, 12, 13, 14] [] rfl rfl rfl rfl (by decide) ⟨(Nat.le_of_ble_eq_true rfl), (Nat.le_of_ble_eq_true rfl)⟩ (fun u H locs hp hw => ?_)
            have hw : Wd D A s [oH ha (Hfl hv) (Hro hv) (Hrp hv) (Hca hv) (Hwy hv) (Hla hv) (Hmi hv) (Htf hv) (Htk hv), aV d ha 1 (HHO hv), aV d ha 2 (HAT hv), aV d ha 3 (HTO hv), aV d ha 4 (HWE hv), aV d ha 5 (HHE hv), aV d ha 6 (HRA hv), oS sa ha ta gt gf gc tra gs, oH ta (Hfl q5) (Hro q5) (Hrp q5) (Hca q5) (Hwy q5) (Hla q5) (Hmi q5) (Htf q5) (Htk q5), aV d ta 1 (HHO q5), aV d ta 2 (HAT q5), aV d ta 3 (HTO q5), aV d ta 4 (HWE q5), aV d ta 5 (HHE q5), aV d ta 6 (HRA q5)] H locs := hw
            refine lv_iload hx hb dX0_site_51 (lv_at hl 5 rfl) ?_
            refine va_put (ci := 2) (v := .int x35.2.2.1) (ty := .int) (C := RX1) (T := TX1) (N := 15) hx hb hts in_X1 tyX1 tyX1_ok nmX1 hown hK hw.1 hw.2.1 hw.2.2 8 rfl rfl 3 (by decide) (hts _ q169) (fun _ h9 => h9) rfl (by decide +kernel) rfl rfl (Nat.le_of_ble_eq_true rfl) dX0_site_53 (fun H locs hP hD hS => ?_)
            have hw : Wd D A s [oH ha (Hfl hv) (Hro hv) (Hrp hv) (Hca hv) (Hwy hv) (Hla hv) (Hmi hv) (Htf hv) (Htk hv), aV d ha 1 (HHO hv), aV d ha 2 (HAT hv), aV d ha 3 (HTO hv), aV d ha 4 (HWE hv), aV d ha 5 (HHE hv), aV d ha 6 (HRA hv), oS sa ha ta gt gf gc tra gs, oH ta (Hfl q5) (Hro q5) (Hrp q5) x35.2.2.1 (Hwy q5) (Hla q5) (Hmi q5) (Htf q5) (Htk q5), aV d ta 1 (HHO q5), aV d ta 2 (HAT q5), aV d ta 3 (HTO q5), aV d ta 4 (HWE q5), aV d ta 5 (HHE q5), aV d ta 6 (HRA q5)] H locs := ⟨hP, hD, hS⟩
            obtain ⟨b6, hb0, hf⟩ := op_e hf
            obtain ⟨e0, e1, e2, e3, e4, e5, e6, e7, e8, e9, e10, e11, e12, e13, e14⟩ := acca (sm_e hb0)
            have hw : Wd D A s [oH ha (Hfl hv) (Hro hv) (Hrp hv) (Hca hv) (Hwy hv) (Hla hv) (Hmi hv) (Htf hv) (Htk hv), aV d ha 1 (HHO hv), aV d ha 2 (HAT hv), aV d ha 3 (HTO hv), aV d ha 4 (HWE hv), aV d ha 5 (HHE hv), aV d ha 6 (HRA hv), oS sa ha ta gt gf gc tra gs, oH ta (Hfl b6) (Hro b6) (Hrp b6) (Hca b6) (Hwy b6) (Hla b6) (Hmi b6) (Htf b6) (Htk b6), aV d ta 1 (HHO b6), aV d ta 2 (HAT b6), aV d ta 3 (HTO b6), aV d ta 4 (HWE b6), aV d ta 5 (HHE b6), aV d ta 6 (HRA b6)] H locs := by rw [e0, e1, e2, e3, e4, e5, e6, e7, e8, e9, e10, e11, e12, e13, e14]; exact hw
            refine lv_aload_n hx hb dX0_site_56 rfl (lv_at hl 0 rfl) ?_
            refine lv_iload_n hx hb dX0_site_57 rfl (lv_at hl 1 rfl) ?_
            obtain ⟨q7, hcq7, hf⟩ := op_e hf
            refine x_VA (wr := [oH ha (Hfl hv) (Hro hv) (Hrp hv) (Hca hv) (Hwy hv) (Hla hv) (Hmi hv) (Htf hv) (Htk hv), aV d ha 1 (HHO hv), aV d ha 2 (HAT hv), aV d ha 3 (HTO hv), aV d ha 4 (HWE hv), aV d ha 5 (HHE hv), aV d ha 6 (HRA hv)]) (rest := []) [.int p1] hX cx hw hl.1 (mX0_goOn l  D d cs wi ln lf dk dn him ta sa ha b6 gt gf gc tra gs p1 q7 hcq7) (lw_V q936 q938 qs25 q82 q939) hd_X0_goOn ⟨(Nat.le_of_ble_eq_true rfl), (Nat.le_of_ble_eq_true rfl)⟩ (va_recv hK hw.1 (ci := 1) (q0 := 7) rfl rfl) rfl rfl (Nat.le_of_ble_eq_true rfl) dX0_site_58 [7, 8, 9, 10, 11, 12, 13, 14] [0, 1, 2, 3, 4, 5, 6] rfl rfl rfl rfl (by decide) ⟨(Nat.le_of_ble_eq_true rfl), (Nat.le_of_ble_eq_true rfl)⟩ (fun u H locs hp hw => ?_)
            have hw : Wd D A s [oH ha (Hfl hv) (Hro hv) (Hrp hv) (Hca hv) (Hwy hv) (Hla hv) (Hmi hv) (Htf hv) (Htk hv), aV d ha 1 (HHO hv), aV d ha 2 (HAT hv), aV d ha 3 (HTO hv), aV d ha 4 (HWE hv), aV d ha 5 (HHE hv), aV d ha 6 (HRA hv), oS sa ha ta gt gf gc tra gs, oH ta (Hfl q7) (Hro q7) (Hrp q7) (Hca q7) (Hwy q7) (Hla q7) (Hmi q7) (Htf q7) (Htk q7), aV d ta 1 (HHO q7), aV d ta 2 (HAT q7), aV d ta 3 (HTO q7), aV d ta 4 (HWE q7), aV d ta 5 (HHE q7), aV d ta 6 (HRA q7)] H locs := hw
            obtain ⟨q8, hcq8, hf⟩ := op_e hf
            refine x_VI (wr := [oH ha (Hfl hv) (Hro hv) (Hrp hv) (Hca hv) (Hwy hv) (Hla hv) (Hmi hv) (Htf hv) (Htk hv), aV d ha 1 (HHO hv), aV d ha 2 (HAT hv), aV d ha 3 (HTO hv), aV d ha 4 (HWE hv), aV d ha 5 (HHE hv), aV d ha 6 (HRA hv), oS sa ha ta gt gf gc tra gs]) (rest := []) [] hX cx hw hl.1 (vX1_fine l  D d cs wi ln lf dk dn him ta q7 q8 hcq8) (lw_V q961 q962 q963 q83 q964) hd_X1_fine ⟨(Nat.le_of_ble_eq_true rfl), (Nat.le_of_ble_eq_true rfl)⟩ (va_recv hK hw.1 (ci := 2) (q0 := 8) rfl rfl) rfl rfl (Nat.le_of_ble_eq_true rfl) dX0_site_61 [8, 9, 10, 11, 12, 13, 14] [0, 1, 2, 3, 4, 5, 6, 7] rfl rfl rfl rfl (by decide) ⟨(Nat.le_of_ble_eq_true rfl), (Nat.le_of_ble_eq_true rfl)⟩ (fun r u H locs hp hw => ?_)
            have hw : Wd D A s [oH ha (Hfl hv) (Hro hv) (Hrp hv) (Hca hv) (Hwy hv) (Hla hv) (Hmi hv) (Htf hv) (Htk hv), aV d ha 1 (HHO hv), aV d ha 2 (HAT hv), aV d ha 3 (HTO hv), aV d ha 4 (HWE hv), aV d ha 5 (HHE hv), aV d ha 6 (HRA hv), oS sa ha ta gt gf gc tra gs, oH ta (Hfl q7) (Hro q7) (Hrp q7) (Hca q7) (Hwy q7) (Hla q7) (Hmi q7) (Htf q7) (Htk q7), aV d ta 1 (HHO q7), aV d ta 2 (HAT q7), aV d ta 3 (HTO q7), aV d ta 4 (HWE q7), aV d ta 5 (HHE q7), aV d ta 6 (HRA q7)] H locs := hw
            subst r
            obtain ⟨q9, hcq9, hf⟩ := op_e hf
            refine x_SI (wr := [oH ha (Hfl hv) (Hro hv) (Hrp hv) (Hca hv) (Hwy hv) (Hla hv) (Hmi hv) (Htf hv) (Htk hv), aV d ha 1 (HHO hv), aV d ha 2 (HAT hv), aV d ha 3 (HTO hv), aV d ha 4 (HWE hv), aV d ha 5 (HHE hv), aV d ha 6 (HRA hv), oS sa ha ta gt gf gc tra gs, oH ta (Hfl q7) (Hro q7) (Hrp q7) (Hca q7) (Hwy q7) (Hla q7) (Hmi q7) (Htf q7) (Htk q7), aV d ta 1 (HHO q7), aV d ta 2 (HAT q7), aV d ta 3 (HTO q7), aV d ta 4 (HWE q7), aV d ta 5 (HHE q7), aV d ta 6 (HRA q7)]) (rest := []) [.int q8] hX cx hw hl.1 (mJ15_bitCount l (XI D cs wi) hX D d  q8 q9 hcq9) (lw_S q976 q792 q112 q793) hd_J15_bitCount ⟨(Nat.le_of_ble_eq_true rfl), (Nat.le_of_ble_eq_true rfl)⟩ rfl rfl (Nat.le_of_ble_eq_true rfl) dX0_site_64 [] [0, 1, 2, 3, 4, 5, 6, 7, 8, 9, 10, 11, 12, 13, 14] rfl rfl rfl rfl (by decide) ⟨(Nat.le_of_ble_eq_true rfl), (Nat.le_of_ble_eq_true rfl)⟩ (fun r u H locs hp hw => ?_)
            have hw : Wd D A s [oH ha (Hfl hv) (Hro hv) (Hrp hv) (Hca hv) (Hwy hv) (Hla hv) (Hmi hv) (Htf hv) (Htk hv), aV d ha 1 (HHO hv), aV d ha 2 (HAT hv), aV d ha 3 (HTO hv), aV d ha 4 (HWE hv), aV d ha 5 (HHE hv), aV d ha 6 (HRA hv), oS sa ha ta gt gf gc tra gs, oH ta (Hfl q7) (Hro q7) (Hrp q7) (Hca q7) (Hwy q7) (Hla q7) (Hmi q7) (Htf q7) (Htk q7), aV d ta 1 (HHO q7), aV d ta 2 (HAT q7), aV d ta 3 (HTO q7), aV d ta 4 (HWE q7), aV d ta 5 (HHE q7), aV d ta 6 (HRA q7)] H locs := hw
            subst r
            refine lv_istore (lv' := [(6, .int q9), (0, .ref (sa 0)), (1, .int p1), (2, .int p2), (3, .int x35.1), (4, .int x35.2.1), (5, .int x35.2.2.1)]) hx hb dX0_site_67 hl (by decide) rfl (fun ls hl => ?_)
            refine lv_iload hx hb dX0_site_69 (lv_at hl 0 rfl) ?_
            refine lv_iload hx hb dX0_site_71 (lv_at hl 5 rfl) ?_
            obtain ⟨j10, hjA, hjR⟩ := op_e hf
            refine x_join (A := A) (D := D) (J := 82) (nL := 7) (cells' := 0) (slots' := 0) (st := [.int j10]) [oH ha (Hfl hv) (Hro hv) (Hrp hv) (Hca hv) (Hwy hv) (Hla hv) (Hmi hv) (Htf hv) (Htk hv), aV d ha 1 (HHO hv), aV d ha 2 (HAT hv), aV d ha 3 (HTO hv), aV d ha 4 (HWE hv), aV d ha 5 (HHE hv), aV d ha 6 (HRA hv), oS sa ha ta gt gf gc tra gs, oH ta (Hfl q7) (Hro q7) (Hrp q7) (Hca q7) (Hwy q7) (Hla q7) (Hmi q7) (Htf q7) (Htk q7), aV d ta 1 (HHO q7), aV d ta 2 (HAT q7), aV d ta 3 (HTO q7), aV d ta 4 (HWE q7), aV d ta 5 (HHE q7), aV d ta 6 (HRA q7)] [(0, .ref (sa 0)), (1, .int p1), (2, .int p2), (4, .int x35.2.1), (5, .int x35.2.2.1), (6, .int q9)] (fun H locs ls hw hl => ?_) (fun hKj82_j10 => ?_)
            · have hf := hjR
              refine lv_istore_n (lv' := [(3, .int j10), (0, .ref (sa 0)), (1, .int p1), (2, .int p2), (4, .int x35.2.1), (5, .int x35.2.2.1), (6, .int q9)]) hx hb dX0_site_82 rfl hl (by decide) rfl (fun ls hl => ?_)
              refine lv_iload hx hb dX0_site_83 (lv_at hl 4 rfl) ?_
              refine lv_iload hx hb dX0_site_85 (lv_at hl 6 rfl) ?_
              refine va_mmax hx hb (hml.trans hl.1.symm) hown (hts _ q977) (hts _ q708) (hts _ q110) (hts _ q709) (Nat.le_of_ble_eq_true rfl) (Nat.le_of_ble_eq_true rfl) (Nat.le_of_ble_eq_true rfl) (Nat.le_of_ble_eq_true rfl) dX0_site_87 ?_
              refine lv_istore (lv' := [(4, .int (if x35.2.1 < q9 then q9 else x35.2.1)), (3, .int j10), (0, .ref (sa 0)), (1, .int p1), (2, .int p2), (5, .int x35.2.2.1), (6, .int q9)]) hx hb dX0_site_90 hl (by decide) rfl (fun ls hl => ?_)
              refine lv_iinc (v := (x35.2.2.1 + 1)) (lv' := [(5, .int (x35.2.2.1 + 1)), (4, .int (if x35.2.1 < q9 then q9 else x35.2.1)), (3, .int j10), (0, .ref (sa 0)), (1, .int p1), (2, .int p2), (6, .int q9)]) hx hb dX0_site_92 hl (k := 5) rfl (by first | rfl | decide) (by decide) rfl (fun ls hl => ?_)
              refine lv_goto (tgt := 35) hx hb dX0_site_95 (by decide) ?_
              have hf := sm_e hf
              subst hf
              exact hin35 _ rfl _ _ _ hw (lv_sub hl [3, 4, 5, 2, 1, 0] rfl)
            · have hf := hjA
              refine lv_icmp_le (tgt := 81) hx hb dX0_site_73 (by decide) (fun c73 => ?_) (fun c73 => ?_)
              · have hf := if_t hf c73
                refine lv_iload_n hx hb dX0_site_81 rfl (lv_at hl 4 rfl) ?_
                have hf := sm_e hf
                subst hf
                exact hKj82_j10 _ _ _ hw (lv_sub hl [1, 2, 3, 5, 6, 0] rfl)
              · have hf := if_f hf c73
                refine lv_iload hx hb dX0_site_76 (lv_at hl 6 rfl) ?_
                refine lv_goto (tgt := 82) hx hb dX0_site_78 (by decide) ?_
                have hf := sm_e hf
                subst hf
                exact hKj82_j10 _ _ _ hw (lv_sub hl [1, 2, 3, 5, 6, 0] rfl)
      · have hf := if_t hf c21
        refine lv_ldc (v := (-1000001)) hx hb hown (hts _ q350) dX0_site_24 ?_
        have hf := sm_e hf
        subst hf
        exact x_retI cx hw rfl () rfl [7, 8, 9, 10, 11, 12, 13, 14, 0, 1, 2, 3, 4, 5, 6] rfl rfl (Nat.le_of_ble_eq_true rfl) (Nat.le_of_ble_eq_true rfl) dX0_site_26
  · have hf := if_t hf c4
    refine lv_ldc (v := (-1000002)) hx hb hown (hts _ q764) dX0_site_7 ?_
    have hf := sm_e hf
    subst hf
    exact x_retI cx hw rfl () rfl [7, 8, 9, 10, 11, 12, 13, 14, 0, 1, 2, 3, 4, 5, 6] rfl rfl (Nat.le_of_ble_eq_true rfl) (Nat.le_of_ble_eq_true rfl) dX0_site_9
theorem hd_X0_need : yX0_need.cls = "DishLift" ∧ yX0_need.cls ≠ "java/lang/invoke/MethodHandle" ∧ yX0_need.cls ≠ "java/lang/invoke/VarHandle" ∧ (parseMethodDescriptor yX0_need.desc).map (fun d => d.parameters.length) = some 2 := by decide +kernel
set_option maxHeartbeats 4000000 in
theorem mX0_need (l : Launch)  (D : va_G) (d : Nat → ClassId) (cs : Nat → Nat) (wi : va_W) (ln : Nat → Option Int32) (lf : Nat → Nat → Option Nat) (dk : Nat → Option Nat) (dn : Nat → Int32) (him : ImF d wi ln lf dk dn) (ha : Nat → Nat) (ta : Nat → Nat) (sa : Nat → Nat) (hv : HV) (tv : HV) (gt : Int32) (gf : Int32) (gc : Int32) (tra : Nat) (gs : Int32) (p1 : Int32) (p2 : Int32)  (res : Int32 × HV) (hf : fX0_need ln lf dk hv tv p1 p2 = some res) : MetI l yX0_need (ws_ yX0_need cX0_need 4 (some .int)) { frames := 7, cells := 0, slots := 0, locals := 205 } [.ref (sa 0), .int p1, .int p2] (XI D cs wi) D d [oH ha (Hfl hv) (Hro hv) (Hrp hv) (Hca hv) (Hwy hv) (Hla hv) (Hmi hv) (Htf hv) (Htk hv), aV d ha 1 (HHO hv), aV d ha 2 (HAT hv), aV d ha 3 (HTO hv), aV d ha 4 (HWE hv), aV d ha 5 (HHE hv), aV d ha 6 (HRA hv), oS sa ha ta gt gf gc tra gs, oH ta (Hfl tv) (Hro tv) (Hrp tv) (Hca tv) (Hwy tv) (Hla tv) (Hmi tv) (Htf tv) (Htk tv), aV d ta 1 (HHO tv), aV d ta 2 (HAT tv), aV d ta 3 (HTO tv), aV d ta 4 (HWE tv), aV d ta 5 (HHE tv), aV d ta 6 (HRA tv)] (fun r (_ : Unit) => r = res.1) (fun _ => [oH ha (Hfl hv) (Hro hv) (Hrp hv) (Hca hv) (Hwy hv) (Hla hv) (Hmi hv) (Htf hv) (Htk hv), aV d ha 1 (HHO hv), aV d ha 2 (HAT hv), aV d ha 3 (HTO hv), aV d ha 4 (HWE hv), aV d ha 5 (HHE hv), aV d ha 6 (HRA hv), oS sa ha ta gt gf gc tra gs, oH ta (Hfl res.2) (Hro res.2) (Hrp res.2) (Hca res.2) (Hwy res.2) (Hla res.2) (Hmi res.2) (Htf res.2) (Htk res.2), aV d ta 1 (HHO res.2), aV d ta 2 (HAT res.2), aV d ta 3 (HTO res.2), aV d ta 4 (HWE res.2), aV d ta 5 (HHE res.2), aV d ta 6 (HRA res.2)]) := by
  have hX := XI.ok (D := D) (cs := cs) (wi := wi)
  refine MetI.of (by decide +kernel) (Nat.le_of_ble_eq_true rfl) ?_
  intro p e s m below meth c A cx hw ls hl
  have cx : Cx p s m _ meth c (XI D cs wi) D d A "DishLift" cX0_need 4 (some .int) "need" := cx
  have cx' := cx
  obtain ⟨hx, hb, hr, hlk, hml, hown, hts, hK, hA, hXs, hnm⟩ := cx'
  have hl : lv_has ls 4 [(0, .ref (sa 0)), (1, .int p1), (2, .int p2)] := hl
  unfold fX0_need at hf
  refine lv_aload_n hx hb dX0_need_0 rfl (lv_at hl 0 rfl) ?_
  obtain ⟨q1, hcq1, hf⟩ := op_e hf
  refine x_VI (wr := [oH ta (Hfl tv) (Hro tv) (Hrp tv) (Hca tv) (Hwy tv) (Hla tv) (Hmi tv) (Htf tv) (Htk tv), aV d ta 1 (HHO tv), aV d ta 2 (HAT tv), aV d ta 3 (HTO tv), aV d ta 4 (HWE tv), aV d ta 5 (HHE tv), aV d ta 6 (HRA tv)]) (rest := []) [] hX cx hw hl.1 (mX0_isHouse l  D d cs wi ln lf dk dn him ha sa ta hv gt gf gc tra gs q1 hcq1) (lw_V q769 q771 qs17 q82 q772) hd_X0_isHouse ⟨(Nat.le_of_ble_eq_true rfl), (Nat.le_of_ble_eq_true rfl)⟩ (va_recv hK hw.1 (ci := 1) (q0 := 7) rfl rfl) rfl rfl (Nat.le_of_ble_eq_true rfl) dX0_need_1 [0, 1, 2, 3, 4, 5, 6, 7] [8, 9, 10, 11, 12, 13, 14] rfl rfl rfl rfl (by decide) ⟨(Nat.le_of_ble_eq_true rfl), (Nat.le_of_ble_eq_true rfl)⟩ (fun r u H locs hp hw => ?_)
  have hw : Wd D A s [oH ta (Hfl tv) (Hro tv) (Hrp tv) (Hca tv) (Hwy tv) (Hla tv) (Hmi tv) (Htf tv) (Htk tv), aV d ta 1 (HHO tv), aV d ta 2 (HAT tv), aV d ta 3 (HTO tv), aV d ta 4 (HWE tv), aV d ta 5 (HHE tv), aV d ta 6 (HRA tv), oH ha (Hfl hv) (Hro hv) (Hrp hv) (Hca hv) (Hwy hv) (Hla hv) (Hmi hv) (Htf hv) (Htk hv), aV d ha 1 (HHO hv), aV d ha 2 (HAT hv), aV d ha 3 (HTO hv), aV d ha 4 (HWE hv), aV d ha 5 (HHE hv), aV d ha 6 (HRA hv), oS sa ha ta gt gf gc tra gs] H locs := hw
  subst r
  refine lv_if_ne (tgt := 10) hx hb dX0_need_4 (by decide) (fun c4 => ?_) (fun c4 => ?_)
  · have hf := if_f hf c4
    refine lv_iload_n hx hb dX0_need_10 rfl (lv_at hl 1 rfl) ?_
    obtain ⟨q2, hcq2, hf⟩ := op_e hf
    refine x_SI (wr := [oH ta (Hfl tv) (Hro tv) (Hrp tv) (Hca tv) (Hwy tv) (Hla tv) (Hmi tv) (Htf tv) (Htk tv), aV d ta 1 (HHO tv), aV d ta 2 (HAT tv), aV d ta 3 (HTO tv), aV d ta 4 (HWE tv), aV d ta 5 (HHE tv), aV d ta 6 (HRA tv), oH ha (Hfl hv) (Hro hv) (Hrp hv) (Hca hv) (Hwy hv) (Hla hv) (Hmi hv) (Htf hv) (Htk hv), aV d ha 1 (HHO hv), aV d ha 2 (HAT hv), aV d ha 3 (HTO hv), aV d ha 4 (HWE hv), aV d ha 5 (HHE hv), aV d ha 6 (HRA hv), oS sa ha ta gt gf gc tra gs]) (rest := []) [.int p1] hX cx hw hl.1 (mX0_isNear l (XI D cs wi) hX D d  p1 q2 hcq2) (lw_S q970 q971 q82 q972) hd_X0_isNear ⟨(Nat.le_of_ble_eq_true rfl), (Nat.le_of_ble_eq_true rfl)⟩ rfl rfl (Nat.le_of_ble_eq_true rfl) dX0_need_11 [] [0, 1, 2, 3, 4, 5, 6, 7, 8, 9, 10, 11, 12, 13, 14] rfl rfl rfl rfl (by decide) ⟨(Nat.le_of_ble_eq_true rfl), (Nat.le_of_ble_eq_true rfl)⟩ (fun r u H locs hp hw => ?_)
    have hw : Wd D A s [oH ta (Hfl tv) (Hro tv) (Hrp tv) (Hca tv) (Hwy tv) (Hla tv) (Hmi tv) (Htf tv) (Htk tv), aV d ta 1 (HHO tv), aV d ta 2 (HAT tv), aV d ta 3 (HTO tv), aV d ta 4 (HWE tv), aV d ta 5 (HHE tv), aV d ta 6 (HRA tv), oH ha (Hfl hv) (Hro hv) (Hrp hv) (Hca hv) (Hwy hv) (Hla hv) (Hmi hv) (Htf hv) (Htk hv), aV d ha 1 (HHO hv), aV d ha 2 (HAT hv), aV d ha 3 (HTO hv), aV d ha 4 (HWE hv), aV d ha 5 (HHE hv), aV d ha 6 (HRA hv), oS sa ha ta gt gf gc tra gs] H locs := hw
    subst r
    refine lv_if_eq (tgt := 24) hx hb dX0_need_14 (by decide) (fun c14 => ?_) (fun c14 => ?_)
    · have hf := if_t hf c14
      refine lv_ldc (v := (-1000001)) hx hb hown (hts _ q350) dX0_need_24 ?_
      have hf := sm_e hf
      subst hf
      exact x_retI cx hw rfl () rfl [7, 8, 9, 10, 11, 12, 13, 14, 0, 1, 2, 3, 4, 5, 6] rfl rfl (Nat.le_of_ble_eq_true rfl) (Nat.le_of_ble_eq_true rfl) dX0_need_26
    · have hf := if_f hf c14
      refine lv_iload_n hx hb dX0_need_17 rfl (lv_at hl 2 rfl) ?_
      obtain ⟨q3, hcq3, hf⟩ := op_e hf
      refine x_SI (wr := [oH ta (Hfl tv) (Hro tv) (Hrp tv) (Hca tv) (Hwy tv) (Hla tv) (Hmi tv) (Htf tv) (Htk tv), aV d ta 1 (HHO tv), aV d ta 2 (HAT tv), aV d ta 3 (HTO tv), aV d ta 4 (HWE tv), aV d ta 5 (HHE tv), aV d ta 6 (HRA tv), oH ha (Hfl hv) (Hro hv) (Hrp hv) (Hca hv) (Hwy hv) (Hla hv) (Hmi hv) (Htf hv) (Htk hv), aV d ha 1 (HHO hv), aV d ha 2 (HAT hv), aV d ha 3 (HTO hv), aV d ha 4 (HWE hv), aV d ha 5 (HHE hv), aV d ha 6 (HRA hv), oS sa ha ta gt gf gc tra gs]) (rest := []) [.int p2] hX cx hw hl.1 (mX0_isHalf l (XI D cs wi) hX D d  p2 q3 hcq3) (lw_S q973 q974 q82 q975) hd_X0_isHalf ⟨(Nat.le_of_ble_eq_true rfl), (Nat.le_of_ble_eq_true rfl)⟩ rfl rfl (Nat.le_of_ble_eq_true rfl) dX0_need_18 [] [0, 1, 2, 3, 4, 5, 6, 7, 8, 9, 10, 11, 12, 13, 14] rfl rfl rfl rfl (by decide) ⟨(Nat.le_of_ble_eq_true rfl), (Nat.le_of_ble_eq_true rfl)⟩ (fun r u H locs hp hw => ?_)
      have hw : Wd D A s [oH ta (Hfl tv) (Hro tv) (Hrp tv) (Hca tv) (Hwy tv) (Hla tv) (Hmi tv) (Htf tv) (Htk tv), aV d ta 1 (HHO tv), aV d ta 2 (HAT tv), aV d ta 3 (HTO tv), aV d ta 4 (HWE tv), aV d ta 5 (HHE tv), aV d ta 6 (HRA tv), oH ha (Hfl hv) (Hro hv) (Hrp hv) (Hca hv) (Hwy hv) (Hla hv) (Hmi hv) (Htf hv) (Htk hv), aV d ha 1 (HHO hv), aV d ha 2 (HAT hv), aV d ha 3 (HTO hv), aV d ha 4 (HWE hv), aV d ha 5 (HHE hv), aV d ha 6 (HRA hv), oS sa ha ta gt gf gc tra gs] H locs := hw
      subst r
      refine lv_if_ne (tgt := 27) hx hb dX0_need_21 (by decide) (fun c21 => ?_) (fun c21 => ?_)
      · have hf := if_f hf c21
        refine lv_iconst (v := 1) hx hb dX0_need_27 (by decide) ?_
        refine lv_istore_n (lv' := [(3, .int 1), (0, .ref (sa 0)), (1, .int p1), (2, .int p2)]) hx hb dX0_need_28 rfl hl (by decide) rfl (fun ls hl => ?_)
        refine x_lp hf (fun x29 => [oH ha (Hfl hv) (Hro hv) (Hrp hv) (Hca hv) (Hwy hv) (Hla hv) (Hmi hv) (Htf hv) (Htk hv), aV d ha 1 (HHO hv), aV d ha 2 (HAT hv), aV d ha 3 (HTO hv), aV d ha 4 (HWE hv), aV d ha 5 (HHE hv), aV d ha 6 (HRA hv), oS sa ha ta gt gf gc tra gs, oH ta (Hfl x29.2) (Hro x29.2) (Hrp x29.2) (Hca x29.2) (Hwy x29.2) (Hla x29.2) (Hmi x29.2) (Htf x29.2) (Htk x29.2), aV d ta 1 (HHO x29.2), aV d ta 2 (HAT x29.2), aV d ta 3 (HTO x29.2), aV d ta 4 (HWE x29.2), aV d ta 5 (HHE x29.2), aV d ta 6 (HRA x29.2)]) (fun x29 => [(0, .ref (sa 0)), (1, .int p1), (2, .int p2), (3, .int x29.1)]) (hw.sub [7, 8, 9, 10, 11, 12, 13, 14, 0, 1, 2, 3, 4, 5, 6] rfl rfl) (lv_sub hl [1, 2, 3, 0] rfl) (fun x29 y29 hf hin29 hout29 H locs ls hw hl => ?_)
        have hw : Wd D A s [oH ha (Hfl hv) (Hro hv) (Hrp hv) (Hca hv) (Hwy hv) (Hla hv) (Hmi hv) (Htf hv) (Htk hv), aV d ha 1 (HHO hv), aV d ha 2 (HAT hv), aV d ha 3 (HTO hv), aV d ha 4 (HWE hv), aV d ha 5 (HHE hv), aV d ha 6 (HRA hv), oS sa ha ta gt gf gc tra gs, oH ta (Hfl x29.2) (Hro x29.2) (Hrp x29.2) (Hca x29.2) (Hwy x29.2) (Hla x29.2) (Hmi x29.2) (Htf x29.2) (Htk x29.2), aV d ta 1 (HHO x29.2), aV d ta 2 (HAT x29.2), aV d ta 3 (HTO x29.2), aV d ta 4 (HWE x29.2), aV d ta 5 (HHE x29.2), aV d ta 6 (HRA x29.2)] H locs := hw
        have hl : lv_has ls 4 [(0, .ref (sa 0)), (1, .int p1), (2, .int p2), (3, .int x29.1)] := hl
        refine lv_iload_n hx hb dX0_need_29 rfl (lv_at hl 3 rfl) ?_
        refine lv_iload_n hx hb dX0_need_30 rfl (lv_at hl 2 rfl) ?_
        obtain ⟨j4, hjA, hjR⟩ := op_e hf
        refine x_join (A := A) (D := D) (J := 40) (nL := 4) (cells' := 0) (slots' := 0) (st := [.int j4, .int x29.1]) [oH ha (Hfl hv) (Hro hv) (Hrp hv) (Hca hv) (Hwy hv) (Hla hv) (Hmi hv) (Htf hv) (Htk hv), aV d ha 1 (HHO hv), aV d ha 2 (HAT hv), aV d ha 3 (HTO hv), aV d ha 4 (HWE hv), aV d ha 5 (HHE hv), aV d ha 6 (HRA hv), oS sa ha ta gt gf gc tra gs, oH ta (Hfl x29.2) (Hro x29.2) (Hrp x29.2) (Hca x29.2) (Hwy x29.2) (Hla x29.2) (Hmi x29.2) (Htf x29.2) (Htk x29.2), aV d ta 1 (HHO x29.2), aV d ta 2 (HAT x29.2), aV d ta 3 (HTO x29.2), aV d ta 4 (HWE x29.2), aV d ta 5 (HHE x29.2), aV d ta 6 (HRA x29.2)] [(0, .ref (sa 0)), (1, .int p1), (2, .int p2), (3, .int x29.1)] (fun H locs ls hw hl => ?_) (fun hKj40_j4 => ?_)
        · have hf := hjR
          refine lv_icmp_gt (tgt := 112) hx hb dX0_need_40 (by decide) (fun c40 => ?_) (fun c40 => ?_)
          · have hf := if_t hf c40
            refine lv_ldcw (v := (-1000000)) hx hb hown (hts _ q948) dX0_need_112 ?_
            have hf := sm_e hf
            subst hf
            have hz := hout29 _ rfl
            subst hz
            exact x_retI cx hw rfl () rfl [0, 1, 2, 3, 4, 5, 6, 7, 8, 9, 10, 11, 12, 13, 14] rfl rfl (Nat.le_of_ble_eq_true rfl) (Nat.le_of_ble_eq_true rfl) dX0_need_115
          · have hf := if_f hf c40
            refine lv_aload_n hx hb dX0_need_43 rfl (lv_at hl 0 rfl) ?_
            obtain ⟨q5, hcq5, hf⟩ := op_e hf
            refine x_VA (wr := []) (rest := []) [] hX cx hw hl.1 (mX0_tried l  D d cs wi ln lf dk dn him ha ta sa hv x29.2 gt gf gc tra gs q5 hcq5) (lw_V q932 q934 qs24 q82 q935) hd_X0_tried ⟨(Nat.le_of_ble_eq_true rfl), (Nat.le_of_ble_eq_true rfl)⟩ (va_recv hK hw.1 (ci := 1) (q0 := 7) rfl rfl) rfl rfl (Nat.le_of_ble_eq_true rfl) dX0_need_44 [0, 1, 2, 3, 4, 5, 6, 7, 8, 9, 10, 11, 12, 13, 14] [] rfl rfl rfl rfl (by decide) ⟨(Nat.le_of_ble_eq_true rfl), (Nat.le_of_ble_eq_true rfl)⟩ (fun u H locs hp hw => ?_)
            have hw : Wd D A s [oH ha (Hfl hv) (Hro hv) (Hrp hv) (Hca hv) (Hwy hv) (Hla hv) (Hmi hv) (Htf hv) (Htk hv), aV d ha 1 (HHO hv), aV d ha 2 (HAT hv), aV d ha 3 (HTO hv), aV d ha 4 (HWE hv), aV d ha 5 (HHE hv), aV d ha 6 (HRA hv), oS sa ha ta gt gf gc tra gs, oH ta (Hfl q5) (Hro q5) (Hrp q5) (Hca q5) (Hwy q5) (Hla q5) (Hmi q5) (Htf q5) (Htk q5), aV d ta 1 (HHO q5), aV d ta 2 (HAT q5), aV d ta 3 (HTO q5), aV d ta 4 (HWE q5), aV d ta 5 (HHE q5), aV d ta 6 (HRA q5)] H locs := hw
            refine lv_pop hx hb dX0_need_47 rfl ?_
            refine lv_aload_n hx hb dX0_need_48 rfl (lv_at hl 0 rfl) ?_
            refine va_get (ci := 1) (C := RX0) (T := TX0) (N := 14) hx hb hts in_X0 hown hK hw.1 7 rfl rfl 5 (by decide) (hts _ q299) (fun _ h9 => h9) rfl dX0_need_49 ?_
            refine lv_iload_n hx hb dX0_need_52 rfl (lv_at hl 2 rfl) ?_
            obtain ⟨j6, hjA, hjR⟩ := op_e hf
            refine x_join (A := A) (D := D) (J := 67) (nL := 4) (cells' := 0) (slots' := 0) (st := [.int j6, .ref (ta 0)]) [oH ha (Hfl hv) (Hro hv) (Hrp hv) (Hca hv) (Hwy hv) (Hla hv) (Hmi hv) (Htf hv) (Htk hv), aV d ha 1 (HHO hv), aV d ha 2 (HAT hv), aV d ha 3 (HTO hv), aV d ha 4 (HWE hv), aV d ha 5 (HHE hv), aV d ha 6 (HRA hv), oS sa ha ta gt gf gc tra gs, oH ta (Hfl q5) (Hro q5) (Hrp q5) (Hca q5) (Hwy q5) (Hla q5) (Hmi q5) (Htf q5) (Htk q5), aV d ta 1 (HHO q5), aV d ta 2 (HAT q5), aV d ta 3 (HTO q5), aV d ta 4 (HWE q5), aV d ta 5 (HHE q5), aV d ta 6 (HRA q5)] [(0, .ref (sa 0)), (1, .int p1), (2, .int p2), (3, .int x29.1)] (fun H locs ls hw hl => ?_) (fun hKj67_j6 => ?_)
            · have hf := hjR
              refine va_put (ci := 2) (v := .int j6) (ty := .int) (C := RX1) (T := TX1) (N := 15) hx hb hts in_X1 tyX1 tyX1_ok nmX1 hown hK hw.1 hw.2.1 hw.2.2 8 rfl rfl 1 (by decide) (hts _ q164) (fun _ h9 => h9) rfl (by decide +kernel) rfl rfl (Nat.le_of_ble_eq_true rfl) dX0_need_67 (fun H locs hP hD hS => ?_)
              have hw : Wd D A s [oH ha (Hfl hv) (Hro hv) (Hrp hv) (Hca hv) (Hwy hv) (Hla hv) (Hmi hv) (Htf hv) (Htk hv), aV d ha 1 (HHO hv), aV d ha 2 (HAT hv), aV d ha 3 (HTO hv), aV d ha 4 (HWE hv), aV d ha 5 (HHE hv), aV d ha 6 (HRA hv), oS sa ha ta gt gf gc tra gs, oH ta (Hfl q5) j6 (Hrp q5) (Hca q5) (Hwy q5) (Hla q5) (Hmi q5) (Htf q5) (Htk q5), aV d ta 1 (HHO q5), aV d ta 2 (HAT q5), aV d ta 3 (HTO q5), aV d ta 4 (HWE q5), aV d ta 5 (HHE q5), aV d ta 6 (HRA q5)] H locs := ⟨hP, hD, hS⟩
              obtain ⟨b7, hb0, hf⟩ := op_e hf
              obtain ⟨e0, e1, e2, e3, e4, e5, e6, e7, e8, e9, e10, e11, e12, e13, e14⟩ := acro (sm_e hb0)
              have hw : Wd D A s [oH ha (Hfl hv) (Hro hv) (Hrp hv) (Hca hv) (Hwy hv) (Hla hv) (Hmi hv) (Htf hv) (Htk hv), aV d ha 1 (HHO hv), aV d ha 2 (HAT hv), aV d ha 3 (HTO hv), aV d ha 4 (HWE hv), aV d ha 5 (HHE hv), aV d ha 6 (HRA hv), oS sa ha ta gt gf gc tra gs, oH ta (Hfl b7) (Hro b7) (Hrp b7) (Hca b7) (Hwy b7) (Hla b7) (Hmi b7) (Htf b7) (Htk b7), aV d ta 1 (HHO b7), aV d ta 2 (HAT b7), aV d ta 3 (HTO b7), aV d ta 4 (HWE b7), aV d ta 5 (HHE b7), aV d ta 6 (HRA b7)] H locs := by rw [e0, e1, e2, e3, e4, e5, e6, e7, e8, e9, e10, e11, e12, e13, e14]; exact hw
              refine lv_aload_n hx hb dX0_need_70 rfl (lv_at hl 0 rfl) ?_
              refine va_get (ci := 1) (C := RX0) (T := TX0) (N := 14) hx hb hts in_X0 hown hK hw.1 7 rfl rfl 5 (by decide) (hts _ q299) (fun _ h9 => h9) rfl dX0_need_71 ?_
              refine lv_iload_n hx hb dX0_need_74 rfl (lv_at hl 2 rfl) ?_
              refine lv_iconst (v := 1) hx hb dX0_need_75 (by decide) ?_
              obtain ⟨j8, hjA, hjR⟩ := op_e hf
              refine x_join (A := A) (D := D) (J := 90) (nL := 4) (cells' := 0) (slots' := 0) (st := [.int j8, .ref (ta 0)]) [oH ha (Hfl hv) (Hro hv) (Hrp hv) (Hca hv) (Hwy hv) (Hla hv) (Hmi hv) (Htf hv) (Htk hv), aV d ha 1 (HHO hv), aV d ha 2 (HAT hv), aV d ha 3 (HTO hv), aV d ha 4 (HWE hv), aV d ha 5 (HHE hv), aV d ha 6 (HRA hv), oS sa ha ta gt gf gc tra gs, oH ta (Hfl b7) (Hro b7) (Hrp b7) (Hca b7) (Hwy b7) (Hla b7) (Hmi b7) (Htf b7) (Htk b7), aV d ta 1 (HHO b7), aV d ta 2 (HAT b7), aV d ta 3 (HTO b7), aV d ta 4 (HWE b7), aV d ta 5 (HHE b7), aV d ta 6 (HRA b7)] [(0, .ref (sa 0)), (1, .int p1), (2, .int p2), (3, .int x29.1)] (fun H locs ls hw hl => ?_) (fun hKj90_j8 => ?_)
              · have hf := hjR
                refine va_put (ci := 2) (v := .int j8) (ty := .int) (C := RX1) (T := TX1) (N := 15) hx hb hts in_X1 tyX1 tyX1_ok nmX1 hown hK hw.1 hw.2.1 hw.2.2 8 rfl rfl 2 (by decide) (hts _ q167) (fun _ h9 => h9) rfl (by decide +kernel) rfl rfl (Nat.le_of_ble_eq_true rfl) dX0_need_90 (fun H locs hP hD hS => ?_)
                have hw : Wd D A s [oH ha (Hfl hv) (Hro hv) (Hrp hv) (Hca hv) (Hwy hv) (Hla hv) (Hmi hv) (Htf hv) (Htk hv), aV d ha 1 (HHO hv), aV d ha 2 (HAT hv), aV d ha 3 (HTO hv), aV d ha 4 (HWE hv), aV d ha 5 (HHE hv), aV d ha 6 (HRA hv), oS sa ha ta gt gf gc tra gs, oH ta (Hfl b7) (Hro b7) j8 (Hca b7) (Hwy b7) (Hla b7) (Hmi b7) (Htf b7) (Htk b7), aV d ta 1 (HHO b7), aV d ta 2 (HAT b7), aV d ta 3 (HTO b7), aV d ta 4 (HWE b7), aV d ta 5 (HHE b7), aV d ta 6 (HRA b7)] H locs := ⟨hP, hD, hS⟩
                obtain ⟨b9, hb0, hf⟩ := op_e hf
                obtain ⟨e0, e1, e2, e3, e4, e5, e6, e7, e8, e9, e10, e11, e12, e13, e14⟩ := acrp (sm_e hb0)
                have hw : Wd D A s [oH ha (Hfl hv) (Hro hv) (Hrp hv) (Hca hv) (Hwy hv) (Hla hv) (Hmi hv) (Htf hv) (Htk hv), aV d ha 1 (HHO hv), aV d ha 2 (HAT hv), aV d ha 3 (HTO hv), aV d ha 4 (HWE hv), aV d ha 5 (HHE hv), aV d ha 6 (HRA hv), oS sa ha ta gt gf gc tra gs, oH ta (Hfl b9) (Hro b9) (Hrp b9) (Hca b9) (Hwy b9) (Hla b9) (Hmi b9) (Htf b9) (Htk b9), aV d ta 1 (HHO b9), aV d ta 2 (HAT b9), aV d ta 3 (HTO b9), aV d ta 4 (HWE b9), aV d ta 5 (HHE b9), aV d ta 6 (HRA b9)] H locs := by rw [e0, e1, e2, e3, e4, e5, e6, e7, e8, e9, e10, e11, e12, e13, e14]; exact hw
                refine lv_aload_n hx hb dX0_need_93 rfl (lv_at hl 0 rfl) ?_
                refine lv_iload_n hx hb dX0_need_94 rfl (lv_at hl 1 rfl) ?_
                obtain ⟨q10, hcq10, hf⟩ := op_e hf
                refine x_VA (wr := [oH ha (Hfl hv) (Hro hv) (Hrp hv) (Hca hv) (Hwy hv) (Hla hv) (Hmi hv) (Htf hv) (Htk hv), aV d ha 1 (HHO hv), aV d ha 2 (HAT hv), aV d ha 3 (HTO hv), aV d ha 4 (HWE hv), aV d ha 5 (HHE hv), aV d ha 6 (HRA hv)]) (rest := []) [.int p1] hX cx hw hl.1 (mX0_goOn l  D d cs wi ln lf dk dn him ta sa ha b9 gt gf gc tra gs p1 q10 hcq10) (lw_V q936 q938 qs25 q82 q939) hd_X0_goOn ⟨(Nat.le_of_ble_eq_true rfl), (Nat.le_of_ble_eq_true rfl)⟩ (va_recv hK hw.1 (ci := 1) (q0 := 7) rfl rfl) rfl rfl (Nat.le_of_ble_eq_true rfl) dX0_need_95 [7, 8, 9, 10, 11, 12, 13, 14] [0, 1, 2, 3, 4, 5, 6] rfl rfl rfl rfl (by decide) ⟨(Nat.le_of_ble_eq_true rfl), (Nat.le_of_ble_eq_true rfl)⟩ (fun u H locs hp hw => ?_)
                have hw : Wd D A s [oH ha (Hfl hv) (Hro hv) (Hrp hv) (Hca hv) (Hwy hv) (Hla hv) (Hmi hv) (Htf hv) (Htk hv), aV d ha 1 (HHO hv), aV d ha 2 (HAT hv), aV d ha 3 (HTO hv), aV d ha 4 (HWE hv), aV d ha 5 (HHE hv), aV d ha 6 (HRA hv), oS sa ha ta gt gf gc tra gs, oH ta (Hfl q10) (Hro q10) (Hrp q10) (Hca q10) (Hwy q10) (Hla q10) (Hmi q10) (Htf q10) (Htk q10), aV d ta 1 (HHO q10), aV d ta 2 (HAT q10), aV d ta 3 (HTO q10), aV d ta 4 (HWE q10), aV d ta 5 (HHE q10), aV d ta 6 (HRA q10)] H locs := hw
                obtain ⟨q11, hcq11, hf⟩ := op_e hf
                refine x_VI (wr := [oH ha (Hfl hv) (Hro hv) (Hrp hv) (Hca hv) (Hwy hv) (Hla hv) (Hmi hv) (Htf hv) (Htk hv), aV d ha 1 (HHO hv), aV d ha 2 (HAT hv), aV d ha 3 (HTO hv), aV d ha 4 (HWE hv), aV d ha 5 (HHE hv), aV d ha 6 (HRA hv), oS sa ha ta gt gf gc tra gs]) (rest := []) [] hX cx hw hl.1 (vX1_isDone l  D d cs wi ln lf dk dn him ta q10 q11 hcq11) (lw_V q953 q954 q955 q83 q956) hd_X1_isDone ⟨(Nat.le_of_ble_eq_true rfl), (Nat.le_of_ble_eq_true rfl)⟩ (va_recv hK hw.1 (ci := 2) (q0 := 8) rfl rfl) rfl rfl (Nat.le_of_ble_eq_true rfl) dX0_need_98 [8, 9, 10, 11, 12, 13, 14] [0, 1, 2, 3, 4, 5, 6, 7] rfl rfl rfl rfl (by decide) ⟨(Nat.le_of_ble_eq_true rfl), (Nat.le_of_ble_eq_true rfl)⟩ (fun r u H locs hp hw => ?_)
                have hw : Wd D A s [oH ha (Hfl hv) (Hro hv) (Hrp hv) (Hca hv) (Hwy hv) (Hla hv) (Hmi hv) (Htf hv) (Htk hv), aV d ha 1 (HHO hv), aV d ha 2 (HAT hv), aV d ha 3 (HTO hv), aV d ha 4 (HWE hv), aV d ha 5 (HHE hv), aV d ha 6 (HRA hv), oS sa ha ta gt gf gc tra gs, oH ta (Hfl q10) (Hro q10) (Hrp q10) (Hca q10) (Hwy q10) (Hla q10) (Hmi q10) (Htf q10) (Htk q10), aV d ta 1 (HHO q10), aV d ta 2 (HAT q10), aV d ta 3 (HTO q10), aV d ta 4 (HWE q10), aV d ta 5 (HHE q10), aV d ta 6 (HRA q10)] H locs := hw
                subst r
                refine lv_if_eq (tgt := 106) hx hb dX0_need_101 (by decide) (fun c101 => ?_) (fun c101 => ?_)
                · have hf := if_t hf c101
                  refine lv_iinc (v := (x29.1 + 1)) (lv' := [(3, .int (x29.1 + 1)), (0, .ref (sa 0)), (1, .int p1), (2, .int p2)]) hx hb dX0_need_106 hl (k := 3) rfl (by first | rfl | decide) (by decide) rfl (fun ls hl => ?_)
                  refine lv_goto (tgt := 29) hx hb dX0_need_109 (by decide) ?_
                  have hf := sm_e hf
                  subst hf
                  exact hin29 _ rfl _ _ _ hw (lv_sub hl [1, 2, 3, 0] rfl)
                · have hf := if_f hf c101
                  refine lv_iload_n hx hb dX0_need_104 rfl (lv_at hl 3 rfl) ?_
                  have hf := sm_e hf
                  subst hf
                  have hz := hout29 _ rfl
                  subst hz
                  exact x_retI cx hw rfl () rfl [0, 1, 2, 3, 4, 5, 6, 7, 8, 9, 10, 11, 12, 13, 14] rfl rfl (Nat.le_of_ble_eq_true rfl) (Nat.le_of_ble_eq_true rfl) dX0_need_105
              · have hf := hjA
                refine lv_icmp_ne (tgt := 83) hx hb dX0_need_76 (by decide) (fun c76 => ?_) (fun c76 => ?_)
                · have hf := if_f hf c76
                  refine lv_aload_n hx hb dX0_need_83 rfl (lv_at hl 0 rfl) ?_
                  refine va_get (ci := 1) (C := RX0) (T := TX0) (N := 14) hx hb hts in_X0 hown hK hw.1 7 rfl rfl 5 (by decide) (hts _ q299) (fun _ h9 => h9) rfl dX0_need_84 ?_
                  refine va_get (ci := 2) (C := RX1) (T := TX1) (N := 15) hx hb hts in_X1 hown hK hw.1 8 rfl rfl 2 (by decide) (hts _ q167) (fun _ h9 => h9) rfl dX0_need_87 ?_
                  have hf := sm_e hf
                  subst hf
                  exact hKj90_j8 _ _ _ hw hl
                · have hf := if_t hf c76
                  refine lv_iload_n hx hb dX0_need_79 rfl (lv_at hl 3 rfl) ?_
                  refine lv_goto (tgt := 90) hx hb dX0_need_80 (by decide) ?_
                  have hf := sm_e hf
                  subst hf
                  exact hKj90_j8 _ _ _ hw hl
            · have hf := hjA
              refine lv_if_ne (tgt := 60) hx hb dX0_need_53 (by decide) (fun c53 => ?_) (fun c53 => ?_)
              · have hf := if_f hf c53
                refine lv_aload_n hx hb dX0_need_60 rfl (lv_at hl 0 rfl) ?_
                refine va_get (ci := 1) (C := RX0) (T := TX0) (N := 14) hx hb hts in_X0 hown hK hw.1 7 rfl rfl 5 (by decide) (hts _ q299) (fun _ h9 => h9) rfl dX0_need_61 ?_
                refine va_get (ci := 2) (C := RX1) (T := TX1) (N := 15) hx hb hts in_X1 hown hK hw.1 8 rfl rfl 1 (by decide) (hts _ q164) (fun _ h9 => h9) rfl dX0_need_64 ?_
                have hf := sm_e hf
                subst hf
                exact hKj67_j6 _ _ _ hw hl
              · have hf := if_t hf c53
                refine lv_iload_n hx hb dX0_need_56 rfl (lv_at hl 3 rfl) ?_
                refine lv_goto (tgt := 67) hx hb dX0_need_57 (by decide) ?_
                have hf := sm_e hf
                subst hf
                exact hKj67_j6 _ _ _ hw hl
        · have hf := hjA
          refine lv_if_ne (tgt := 38) hx hb dX0_need_31 (by decide) (fun c31 => ?_) (fun c31 => ?_)
          · have hf := if_f hf c31
            refine lv_bipush (v := 40) hx hb dX0_need_38 (by decide) ?_
            have hf := sm_e hf
            subst hf
            exact hKj40_j4 _ _ _ hw hl
          · have hf := if_t hf c31
            refine lv_iconst (v := 4) hx hb dX0_need_34 (by decide) ?_
            refine lv_goto (tgt := 40) hx hb dX0_need_35 (by decide) ?_
            have hf := sm_e hf
            subst hf
            exact hKj40_j4 _ _ _ hw hl
      · have hf := if_t hf c21
        refine lv_ldc (v := (-1000001)) hx hb hown (hts _ q350) dX0_need_24 ?_
        have hf := sm_e hf
        subst hf
        exact x_retI cx hw rfl () rfl [7, 8, 9, 10, 11, 12, 13, 14, 0, 1, 2, 3, 4, 5, 6] rfl rfl (Nat.le_of_ble_eq_true rfl) (Nat.le_of_ble_eq_true rfl) dX0_need_26
  · have hf := if_t hf c4
    refine lv_ldc (v := (-1000002)) hx hb hown (hts _ q764) dX0_need_7 ?_
    have hf := sm_e hf
    subst hf
    exact x_retI cx hw rfl () rfl [7, 8, 9, 10, 11, 12, 13, 14, 0, 1, 2, 3, 4, 5, 6] rfl rfl (Nat.le_of_ble_eq_true rfl) (Nat.le_of_ble_eq_true rfl) dX0_need_9
theorem hd_X0_swap : yX0_swap.cls = "DishLift" ∧ yX0_swap.cls ≠ "java/lang/invoke/MethodHandle" ∧ yX0_swap.cls ≠ "java/lang/invoke/VarHandle" ∧ (parseMethodDescriptor yX0_swap.desc).map (fun d => d.parameters.length) = some 2 := by decide +kernel
set_option maxHeartbeats 4000000 in
theorem mX0_swap (l : Launch)  (D : va_G) (d : Nat → ClassId) (cs : Nat → Nat) (wi : va_W) (ln : Nat → Option Int32) (lf : Nat → Nat → Option Nat) (dk : Nat → Option Nat) (dn : Nat → Int32) (him : ImF d wi ln lf dk dn) (sa : Nat → Nat) (ha : Nat → Nat) (ta : Nat → Nat) (gt : Int32) (gf : Int32) (gc : Int32) (tra : Nat) (gs : Int32) (LI : Nat → Int32) (p1 : Int32) (p2 : Int32)  (res : (Nat → Int32)) (hf : fX0_swap LI p1 p2 = some res) : MetV l yX0_swap (ws_ yX0_swap cX0_swap 4 none) { frames := 0, cells := 0, slots := 0, locals := 0 } [.ref (sa 0), .int p1, .int p2] (XI D cs wi) D d [oS sa ha ta gt gf gc tra gs, ((sa 5), .inl (d 0, 6, .inl LI))] (fun (_ : Unit) => True) (fun _ => [oS sa ha ta gt gf gc tra gs, ((sa 5), .inl (d 0, 6, .inl res))]) := by
  have hX := XI.ok (D := D) (cs := cs) (wi := wi)
  refine MetV.of (by decide +kernel) (Nat.le_of_ble_eq_true rfl) ?_
  intro p e s m below meth c A cx hw ls hl
  have cx : Cx p s m _ meth c (XI D cs wi) D d A "DishLift" cX0_swap 4 none "swap" := cx
  have cx' := cx
  obtain ⟨hx, hb, hr, hlk, hml, hown, hts, hK, hA, hXs, hnm⟩ := cx'
  have hl : lv_has ls 4 [(0, .ref (sa 0)), (1, .int p1), (2, .int p2)] := hl
  unfold fX0_swap at hf
  refine lv_aload_n hx hb dX0_swap_0 rfl (lv_at hl 0 rfl) ?_
  refine va_get (ci := 1) (C := RX0) (T := TX0) (N := 14) hx hb hts in_X0 hown hK hw.1 0 rfl rfl 11 (by decide) (hts _ q305) (fun _ h9 => h9) rfl dX0_swap_1 ?_
  refine lv_iload_n hx hb dX0_swap_4 rfl (lv_at hl 1 rfl) ?_
  obtain ⟨v1, hrd, hf⟩ := op_e hf
  refine x_iald (q0 := 1) cx hw rfl hrd dX0_swap_5 ?_
  refine lv_istore_n (lv' := [(3, .int v1), (0, .ref (sa 0)), (1, .int p1), (2, .int p2)]) hx hb dX0_swap_6 rfl hl (by decide) rfl (fun ls hl => ?_)
  refine lv_aload_n hx hb dX0_swap_7 rfl (lv_at hl 1 rfl) ?_
  refine va_get (ci := 1) (C := RX0) (T := TX0) (N := 14) hx hb hts in_X0 hown hK hw.1 0 rfl rfl 11 (by decide) (hts _ q305) (fun _ h9 => h9) rfl dX0_swap_8 ?_
  refine lv_iload_n hx hb dX0_swap_11 rfl (lv_at hl 2 rfl) ?_
  refine lv_aload_n hx hb dX0_swap_12 rfl (lv_at hl 1 rfl) ?_
  refine va_get (ci := 1) (C := RX0) (T := TX0) (N := 14) hx hb hts in_X0 hown hK hw.1 0 rfl rfl 11 (by decide) (hts _ q305) (fun _ h9 => h9) rfl dX0_swap_13 ?_
  refine lv_iload_n hx hb dX0_swap_16 rfl (lv_at hl 3 rfl) ?_
  obtain ⟨v2, hrd, hf⟩ := op_e hf
  refine x_iald (q0 := 1) cx hw rfl hrd dX0_swap_17 ?_
  obtain ⟨w3, hrd, hf⟩ := op_e hf
  refine x_iast (q0 := 1) cx hw rfl hrd dX0_swap_18 (fun H locs hw => ?_)
  have hw : Wd D A s [oS sa ha ta gt gf gc tra gs, ((sa 5), .inl (d 0, 6, .inl w3))] H locs := hw
  refine lv_aload_n hx hb dX0_swap_19 rfl (lv_at hl 1 rfl) ?_
  refine va_get (ci := 1) (C := RX0) (T := TX0) (N := 14) hx hb hts in_X0 hown hK hw.1 0 rfl rfl 11 (by decide) (hts _ q305) (fun _ h9 => h9) rfl dX0_swap_20 ?_
  refine lv_iload_n hx hb dX0_swap_23 rfl (lv_at hl 3 rfl) ?_
  refine lv_iload_n hx hb dX0_swap_24 rfl (lv_at hl 0 rfl) ?_
  obtain ⟨w4, hrd, hf⟩ := op_e hf
  refine x_iast (q0 := 1) cx hw rfl hrd dX0_swap_25 (fun H locs hw => ?_)
  have hw : Wd D A s [oS sa ha ta gt gf gc tra gs, ((sa 5), .inl (d 0, 6, .inl w4))] H locs := hw
  have hf := sm_e hf
  subst hf
  exact x_retV cx hw () trivial [0, 1] rfl rfl (Nat.le_of_ble_eq_true rfl) (Nat.le_of_ble_eq_true rfl) dX0_swap_26
theorem hd_X0_isNext : yX0_isNext.cls = "DishLift" ∧ yX0_isNext.cls ≠ "java/lang/invoke/MethodHandle" ∧ yX0_isNext.cls ≠ "java/lang/invoke/VarHandle" ∧ (parseMethodDescriptor yX0_isNext.desc).map (fun d => d.parameters.length) = some 0 := by decide +kernel
set_option maxHeartbeats 4000000 in
theorem mX0_isNext (l : Launch)  (D : va_G) (d : Nat → ClassId) (cs : Nat → Nat) (wi : va_W) (ln : Nat → Option Int32) (lf : Nat → Nat → Option Nat) (dk : Nat → Option Nat) (dn : Nat → Int32) (him : ImF d wi ln lf dk dn) (ha : Nat → Nat) (sa : Nat → Nat) (ta : Nat → Nat) (hv : HV) (gt : Int32) (gf : Int32) (gc : Int32) (tra : Nat) (gs : Int32) (LI : Nat → Int32)  (res : Int32 × (Nat → Int32)) (hf : fX0_isNext ln hv LI = some res) : MetI l yX0_isNext (ws_ yX0_isNext cX0_isNext 6 (some .boolean)) { frames := 2, cells := 0, slots := 0, locals := 60 } [.ref (sa 0)] (XI D cs wi) D d [oH ha (Hfl hv) (Hro hv) (Hrp hv) (Hca hv) (Hwy hv) (Hla hv) (Hmi hv) (Htf hv) (Htk hv), aV d ha 1 (HHO hv), aV d ha 2 (HAT hv), aV d ha 3 (HTO hv), aV d ha 4 (HWE hv), aV d ha 5 (HHE hv), aV d ha 6 (HRA hv), oS sa ha ta gt gf gc tra gs, ((sa 5), .inl (d 0, 6, .inl LI))] (fun r (_ : Unit) => r = res.1) (fun _ => [oH ha (Hfl hv) (Hro hv) (Hrp hv) (Hca hv) (Hwy hv) (Hla hv) (Hmi hv) (Htf hv) (Htk hv), aV d ha 1 (HHO hv), aV d ha 2 (HAT hv), aV d ha 3 (HTO hv), aV d ha 4 (HWE hv), aV d ha 5 (HHE hv), aV d ha 6 (HRA hv), oS sa ha ta gt gf gc tra gs, ((sa 5), .inl (d 0, 6, .inl res.2))]) := by
  have hX := XI.ok (D := D) (cs := cs) (wi := wi)
  refine MetI.of (by decide +kernel) (Nat.le_of_ble_eq_true rfl) ?_
  intro p e s m below meth c A cx hw ls hl
  have cx : Cx p s m _ meth c (XI D cs wi) D d A "DishLift" cX0_isNext 6 (some .boolean) "isNext" := cx
  have cx' := cx
  obtain ⟨hx, hb, hr, hlk, hml, hown, hts, hK, hA, hXs, hnm⟩ := cx'
  have hl : lv_has ls 6 [(0, .ref (sa 0))] := hl
  unfold fX0_isNext at hf
  refine lv_aload_n hx hb dX0_isNext_0 rfl (lv_at hl 0 rfl) ?_
  refine va_get (ci := 1) (C := RX0) (T := TX0) (N := 14) hx hb hts in_X0 hown hK hw.1 7 rfl rfl 4 (by decide) (hts _ q298) (fun _ h9 => h9) rfl dX0_isNext_1 ?_
  obtain ⟨q1, hcq1, hf⟩ := op_e hf
  refine x_VI (wr := [oS sa ha ta gt gf gc tra gs, ((sa 5), .inl (d 0, 6, .inl LI))]) (rest := []) [] hX cx hw hl.1 (vX1_many l  D d cs wi ln lf dk dn him ha hv q1 hcq1) (lw_V q755 q663 q664 q83 q665) hd_X1_many ⟨(Nat.le_of_ble_eq_true rfl), (Nat.le_of_ble_eq_true rfl)⟩ (va_recv hK hw.1 (ci := 2) (q0 := 0) rfl rfl) rfl rfl (Nat.le_of_ble_eq_true rfl) dX0_isNext_4 [0, 1, 2, 3, 4, 5, 6] [7, 8] rfl rfl rfl rfl (by decide) ⟨(Nat.le_of_ble_eq_true rfl), (Nat.le_of_ble_eq_true rfl)⟩ (fun r u H locs hp hw => ?_)
  have hw : Wd D A s [oS sa ha ta gt gf gc tra gs, ((sa 5), .inl (d 0, 6, .inl LI)), oH ha (Hfl hv) (Hro hv) (Hrp hv) (Hca hv) (Hwy hv) (Hla hv) (Hmi hv) (Htf hv) (Htk hv), aV d ha 1 (HHO hv), aV d ha 2 (HAT hv), aV d ha 3 (HTO hv), aV d ha 4 (HWE hv), aV d ha 5 (HHE hv), aV d ha 6 (HRA hv)] H locs := hw
  subst r
  refine lv_istore_n (lv' := [(1, .int q1), (0, .ref (sa 0))]) hx hb dX0_isNext_7 rfl hl (by decide) rfl (fun ls hl => ?_)
  refine lv_iload_n hx hb dX0_isNext_8 rfl (lv_at hl 0 rfl) ?_
  refine lv_iconst (v := 2) hx hb dX0_isNext_9 (by decide) ?_
  refine lv_isub hx hb dX0_isNext_10 ?_
  refine lv_istore_n (lv' := [(2, .int (q1 - 2)), (1, .int q1), (0, .ref (sa 0))]) hx hb dX0_isNext_11 rfl hl (by decide) rfl (fun ls hl => ?_)
  obtain ⟨r2, hlp12, hf⟩ := op_e hf
  refine x_join (A := A) (D := D) (J := 39) (nL := 6) (cells' := 0) (slots' := 0) (st := []) [oH ha (Hfl hv) (Hro hv) (Hrp hv) (Hca hv) (Hwy hv) (Hla hv) (Hmi hv) (Htf hv) (Htk hv), aV d ha 1 (HHO hv), aV d ha 2 (HAT hv), aV d ha 3 (HTO hv), aV d ha 4 (HWE hv), aV d ha 5 (HHE hv), aV d ha 6 (HRA hv), oS sa ha ta gt gf gc tra gs, ((sa 5), .inl (d 0, 6, .inl LI))] [(0, .ref (sa 0)), (1, .int q1), (2, .int r2)] (fun H locs ls hw hl => ?_) (fun hK12 => ?_)
  · refine lv_iload_n hx hb dX0_isNext_39 rfl (lv_at hl 2 rfl) ?_
    refine lv_if_ge (tgt := 45) hx hb dX0_isNext_40 (by decide) (fun c40 => ?_) (fun c40 => ?_)
    · have hf := if_t hf c40
      refine lv_iload_n hx hb dX0_isNext_45 rfl (lv_at hl 1 rfl) ?_
      refine lv_iconst (v := 1) hx hb dX0_isNext_46 (by decide) ?_
      refine lv_isub hx hb dX0_isNext_47 ?_
      refine lv_istore_n (lv' := [(3, .int (q1 - 1)), (0, .ref (sa 0)), (1, .int q1), (2, .int r2)]) hx hb dX0_isNext_48 rfl hl (by decide) rfl (fun ls hl => ?_)
      obtain ⟨r3, hlp49, hf⟩ := op_e hf
      refine x_join (A := A) (D := D) (J := 70) (nL := 6) (cells' := 0) (slots' := 0) (st := []) [oH ha (Hfl hv) (Hro hv) (Hrp hv) (Hca hv) (Hwy hv) (Hla hv) (Hmi hv) (Htf hv) (Htk hv), aV d ha 1 (HHO hv), aV d ha 2 (HAT hv), aV d ha 3 (HTO hv), aV d ha 4 (HWE hv), aV d ha 5 (HHE hv), aV d ha 6 (HRA hv), oS sa ha ta gt gf gc tra gs, ((sa 5), .inl (d 0, 6, .inl LI))] [(0, .ref (sa 0)), (1, .int q1), (2, .int r2), (3, .int r3)] (fun H locs ls hw hl => ?_) (fun hK49 => ?_)
      · refine lv_aload_n hx hb dX0_isNext_70 rfl (lv_at hl 0 rfl) ?_
        refine lv_iload_n hx hb dX0_isNext_71 rfl (lv_at hl 2 rfl) ?_
        refine lv_iload_n hx hb dX0_isNext_72 rfl (lv_at hl 3 rfl) ?_
        obtain ⟨q4, hcq4, hf⟩ := op_e hf
        refine x_VV (wr := [oH ha (Hfl hv) (Hro hv) (Hrp hv) (Hca hv) (Hwy hv) (Hla hv) (Hmi hv) (Htf hv) (Htk hv), aV d ha 1 (HHO hv), aV d ha 2 (HAT hv), aV d ha 3 (HTO hv), aV d ha 4 (HWE hv), aV d ha 5 (HHE hv), aV d ha 6 (HRA hv)]) (rest := []) [.int r2, .int r3] hX cx hw hl.1 (mX0_swap l  D d cs wi ln lf dk dn him sa ha ta gt gf gc tra gs LI r2 r3 q4 hcq4) (lw_V q994 q996 qs28 q82 q997) hd_X0_swap ⟨(Nat.le_of_ble_eq_true rfl), (Nat.le_of_ble_eq_true rfl)⟩ (va_recv hK hw.1 (ci := 1) (q0 := 7) rfl rfl) rfl rfl (Nat.le_of_ble_eq_true rfl) dX0_isNext_73 [7, 8] [0, 1, 2, 3, 4, 5, 6] rfl rfl rfl rfl (by decide) ⟨(Nat.le_of_ble_eq_true rfl), (Nat.le_of_ble_eq_true rfl)⟩ (fun u H locs hp hw => ?_)
        have hw : Wd D A s [oH ha (Hfl hv) (Hro hv) (Hrp hv) (Hca hv) (Hwy hv) (Hla hv) (Hmi hv) (Htf hv) (Htk hv), aV d ha 1 (HHO hv), aV d ha 2 (HAT hv), aV d ha 3 (HTO hv), aV d ha 4 (HWE hv), aV d ha 5 (HHE hv), aV d ha 6 (HRA hv), oS sa ha ta gt gf gc tra gs, ((sa 5), .inl (d 0, 6, .inl q4))] H locs := hw
        refine lv_iload_n hx hb dX0_isNext_76 rfl (lv_at hl 2 rfl) ?_
        refine lv_iconst (v := 1) hx hb dX0_isNext_77 (by decide) ?_
        refine lv_iadd hx hb dX0_isNext_78 ?_
        refine lv_istore (lv' := [(4, .int (r2 + 1)), (0, .ref (sa 0)), (1, .int q1), (2, .int r2), (3, .int r3)]) hx hb dX0_isNext_79 hl (by decide) rfl (fun ls hl => ?_)
        refine lv_iload_n hx hb dX0_isNext_81 rfl (lv_at hl 2 rfl) ?_
        refine lv_iconst (v := 1) hx hb dX0_isNext_82 (by decide) ?_
        refine lv_isub hx hb dX0_isNext_83 ?_
        refine lv_istore (lv' := [(5, .int (q1 - 1)), (4, .int (r2 + 1)), (0, .ref (sa 0)), (1, .int q1), (2, .int r2), (3, .int r3)]) hx hb dX0_isNext_84 hl (by decide) rfl (fun ls hl => ?_)
        obtain ⟨r5, hlp86, hf⟩ := op_e hf
        refine x_join (A := A) (D := D) (J := 110) (nL := 6) (cells' := 0) (slots' := 0) (st := []) [oH ha (Hfl hv) (Hro hv) (Hrp hv) (Hca hv) (Hwy hv) (Hla hv) (Hmi hv) (Htf hv) (Htk hv), aV d ha 1 (HHO hv), aV d ha 2 (HAT hv), aV d ha 3 (HTO hv), aV d ha 4 (HWE hv), aV d ha 5 (HHE hv), aV d ha 6 (HRA hv), oS sa ha ta gt gf gc tra gs, ((sa 5), .inl (d 0, 6, .inl r5))] [] (fun H locs ls hw hl => ?_) (fun hK86 => ?_)
        · refine lv_iconst (v := 1) hx hb dX0_isNext_110 (by decide) ?_
          have hf := sm_e hf
          subst hf
          exact x_retI cx hw rfl () rfl [0, 1, 2, 3, 4, 5, 6, 7, 8] rfl rfl (Nat.le_of_ble_eq_true rfl) (Nat.le_of_ble_eq_true rfl) dX0_isNext_111
        · refine x_lp hlp86 (fun x86 => [oH ha (Hfl hv) (Hro hv) (Hrp hv) (Hca hv) (Hwy hv) (Hla hv) (Hmi hv) (Htf hv) (Htk hv), aV d ha 1 (HHO hv), aV d ha 2 (HAT hv), aV d ha 3 (HTO hv), aV d ha 4 (HWE hv), aV d ha 5 (HHE hv), aV d ha 6 (HRA hv), oS sa ha ta gt gf gc tra gs, ((sa 5), .inl (d 0, 6, .inl x86.2.2))]) (fun x86 => [(0, .ref (sa 0)), (4, .int x86.1), (5, .int x86.2.1)]) hw (lv_sub hl [2, 1, 0] rfl) (fun x86 y86 hf hin86 hout86 H locs ls hw hl => ?_)
          have hw : Wd D A s [oH ha (Hfl hv) (Hro hv) (Hrp hv) (Hca hv) (Hwy hv) (Hla hv) (Hmi hv) (Htf hv) (Htk hv), aV d ha 1 (HHO hv), aV d ha 2 (HAT hv), aV d ha 3 (HTO hv), aV d ha 4 (HWE hv), aV d ha 5 (HHE hv), aV d ha 6 (HRA hv), oS sa ha ta gt gf gc tra gs, ((sa 5), .inl (d 0, 6, .inl x86.2.2))] H locs := hw
          have hl : lv_has ls 6 [(0, .ref (sa 0)), (4, .int x86.1), (5, .int x86.2.1)] := hl
          refine lv_iload hx hb dX0_isNext_86 (lv_at hl 1 rfl) ?_
          refine lv_iload hx hb dX0_isNext_88 (lv_at hl 2 rfl) ?_
          refine lv_icmp_ge (tgt := 110) hx hb dX0_isNext_90 (by decide) (fun c90 => ?_) (fun c90 => ?_)
          · have hf := if_t hf c90
            have hf := sm_e hf
            subst hf
            have hz := hout86 _ rfl
            subst hz
            exact hK86 _ _ _ hw (lv_sub hl [] rfl)
          · have hf := if_f hf c90
            refine lv_aload_n hx hb dX0_isNext_93 rfl (lv_at hl 0 rfl) ?_
            refine lv_iload hx hb dX0_isNext_94 (lv_at hl 1 rfl) ?_
            refine lv_iload hx hb dX0_isNext_96 (lv_at hl 2 rfl) ?_
            obtain ⟨q6, hcq6, hf⟩ := op_e hf
            refine x_VV (wr := [oH ha (Hfl hv) (Hro hv) (Hrp hv) (Hca hv) (Hwy hv) (Hla hv) (Hmi hv) (Htf hv) (Htk hv), aV d ha 1 (HHO hv), aV d ha 2 (HAT hv), aV d ha 3 (HTO hv), aV d ha 4 (HWE hv), aV d ha 5 (HHE hv), aV d ha 6 (HRA hv)]) (rest := []) [.int x86.1, .int x86.2.1] hX cx hw hl.1 (mX0_swap l  D d cs wi ln lf dk dn him sa ha ta gt gf gc tra gs x86.2.2 x86.1 x86.2.1 q6 hcq6) (lw_V q994 q996 qs28 q82 q997) hd_X0_swap ⟨(Nat.le_of_ble_eq_true rfl), (Nat.le_of_ble_eq_true rfl)⟩ (va_recv hK hw.1 (ci := 1) (q0 := 7) rfl rfl) rfl rfl (Nat.le_of_ble_eq_true rfl) dX0_isNext_98 [7, 8] [0, 1, 2, 3, 4, 5, 6] rfl rfl rfl rfl (by decide) ⟨(Nat.le_of_ble_eq_true rfl), (Nat.le_of_ble_eq_true rfl)⟩ (fun u H locs hp hw => ?_)
            have hw : Wd D A s [oH ha (Hfl hv) (Hro hv) (Hrp hv) (Hca hv) (Hwy hv) (Hla hv) (Hmi hv) (Htf hv) (Htk hv), aV d ha 1 (HHO hv), aV d ha 2 (HAT hv), aV d ha 3 (HTO hv), aV d ha 4 (HWE hv), aV d ha 5 (HHE hv), aV d ha 6 (HRA hv), oS sa ha ta gt gf gc tra gs, ((sa 5), .inl (d 0, 6, .inl q6))] H locs := hw
            refine lv_iinc (v := (x86.1 + 1)) (lv' := [(4, .int (x86.1 + 1)), (0, .ref (sa 0)), (5, .int x86.2.1)]) hx hb dX0_isNext_101 hl (k := 1) rfl (by first | rfl | decide) (by decide) rfl (fun ls hl => ?_)
            obtain ⟨z7, hz0, hf⟩ := op_e hf
            have ez := sm_e hz0
            refine lv_iinc (v := z7) (lv' := [(5, .int z7), (4, .int (x86.1 + 1)), (0, .ref (sa 0))]) hx hb dX0_isNext_104 hl (k := 2) rfl ((iinc_m1 _).trans ez) (by decide) rfl (fun ls hl => ?_)
            refine lv_goto (tgt := 86) hx hb dX0_isNext_107 (by decide) ?_
            have hf := sm_e hf
            subst hf
            exact hin86 _ rfl _ _ _ hw (lv_sub hl [2, 1, 0] rfl)
      · refine x_lp hlp49 (fun x49 => [oH ha (Hfl hv) (Hro hv) (Hrp hv) (Hca hv) (Hwy hv) (Hla hv) (Hmi hv) (Htf hv) (Htk hv), aV d ha 1 (HHO hv), aV d ha 2 (HAT hv), aV d ha 3 (HTO hv), aV d ha 4 (HWE hv), aV d ha 5 (HHE hv), aV d ha 6 (HRA hv), oS sa ha ta gt gf gc tra gs, ((sa 5), .inl (d 0, 6, .inl LI))]) (fun x49 => [(0, .ref (sa 0)), (1, .int q1), (2, .int r2), (3, .int x49)]) hw (lv_sub hl [1, 2, 3, 0] rfl) (fun x49 y49 hf hin49 hout49 H locs ls hw hl => ?_)
        have hw : Wd D A s [oH ha (Hfl hv) (Hro hv) (Hrp hv) (Hca hv) (Hwy hv) (Hla hv) (Hmi hv) (Htf hv) (Htk hv), aV d ha 1 (HHO hv), aV d ha 2 (HAT hv), aV d ha 3 (HTO hv), aV d ha 4 (HWE hv), aV d ha 5 (HHE hv), aV d ha 6 (HRA hv), oS sa ha ta gt gf gc tra gs, ((sa 5), .inl (d 0, 6, .inl LI))] H locs := hw
        have hl : lv_has ls 6 [(0, .ref (sa 0)), (1, .int q1), (2, .int r2), (3, .int x49)] := hl
        refine lv_aload_n hx hb dX0_isNext_49 rfl (lv_at hl 0 rfl) ?_
        refine va_get (ci := 1) (C := RX0) (T := TX0) (N := 14) hx hb hts in_X0 hown hK hw.1 7 rfl rfl 11 (by decide) (hts _ q305) (fun _ h9 => h9) rfl dX0_isNext_50 ?_
        refine lv_iload_n hx hb dX0_isNext_53 rfl (lv_at hl 3 rfl) ?_
        obtain ⟨v8, hrd, hf⟩ := op_e hf
        refine x_iald (q0 := 8) cx hw rfl hrd dX0_isNext_54 ?_
        refine lv_aload_n hx hb dX0_isNext_55 rfl (lv_at hl 0 rfl) ?_
        refine va_get (ci := 1) (C := RX0) (T := TX0) (N := 14) hx hb hts in_X0 hown hK hw.1 7 rfl rfl 11 (by decide) (hts _ q305) (fun _ h9 => h9) rfl dX0_isNext_56 ?_
        refine lv_iload_n hx hb dX0_isNext_59 rfl (lv_at hl 2 rfl) ?_
        obtain ⟨v9, hrd, hf⟩ := op_e hf
        refine x_iald (q0 := 8) cx hw rfl hrd dX0_isNext_60 ?_
        refine lv_icmp_ge (tgt := 70) hx hb dX0_isNext_61 (by decide) (fun c61 => ?_) (fun c61 => ?_)
        · have hf := if_t hf c61
          have hf := sm_e hf
          subst hf
          have hz := hout49 _ rfl
          subst hz
          exact hK49 _ _ _ hw hl
        · have hf := if_f hf c61
          obtain ⟨z10, hz0, hf⟩ := op_e hf
          have ez := sm_e hz0
          refine lv_iinc (v := z10) (lv' := [(3, .int z10), (0, .ref (sa 0)), (1, .int q1), (2, .int r2)]) hx hb dX0_isNext_64 hl (k := 3) rfl ((iinc_m1 _).trans ez) (by decide) rfl (fun ls hl => ?_)
          refine lv_goto (tgt := 49) hx hb dX0_isNext_67 (by decide) ?_
          have hf := sm_e hf
          subst hf
          exact hin49 _ rfl _ _ _ hw (lv_sub hl [1, 2, 3, 0] rfl)
    · have hf := if_f hf c40
      refine lv_iconst (v := 0) hx hb dX0_isNext_43 (by decide) ?_
      have hf := sm_e hf
      subst hf
      exact x_retI cx hw rfl () rfl [0, 1, 2, 3, 4, 5, 6, 7, 8] rfl rfl (Nat.le_of_ble_eq_true rfl) (Nat.le_of_ble_eq_true rfl) dX0_isNext_44
  · refine x_lp hlp12 (fun x12 => [oH ha (Hfl hv) (Hro hv) (Hrp hv) (Hca hv) (Hwy hv) (Hla hv) (Hmi hv) (Htf hv) (Htk hv), aV d ha 1 (HHO hv), aV d ha 2 (HAT hv), aV d ha 3 (HTO hv), aV d ha 4 (HWE hv), aV d ha 5 (HHE hv), aV d ha 6 (HRA hv), oS sa ha ta gt gf gc tra gs, ((sa 5), .inl (d 0, 6, .inl LI))]) (fun x12 => [(0, .ref (sa 0)), (1, .int q1), (2, .int x12)]) (hw.sub [2, 3, 4, 5, 6, 7, 8, 0, 1] rfl rfl) (lv_sub hl [2, 1, 0] rfl) (fun x12 y12 hf hin12 hout12 H locs ls hw hl => ?_)
    have hw : Wd D A s [oH ha (Hfl hv) (Hro hv) (Hrp hv) (Hca hv) (Hwy hv) (Hla hv) (Hmi hv) (Htf hv) (Htk hv), aV d ha 1 (HHO hv), aV d ha 2 (HAT hv), aV d ha 3 (HTO hv), aV d ha 4 (HWE hv), aV d ha 5 (HHE hv), aV d ha 6 (HRA hv), oS sa ha ta gt gf gc tra gs, ((sa 5), .inl (d 0, 6, .inl LI))] H locs := hw
    have hl : lv_has ls 6 [(0, .ref (sa 0)), (1, .int q1), (2, .int x12)] := hl
    refine lv_iload_n hx hb dX0_isNext_12 rfl (lv_at hl 2 rfl) ?_
    refine lv_if_lt (tgt := 39) hx hb dX0_isNext_13 (by decide) (fun c13 => ?_) (fun c13 => ?_)
    · have hf := if_t hf c13
      have hf := sm_e hf
      subst hf
      have hz := hout12 _ rfl
      subst hz
      exact hK12 _ _ _ hw hl
    · have hf := if_f hf c13
      refine lv_aload_n hx hb dX0_isNext_16 rfl (lv_at hl 0 rfl) ?_
      refine va_get (ci := 1) (C := RX0) (T := TX0) (N := 14) hx hb hts in_X0 hown hK hw.1 7 rfl rfl 11 (by decide) (hts _ q305) (fun _ h9 => h9) rfl dX0_isNext_17 ?_
      refine lv_iload_n hx hb dX0_isNext_20 rfl (lv_at hl 2 rfl) ?_
      obtain ⟨v11, hrd, hf⟩ := op_e hf
      refine x_iald (q0 := 8) cx hw rfl hrd dX0_isNext_21 ?_
      refine lv_aload_n hx hb dX0_isNext_22 rfl (lv_at hl 0 rfl) ?_
      refine va_get (ci := 1) (C := RX0) (T := TX0) (N := 14) hx hb hts in_X0 hown hK hw.1 7 rfl rfl 11 (by decide) (hts _ q305) (fun _ h9 => h9) rfl dX0_isNext_23 ?_
      refine lv_iload_n hx hb dX0_isNext_26 rfl (lv_at hl 2 rfl) ?_
      refine lv_iconst (v := 1) hx hb dX0_isNext_27 (by decide) ?_
      refine lv_iadd hx hb dX0_isNext_28 ?_
      obtain ⟨v12, hrd, hf⟩ := op_e hf
      refine x_iald (q0 := 8) cx hw rfl hrd dX0_isNext_29 ?_
      refine lv_icmp_le (tgt := 39) hx hb dX0_isNext_30 (by decide) (fun c30 => ?_) (fun c30 => ?_)
      · have hf := if_t hf c30
        have hf := sm_e hf
        subst hf
        have hz := hout12 _ rfl
        subst hz
        exact hK12 _ _ _ hw hl
      · have hf := if_f hf c30
        obtain ⟨z13, hz0, hf⟩ := op_e hf
        have ez := sm_e hz0
        refine lv_iinc (v := z13) (lv' := [(2, .int z13), (0, .ref (sa 0)), (1, .int q1)]) hx hb dX0_isNext_33 hl (k := 2) rfl ((iinc_m1 _).trans ez) (by decide) rfl (fun ls hl => ?_)
        refine lv_goto (tgt := 12) hx hb dX0_isNext_36 (by decide) ?_
        have hf := sm_e hf
        subst hf
        exact hin12 _ rfl _ _ _ hw (lv_sub hl [1, 2, 0] rfl)
theorem hd_X0_waited : yX0_waited.cls = "DishLift" ∧ yX0_waited.cls ≠ "java/lang/invoke/MethodHandle" ∧ yX0_waited.cls ≠ "java/lang/invoke/VarHandle" ∧ (parseMethodDescriptor yX0_waited.desc).map (fun d => d.parameters.length) = some 1 := by decide +kernel
set_option maxHeartbeats 4000000 in
theorem mX0_waited (l : Launch)  (D : va_G) (d : Nat → ClassId) (cs : Nat → Nat) (wi : va_W) (ln : Nat → Option Int32) (lf : Nat → Nat → Option Nat) (dk : Nat → Option Nat) (dn : Nat → Int32) (him : ImF d wi ln lf dk dn) (ha : Nat → Nat) (ta : Nat → Nat) (sa : Nat → Nat) (hv : HV) (tv : HV) (gt : Int32) (gf : Int32) (gc : Int32) (tra : Nat) (gs : Int32) (LI : Nat → Int32) (p1 : Int32)  (res : Int32 × HV) (hf : fX0_waited ln lf dk hv tv LI p1 = some res) : MetI l yX0_waited (ws_ yX0_waited cX0_waited 4 (some .int)) { frames := 6, cells := 0, slots := 0, locals := 183 } [.ref (sa 0), .int p1] (XI D cs wi) D d [oH ha (Hfl hv) (Hro hv) (Hrp hv) (Hca hv) (Hwy hv) (Hla hv) (Hmi hv) (Htf hv) (Htk hv), aV d ha 1 (HHO hv), aV d ha 2 (HAT hv), aV d ha 3 (HTO hv), aV d ha 4 (HWE hv), aV d ha 5 (HHE hv), aV d ha 6 (HRA hv), oS sa ha ta gt gf gc tra gs, ((sa 5), .inl (d 0, 6, .inl LI)), oH ta (Hfl tv) (Hro tv) (Hrp tv) (Hca tv) (Hwy tv) (Hla tv) (Hmi tv) (Htf tv) (Htk tv), aV d ta 1 (HHO tv), aV d ta 2 (HAT tv), aV d ta 3 (HTO tv), aV d ta 4 (HWE tv), aV d ta 5 (HHE tv), aV d ta 6 (HRA tv)] (fun r (_ : Unit) => r = res.1) (fun _ => [oH ha (Hfl hv) (Hro hv) (Hrp hv) (Hca hv) (Hwy hv) (Hla hv) (Hmi hv) (Htf hv) (Htk hv), aV d ha 1 (HHO hv), aV d ha 2 (HAT hv), aV d ha 3 (HTO hv), aV d ha 4 (HWE hv), aV d ha 5 (HHE hv), aV d ha 6 (HRA hv), oS sa ha ta gt gf gc tra gs, ((sa 5), .inl (d 0, 6, .inl LI)), oH ta (Hfl res.2) (Hro res.2) (Hrp res.2) (Hca res.2) (Hwy res.2) (Hla res.2) (Hmi res.2) (Htf res.2) (Htk res.2), aV d ta 1 (HHO res.2), aV d ta 2 (HAT res.2), aV d ta 3 (HTO res.2), aV d ta 4 (HWE res.2), aV d ta 5 (HHE res.2), aV d ta 6 (HRA res.2)]) := by
  have hX := XI.ok (D := D) (cs := cs) (wi := wi)
  refine MetI.of (by decide +kernel) (Nat.le_of_ble_eq_true rfl) ?_
  intro p e s m below meth c A cx hw ls hl
  have cx : Cx p s m _ meth c (XI D cs wi) D d A "DishLift" cX0_waited 4 (some .int) "waited" := cx
  have cx' := cx
  obtain ⟨hx, hb, hr, hlk, hml, hown, hts, hK, hA, hXs, hnm⟩ := cx'
  have hl : lv_has ls 4 [(0, .ref (sa 0)), (1, .int p1)] := hl
  unfold fX0_waited at hf
  refine lv_aload_n hx hb dX0_waited_0 rfl (lv_at hl 0 rfl) ?_
  obtain ⟨q1, hcq1, hf⟩ := op_e hf
  refine x_VA (wr := [((sa 5), .inl (d 0, 6, .inl LI))]) (rest := []) [] hX cx hw hl.1 (mX0_tried l  D d cs wi ln lf dk dn him ha ta sa hv tv gt gf gc tra gs q1 hcq1) (lw_V q932 q934 qs24 q82 q935) hd_X0_tried ⟨(Nat.le_of_ble_eq_true rfl), (Nat.le_of_ble_eq_true rfl)⟩ (va_recv hK hw.1 (ci := 1) (q0 := 7) rfl rfl) rfl rfl (Nat.le_of_ble_eq_true rfl) dX0_waited_1 [0, 1, 2, 3, 4, 5, 6, 7, 9, 10, 11, 12, 13, 14, 15] [8] rfl rfl rfl rfl (by decide) ⟨(Nat.le_of_ble_eq_true rfl), (Nat.le_of_ble_eq_true rfl)⟩ (fun u H locs hp hw => ?_)
  have hw : Wd D A s [((sa 5), .inl (d 0, 6, .inl LI)), oH ha (Hfl hv) (Hro hv) (Hrp hv) (Hca hv) (Hwy hv) (Hla hv) (Hmi hv) (Htf hv) (Htk hv), aV d ha 1 (HHO hv), aV d ha 2 (HAT hv), aV d ha 3 (HTO hv), aV d ha 4 (HWE hv), aV d ha 5 (HHE hv), aV d ha 6 (HRA hv), oS sa ha ta gt gf gc tra gs, oH ta (Hfl q1) (Hro q1) (Hrp q1) (Hca q1) (Hwy q1) (Hla q1) (Hmi q1) (Htf q1) (Htk q1), aV d ta 1 (HHO q1), aV d ta 2 (HAT q1), aV d ta 3 (HTO q1), aV d ta 4 (HWE q1), aV d ta 5 (HHE q1), aV d ta 6 (HRA q1)] H locs := hw
  refine lv_pop hx hb dX0_waited_4 rfl ?_
  refine lv_aload_n hx hb dX0_waited_5 rfl (lv_at hl 0 rfl) ?_
  refine va_get (ci := 1) (C := RX0) (T := TX0) (N := 14) hx hb hts in_X0 hown hK hw.1 8 rfl rfl 11 (by decide) (hts _ q305) (fun _ h9 => h9) rfl dX0_waited_6 ?_
  refine lv_iconst (v := 0) hx hb dX0_waited_9 (by decide) ?_
  refine lv_aload_n hx hb dX0_waited_10 rfl (lv_at hl 0 rfl) ?_
  refine va_get (ci := 1) (C := RX0) (T := TX0) (N := 14) hx hb hts in_X0 hown hK hw.1 8 rfl rfl 5 (by decide) (hts _ q299) (fun _ h9 => h9) rfl dX0_waited_11 ?_
  refine va_get (ci := 2) (C := RX1) (T := TX1) (N := 15) hx hb hts in_X1 hown hK hw.1 9 rfl rfl 11 (by decide) (hts _ q192) (fun _ h9 => h9) rfl dX0_waited_14 ?_
  refine lv_iconst (v := 0) hx hb dX0_waited_17 (by decide) ?_
  refine lv_bipush (v := 6) hx hb dX0_waited_18 (by decide) ?_
  refine va_copyi hx hb (hml.trans hl.1.symm) hown (hts _ q492) (hts _ q494) (hts _ q493) (hts _ q103) hK hw.1 hw.2.1 hw.2.2 0 15 0 0 rfl rfl rfl rfl rfl (by decide) (by decide) (by decide) (by decide) (by decide) (fun _ _ => rfl) (Nat.le_of_ble_eq_true rfl) (Nat.le_of_ble_eq_true rfl) dX0_waited_20 (fun H locs hP hD hS => ?_)
  have hw : Wd D A s [((sa 5), .inl (d 0, 6, .inl LI)), oH ha (Hfl hv) (Hro hv) (Hrp hv) (Hca hv) (Hwy hv) (Hla hv) (Hmi hv) (Htf hv) (Htk hv), aV d ha 1 (HHO hv), aV d ha 2 (HAT hv), aV d ha 3 (HTO hv), aV d ha 4 (HWE hv), aV d ha 5 (HHE hv), aV d ha 6 (HRA hv), oS sa ha ta gt gf gc tra gs, oH ta (Hfl q1) (Hro q1) (Hrp q1) (Hca q1) (Hwy q1) (Hla q1) (Hmi q1) (Htf q1) (Htk q1), aV d ta 1 (HHO q1), aV d ta 2 (HAT q1), aV d ta 3 (HTO q1), aV d ta 4 (HWE q1), aV d ta 5 (HHE q1), aV d ta 6 (va_cpy LI (HRA q1) 0 0 6)] H locs := ⟨hP, hD, hS⟩
  obtain ⟨b2, hb0, hf⟩ := op_e hf
  obtain ⟨e0, e1, e2, e3, e4, e5, e6, e7, e8, e9, e10, e11, e12, e13, e14⟩ := acRA (sm_e hb0)
  have hw : Wd D A s [((sa 5), .inl (d 0, 6, .inl LI)), oH ha (Hfl hv) (Hro hv) (Hrp hv) (Hca hv) (Hwy hv) (Hla hv) (Hmi hv) (Htf hv) (Htk hv), aV d ha 1 (HHO hv), aV d ha 2 (HAT hv), aV d ha 3 (HTO hv), aV d ha 4 (HWE hv), aV d ha 5 (HHE hv), aV d ha 6 (HRA hv), oS sa ha ta gt gf gc tra gs, oH ta (Hfl b2) (Hro b2) (Hrp b2) (Hca b2) (Hwy b2) (Hla b2) (Hmi b2) (Htf b2) (Htk b2), aV d ta 1 (HHO b2), aV d ta 2 (HAT b2), aV d ta 3 (HTO b2), aV d ta 4 (HWE b2), aV d ta 5 (HHE b2), aV d ta 6 (HRA b2)] H locs := by rw [e0, e1, e2, e3, e4, e5, e6, e7, e8, e9, e10, e11, e12, e13, e14]; exact hw
  refine lv_iconst (v := 0) hx hb dX0_waited_23 (by decide) ?_
  refine lv_istore_n (lv' := [(2, .int 0), (0, .ref (sa 0)), (1, .int p1)]) hx hb dX0_waited_24 rfl hl (by decide) rfl (fun ls hl => ?_)
  refine lv_iconst (v := 0) hx hb dX0_waited_25 (by decide) ?_
  refine lv_istore_n (lv' := [(3, .int 0), (2, .int 0), (0, .ref (sa 0)), (1, .int p1)]) hx hb dX0_waited_26 rfl hl (by decide) rfl (fun ls hl => ?_)
  obtain ⟨r3, hlp27, hf⟩ := op_e hf
  refine x_join (A := A) (D := D) (J := 73) (nL := 4) (cells' := 0) (slots' := 0) (st := []) [oH ha (Hfl hv) (Hro hv) (Hrp hv) (Hca hv) (Hwy hv) (Hla hv) (Hmi hv) (Htf hv) (Htk hv), aV d ha 1 (HHO hv), aV d ha 2 (HAT hv), aV d ha 3 (HTO hv), aV d ha 4 (HWE hv), aV d ha 5 (HHE hv), aV d ha 6 (HRA hv), oS sa ha ta gt gf gc tra gs, ((sa 5), .inl (d 0, 6, .inl LI)), oH ta (Hfl r3.2) (Hro r3.2) (Hrp r3.2) (Hca r3.2) (Hwy r3.2) (Hla r3.2) (Hmi r3.2) (Htf r3.2) (Htk r3.2), aV d ta 1 (HHO r3.2), aV d ta 2 (HAT r3.2), aV d ta 3 (HTO r3.2), aV d ta 4 (HWE r3.2), aV d ta 5 (HHE r3.2), aV d ta 6 (HRA r3.2)] [(2, .int r3.1)] (fun H locs ls hw hl => ?_) (fun hK27 => ?_)
  · refine lv_iload_n hx hb dX0_waited_73 rfl (lv_at hl 0 rfl) ?_
    have hf := sm_e hf
    subst hf
    exact x_retI cx hw rfl () rfl [0, 1, 2, 3, 4, 5, 6, 7, 8, 9, 10, 11, 12, 13, 14, 15] rfl rfl (Nat.le_of_ble_eq_true rfl) (Nat.le_of_ble_eq_true rfl) dX0_waited_74
  · refine x_lp hlp27 (fun x27 => [oH ha (Hfl hv) (Hro hv) (Hrp hv) (Hca hv) (Hwy hv) (Hla hv) (Hmi hv) (Htf hv) (Htk hv), aV d ha 1 (HHO hv), aV d ha 2 (HAT hv), aV d ha 3 (HTO hv), aV d ha 4 (HWE hv), aV d ha 5 (HHE hv), aV d ha 6 (HRA hv), oS sa ha ta gt gf gc tra gs, ((sa 5), .inl (d 0, 6, .inl LI)), oH ta (Hfl x27.2.2) (Hro x27.2.2) (Hrp x27.2.2) (Hca x27.2.2) (Hwy x27.2.2) (Hla x27.2.2) (Hmi x27.2.2) (Htf x27.2.2) (Htk x27.2.2), aV d ta 1 (HHO x27.2.2), aV d ta 2 (HAT x27.2.2), aV d ta 3 (HTO x27.2.2), aV d ta 4 (HWE x27.2.2), aV d ta 5 (HHE x27.2.2), aV d ta 6 (HRA x27.2.2)]) (fun x27 => [(0, .ref (sa 0)), (1, .int p1), (2, .int x27.1), (3, .int x27.2.1)]) (hw.sub [1, 2, 3, 4, 5, 6, 7, 8, 0, 9, 10, 11, 12, 13, 14, 15] rfl rfl) (lv_sub hl [2, 3, 1, 0] rfl) (fun x27 y27 hf hin27 hout27 H locs ls hw hl => ?_)
    have hw : Wd D A s [oH ha (Hfl hv) (Hro hv) (Hrp hv) (Hca hv) (Hwy hv) (Hla hv) (Hmi hv) (Htf hv) (Htk hv), aV d ha 1 (HHO hv), aV d ha 2 (HAT hv), aV d ha 3 (HTO hv), aV d ha 4 (HWE hv), aV d ha 5 (HHE hv), aV d ha 6 (HRA hv), oS sa ha ta gt gf gc tra gs, ((sa 5), .inl (d 0, 6, .inl LI)), oH ta (Hfl x27.2.2) (Hro x27.2.2) (Hrp x27.2.2) (Hca x27.2.2) (Hwy x27.2.2) (Hla x27.2.2) (Hmi x27.2.2) (Htf x27.2.2) (Htk x27.2.2), aV d ta 1 (HHO x27.2.2), aV d ta 2 (HAT x27.2.2), aV d ta 3 (HTO x27.2.2), aV d ta 4 (HWE x27.2.2), aV d ta 5 (HHE x27.2.2), aV d ta 6 (HRA x27.2.2)] H locs := hw
    have hl : lv_has ls 4 [(0, .ref (sa 0)), (1, .int p1), (2, .int x27.1), (3, .int x27.2.1)] := hl
    refine lv_iload_n hx hb dX0_waited_27 rfl (lv_at hl 3 rfl) ?_
    refine lv_iload_n hx hb dX0_waited_28 rfl (lv_at hl 1 rfl) ?_
    refine lv_icmp_gt (tgt := 73) hx hb dX0_waited_29 (by decide) (fun c29 => ?_) (fun c29 => ?_)
    · have hf := if_t hf c29
      have hf := sm_e hf
      subst hf
      have hz := hout27 _ rfl
      subst hz
      exact hK27 _ _ _ hw (lv_sub hl [2] rfl)
    · have hf := if_f hf c29
      refine lv_iload_n hx hb dX0_waited_32 rfl (lv_at hl 2 rfl) ?_
      refine lv_aload_n hx hb dX0_waited_33 rfl (lv_at hl 0 rfl) ?_
      refine va_get (ci := 1) (C := RX0) (T := TX0) (N := 14) hx hb hts in_X0 hown hK hw.1 7 rfl rfl 5 (by decide) (hts _ q299) (fun _ h9 => h9) rfl dX0_waited_34 ?_
      obtain ⟨q4, hcq4, hf⟩ := op_e hf
      refine x_VI (wr := [oH ha (Hfl hv) (Hro hv) (Hrp hv) (Hca hv) (Hwy hv) (Hla hv) (Hmi hv) (Htf hv) (Htk hv), aV d ha 1 (HHO hv), aV d ha 2 (HAT hv), aV d ha 3 (HTO hv), aV d ha 4 (HWE hv), aV d ha 5 (HHE hv), aV d ha 6 (HRA hv), oS sa ha ta gt gf gc tra gs, ((sa 5), .inl (d 0, 6, .inl LI))]) (rest := [.int x27.1]) [] hX cx hw hl.1 (vX1_many l  D d cs wi ln lf dk dn him ta x27.2.2 q4 hcq4) (lw_V q755 q663 q664 q83 q665) hd_X1_many ⟨(Nat.le_of_ble_eq_true rfl), (Nat.le_of_ble_eq_true rfl)⟩ (va_recv hK hw.1 (ci := 2) (q0 := 9) rfl rfl) rfl rfl (Nat.le_of_ble_eq_true rfl) dX0_waited_37 [9, 10, 11, 12, 13, 14, 15] [0, 1, 2, 3, 4, 5, 6, 7, 8] rfl rfl rfl rfl (by decide) ⟨(Nat.le_of_ble_eq_true rfl), (Nat.le_of_ble_eq_true rfl)⟩ (fun r u H locs hp hw => ?_)
      have hw : Wd D A s [oH ha (Hfl hv) (Hro hv) (Hrp hv) (Hca hv) (Hwy hv) (Hla hv) (Hmi hv) (Htf hv) (Htk hv), aV d ha 1 (HHO hv), aV d ha 2 (HAT hv), aV d ha 3 (HTO hv), aV d ha 4 (HWE hv), aV d ha 5 (HHE hv), aV d ha 6 (HRA hv), oS sa ha ta gt gf gc tra gs, ((sa 5), .inl (d 0, 6, .inl LI)), oH ta (Hfl x27.2.2) (Hro x27.2.2) (Hrp x27.2.2) (Hca x27.2.2) (Hwy x27.2.2) (Hla x27.2.2) (Hmi x27.2.2) (Htf x27.2.2) (Htk x27.2.2), aV d ta 1 (HHO x27.2.2), aV d ta 2 (HAT x27.2.2), aV d ta 3 (HTO x27.2.2), aV d ta 4 (HWE x27.2.2), aV d ta 5 (HHE x27.2.2), aV d ta 6 (HRA x27.2.2)] H locs := hw
      subst r
      refine lv_aload_n hx hb dX0_waited_40 rfl (lv_at hl 0 rfl) ?_
      refine va_get (ci := 1) (C := RX0) (T := TX0) (N := 14) hx hb hts in_X0 hown hK hw.1 7 rfl rfl 5 (by decide) (hts _ q299) (fun _ h9 => h9) rfl dX0_waited_41 ?_
      refine lv_iconst (v := 2) hx hb dX0_waited_44 (by decide) ?_
      obtain ⟨q5, hcq5, hf⟩ := op_e hf
      refine x_VI (wr := [oH ha (Hfl hv) (Hro hv) (Hrp hv) (Hca hv) (Hwy hv) (Hla hv) (Hmi hv) (Htf hv) (Htk hv), aV d ha 1 (HHO hv), aV d ha 2 (HAT hv), aV d ha 3 (HTO hv), aV d ha 4 (HWE hv), aV d ha 5 (HHE hv), aV d ha 6 (HRA hv), oS sa ha ta gt gf gc tra gs, ((sa 5), .inl (d 0, 6, .inl LI))]) (rest := [.int q4, .int x27.1]) [.int 2] hX cx hw hl.1 (vX1_areSo l  D d cs wi ln lf dk dn him ta x27.2.2 2 q5 hcq5) (lw_V q867 q788 q789 q83 q790) hd_X1_areSo ⟨(Nat.le_of_ble_eq_true rfl), (Nat.le_of_ble_eq_true rfl)⟩ (va_recv hK hw.1 (ci := 2) (q0 := 9) rfl rfl) rfl rfl (Nat.le_of_ble_eq_true rfl) dX0_waited_45 [9, 10, 11, 12, 13, 14, 15] [0, 1, 2, 3, 4, 5, 6, 7, 8] rfl rfl rfl rfl (by decide) ⟨(Nat.le_of_ble_eq_true rfl), (Nat.le_of_ble_eq_true rfl)⟩ (fun r u H locs hp hw => ?_)
      have hw : Wd D A s [oH ha (Hfl hv) (Hro hv) (Hrp hv) (Hca hv) (Hwy hv) (Hla hv) (Hmi hv) (Htf hv) (Htk hv), aV d ha 1 (HHO hv), aV d ha 2 (HAT hv), aV d ha 3 (HTO hv), aV d ha 4 (HWE hv), aV d ha 5 (HHE hv), aV d ha 6 (HRA hv), oS sa ha ta gt gf gc tra gs, ((sa 5), .inl (d 0, 6, .inl LI)), oH ta (Hfl x27.2.2) (Hro x27.2.2) (Hrp x27.2.2) (Hca x27.2.2) (Hwy x27.2.2) (Hla x27.2.2) (Hmi x27.2.2) (Htf x27.2.2) (Htk x27.2.2), aV d ta 1 (HHO x27.2.2), aV d ta 2 (HAT x27.2.2), aV d ta 3 (HTO x27.2.2), aV d ta 4 (HWE x27.2.2), aV d ta 5 (HHE x27.2.2), aV d ta 6 (HRA x27.2.2)] H locs := hw
      subst r
      obtain ⟨q6, hcq6, hf⟩ := op_e hf
      refine x_SI (wr := [oH ha (Hfl hv) (Hro hv) (Hrp hv) (Hca hv) (Hwy hv) (Hla hv) (Hmi hv) (Htf hv) (Htk hv), aV d ha 1 (HHO hv), aV d ha 2 (HAT hv), aV d ha 3 (HTO hv), aV d ha 4 (HWE hv), aV d ha 5 (HHE hv), aV d ha 6 (HRA hv), oS sa ha ta gt gf gc tra gs, ((sa 5), .inl (d 0, 6, .inl LI)), oH ta (Hfl x27.2.2) (Hro x27.2.2) (Hrp x27.2.2) (Hca x27.2.2) (Hwy x27.2.2) (Hla x27.2.2) (Hmi x27.2.2) (Htf x27.2.2) (Htk x27.2.2), aV d ta 1 (HHO x27.2.2), aV d ta 2 (HAT x27.2.2), aV d ta 3 (HTO x27.2.2), aV d ta 4 (HWE x27.2.2), aV d ta 5 (HHE x27.2.2), aV d ta 6 (HRA x27.2.2)]) (rest := [.int q4, .int x27.1]) [.int q5] hX cx hw hl.1 (mJ15_bitCount l (XI D cs wi) hX D d  q5 q6 hcq6) (lw_S q976 q792 q112 q793) hd_J15_bitCount ⟨(Nat.le_of_ble_eq_true rfl), (Nat.le_of_ble_eq_true rfl)⟩ rfl rfl (Nat.le_of_ble_eq_true rfl) dX0_waited_48 [] [0, 1, 2, 3, 4, 5, 6, 7, 8, 9, 10, 11, 12, 13, 14, 15] rfl rfl rfl rfl (by decide) ⟨(Nat.le_of_ble_eq_true rfl), (Nat.le_of_ble_eq_true rfl)⟩ (fun r u H locs hp hw => ?_)
      have hw : Wd D A s [oH ha (Hfl hv) (Hro hv) (Hrp hv) (Hca hv) (Hwy hv) (Hla hv) (Hmi hv) (Htf hv) (Htk hv), aV d ha 1 (HHO hv), aV d ha 2 (HAT hv), aV d ha 3 (HTO hv), aV d ha 4 (HWE hv), aV d ha 5 (HHE hv), aV d ha 6 (HRA hv), oS sa ha ta gt gf gc tra gs, ((sa 5), .inl (d 0, 6, .inl LI)), oH ta (Hfl x27.2.2) (Hro x27.2.2) (Hrp x27.2.2) (Hca x27.2.2) (Hwy x27.2.2) (Hla x27.2.2) (Hmi x27.2.2) (Htf x27.2.2) (Htk x27.2.2), aV d ta 1 (HHO x27.2.2), aV d ta 2 (HAT x27.2.2), aV d ta 3 (HTO x27.2.2), aV d ta 4 (HWE x27.2.2), aV d ta 5 (HHE x27.2.2), aV d ta 6 (HRA x27.2.2)] H locs := hw
      subst r
      refine lv_isub hx hb dX0_waited_51 ?_
      refine lv_iadd hx hb dX0_waited_52 ?_
      refine lv_istore_n (lv' := [(2, .int (x27.1 + (q4 - q6))), (0, .ref (sa 0)), (1, .int p1), (3, .int x27.2.1)]) hx hb dX0_waited_53 rfl hl (by decide) rfl (fun ls hl => ?_)
      refine lv_iload_n hx hb dX0_waited_54 rfl (lv_at hl 3 rfl) ?_
      refine lv_iload_n hx hb dX0_waited_55 rfl (lv_at hl 2 rfl) ?_
      refine lv_icmp_ge (tgt := 67) hx hb dX0_waited_56 (by decide) (fun c56 => ?_) (fun c56 => ?_)
      · have hf := if_t hf c56
        refine lv_iinc (v := (x27.2.1 + 1)) (lv' := [(3, .int (x27.2.1 + 1)), (2, .int (x27.1 + (q4 - q6))), (0, .ref (sa 0)), (1, .int p1)]) hx hb dX0_waited_67 hl (k := 3) rfl (by first | rfl | decide) (by decide) rfl (fun ls hl => ?_)
        refine lv_goto (tgt := 27) hx hb dX0_waited_70 (by decide) ?_
        have hf := sm_e hf
        subst hf
        exact hin27 _ rfl _ _ _ hw (lv_sub hl [2, 3, 1, 0] rfl)
      · have hf := if_f hf c56
        refine lv_aload_n hx hb dX0_waited_59 rfl (lv_at hl 1 rfl) ?_
        refine va_get (ci := 1) (C := RX0) (T := TX0) (N := 14) hx hb hts in_X0 hown hK hw.1 7 rfl rfl 5 (by decide) (hts _ q299) (fun _ h9 => h9) rfl dX0_waited_60 ?_
        obtain ⟨q7, hcq7, hf⟩ := op_e hf
        refine x_VA (wr := [oH ha (Hfl hv) (Hro hv) (Hrp hv) (Hca hv) (Hwy hv) (Hla hv) (Hmi hv) (Htf hv) (Htk hv), aV d ha 1 (HHO hv), aV d ha 2 (HAT hv), aV d ha 3 (HTO hv), aV d ha 4 (HWE hv), aV d ha 5 (HHE hv), aV d ha 6 (HRA hv), oS sa ha ta gt gf gc tra gs, ((sa 5), .inl (d 0, 6, .inl LI))]) (rest := []) [] hX cx hw hl.1 (vX1_pass l  D d cs wi ln lf dk dn him ta x27.2.2 q7 hcq7) (lw_V q778 q779 q780 q83 q781) hd_X1_pass ⟨(Nat.le_of_ble_eq_true rfl), (Nat.le_of_ble_eq_true rfl)⟩ (va_recv hK hw.1 (ci := 2) (q0 := 9) rfl rfl) rfl rfl (Nat.le_of_ble_eq_true rfl) dX0_waited_63 [9, 10, 11, 12, 13, 14, 15] [0, 1, 2, 3, 4, 5, 6, 7, 8] rfl rfl rfl rfl (by decide) ⟨(Nat.le_of_ble_eq_true rfl), (Nat.le_of_ble_eq_true rfl)⟩ (fun u H locs hp hw => ?_)
        have hw : Wd D A s [oH ha (Hfl hv) (Hro hv) (Hrp hv) (Hca hv) (Hwy hv) (Hla hv) (Hmi hv) (Htf hv) (Htk hv), aV d ha 1 (HHO hv), aV d ha 2 (HAT hv), aV d ha 3 (HTO hv), aV d ha 4 (HWE hv), aV d ha 5 (HHE hv), aV d ha 6 (HRA hv), oS sa ha ta gt gf gc tra gs, ((sa 5), .inl (d 0, 6, .inl LI)), oH ta (Hfl q7) (Hro q7) (Hrp q7) (Hca q7) (Hwy q7) (Hla q7) (Hmi q7) (Htf q7) (Htk q7), aV d ta 1 (HHO q7), aV d ta 2 (HAT q7), aV d ta 3 (HTO q7), aV d ta 4 (HWE q7), aV d ta 5 (HHE q7), aV d ta 6 (HRA q7)] H locs := hw
        refine lv_pop hx hb dX0_waited_66 rfl ?_
        refine lv_iinc (v := (x27.2.1 + 1)) (lv' := [(3, .int (x27.2.1 + 1)), (2, .int (x27.1 + (q4 - q6))), (0, .ref (sa 0)), (1, .int p1)]) hx hb dX0_waited_67 hl (k := 3) rfl (by first | rfl | decide) (by decide) rfl (fun ls hl => ?_)
        refine lv_goto (tgt := 27) hx hb dX0_waited_70 (by decide) ?_
        have hf := sm_e hf
        subst hf
        exact hin27 _ rfl _ _ _ hw (lv_sub hl [2, 3, 1, 0] rfl)
theorem hd_X0_ranks : yX0_ranks.cls = "DishLift" ∧ yX0_ranks.cls ≠ "java/lang/invoke/MethodHandle" ∧ yX0_ranks.cls ≠ "java/lang/invoke/VarHandle" ∧ (parseMethodDescriptor yX0_ranks.desc).map (fun d => d.parameters.length) = some 2 := by decide +kernel
set_option maxHeartbeats 4000000 in
theorem mX0_ranks (l : Launch)  (D : va_G) (d : Nat → ClassId) (cs : Nat → Nat) (wi : va_W) (ln : Nat → Option Int32) (lf : Nat → Nat → Option Nat) (dk : Nat → Option Nat) (dn : Nat → Int32) (him : ImF d wi ln lf dk dn) (ha : Nat → Nat) (ta : Nat → Nat) (sa : Nat → Nat) (hv : HV) (tv : HV) (gt : Int32) (gf : Int32) (gc : Int32) (tra : Nat) (gs : Int32) (LI : Nat → Int32) (BE : Nat → Int32) (p1 : Int32) (p2 : Int32)  (res : Int32 × (Nat → Int32) × (Nat → Int32) × HV) (hf : fX0_ranks ln lf dk hv tv LI BE p1 p2 = some res) : MetI l yX0_ranks (ws_ yX0_ranks cX0_ranks 6 (some .int)) { frames := 7, cells := 0, slots := 0, locals := 206 } [.ref (sa 0), .int p1, .int p2] (XI D cs wi) D d [oH ha (Hfl hv) (Hro hv) (Hrp hv) (Hca hv) (Hwy hv) (Hla hv) (Hmi hv) (Htf hv) (Htk hv), aV d ha 1 (HHO hv), aV d ha 2 (HAT hv), aV d ha 3 (HTO hv), aV d ha 4 (HWE hv), aV d ha 5 (HHE hv), aV d ha 6 (HRA hv), oS sa ha ta gt gf gc tra gs, ((sa 5), .inl (d 0, 6, .inl LI)), ((sa 6), .inl (d 0, 6, .inl BE)), oH ta (Hfl tv) (Hro tv) (Hrp tv) (Hca tv) (Hwy tv) (Hla tv) (Hmi tv) (Htf tv) (Htk tv), aV d ta 1 (HHO tv), aV d ta 2 (HAT tv), aV d ta 3 (HTO tv), aV d ta 4 (HWE tv), aV d ta 5 (HHE tv), aV d ta 6 (HRA tv)] (fun r (_ : Unit) => r = res.1) (fun _ => [oH ha (Hfl hv) (Hro hv) (Hrp hv) (Hca hv) (Hwy hv) (Hla hv) (Hmi hv) (Htf hv) (Htk hv), aV d ha 1 (HHO hv), aV d ha 2 (HAT hv), aV d ha 3 (HTO hv), aV d ha 4 (HWE hv), aV d ha 5 (HHE hv), aV d ha 6 (HRA hv), oS sa ha ta gt gf gc tra gs, ((sa 5), .inl (d 0, 6, .inl res.2.1)), ((sa 6), .inl (d 0, 6, .inl res.2.2.1)), oH ta (Hfl res.2.2.2) (Hro res.2.2.2) (Hrp res.2.2.2) (Hca res.2.2.2) (Hwy res.2.2.2) (Hla res.2.2.2) (Hmi res.2.2.2) (Htf res.2.2.2) (Htk res.2.2.2), aV d ta 1 (HHO res.2.2.2), aV d ta 2 (HAT res.2.2.2), aV d ta 3 (HTO res.2.2.2), aV d ta 4 (HWE res.2.2.2), aV d ta 5 (HHE res.2.2.2), aV d ta 6 (HRA res.2.2.2)]) := by
  have hX := XI.ok (D := D) (cs := cs) (wi := wi)
  refine MetI.of (by decide +kernel) (Nat.le_of_ble_eq_true rfl) ?_
  intro p e s m below meth c A cx hw ls hl
  have cx : Cx p s m _ meth c (XI D cs wi) D d A "DishLift" cX0_ranks 6 (some .int) "ranks" := cx
  have cx' := cx
  obtain ⟨hx, hb, hr, hlk, hml, hown, hts, hK, hA, hXs, hnm⟩ := cx'
  have hl : lv_has ls 6 [(0, .ref (sa 0)), (1, .int p1), (2, .int p2)] := hl
  unfold fX0_ranks at hf
  refine lv_aload_n hx hb dX0_ranks_0 rfl (lv_at hl 0 rfl) ?_
  obtain ⟨q1, hcq1, hf⟩ := op_e hf
  refine x_VI (wr := [((sa 5), .inl (d 0, 6, .inl LI)), ((sa 6), .inl (d 0, 6, .inl BE)), oH ta (Hfl tv) (Hro tv) (Hrp tv) (Hca tv) (Hwy tv) (Hla tv) (Hmi tv) (Htf tv) (Htk tv), aV d ta 1 (HHO tv), aV d ta 2 (HAT tv), aV d ta 3 (HTO tv), aV d ta 4 (HWE tv), aV d ta 5 (HHE tv), aV d ta 6 (HRA tv)]) (rest := []) [] hX cx hw hl.1 (mX0_isHouse l  D d cs wi ln lf dk dn him ha sa ta hv gt gf gc tra gs q1 hcq1) (lw_V q769 q771 qs17 q82 q772) hd_X0_isHouse ⟨(Nat.le_of_ble_eq_true rfl), (Nat.le_of_ble_eq_true rfl)⟩ (va_recv hK hw.1 (ci := 1) (q0 := 7) rfl rfl) rfl rfl (Nat.le_of_ble_eq_true rfl) dX0_ranks_1 [0, 1, 2, 3, 4, 5, 6, 7] [8, 9, 10, 11, 12, 13, 14, 15, 16] rfl rfl rfl rfl (by decide) ⟨(Nat.le_of_ble_eq_true rfl), (Nat.le_of_ble_eq_true rfl)⟩ (fun r u H locs hp hw => ?_)
  have hw : Wd D A s [((sa 5), .inl (d 0, 6, .inl LI)), ((sa 6), .inl (d 0, 6, .inl BE)), oH ta (Hfl tv) (Hro tv) (Hrp tv) (Hca tv) (Hwy tv) (Hla tv) (Hmi tv) (Htf tv) (Htk tv), aV d ta 1 (HHO tv), aV d ta 2 (HAT tv), aV d ta 3 (HTO tv), aV d ta 4 (HWE tv), aV d ta 5 (HHE tv), aV d ta 6 (HRA tv), oH ha (Hfl hv) (Hro hv) (Hrp hv) (Hca hv) (Hwy hv) (Hla hv) (Hmi hv) (Htf hv) (Htk hv), aV d ha 1 (HHO hv), aV d ha 2 (HAT hv), aV d ha 3 (HTO hv), aV d ha 4 (HWE hv), aV d ha 5 (HHE hv), aV d ha 6 (HRA hv), oS sa ha ta gt gf gc tra gs] H locs := hw
  subst r
  refine lv_if_ne (tgt := 10) hx hb dX0_ranks_4 (by decide) (fun c4 => ?_) (fun c4 => ?_)
  · have hf := if_f hf c4
    refine lv_iload_n hx hb dX0_ranks_10 rfl (lv_at hl 1 rfl) ?_
    obtain ⟨q2, hcq2, hf⟩ := op_e hf
    refine x_SI (wr := [((sa 5), .inl (d 0, 6, .inl LI)), ((sa 6), .inl (d 0, 6, .inl BE)), oH ta (Hfl tv) (Hro tv) (Hrp tv) (Hca tv) (Hwy tv) (Hla tv) (Hmi tv) (Htf tv) (Htk tv), aV d ta 1 (HHO tv), aV d ta 2 (HAT tv), aV d ta 3 (HTO tv), aV d ta 4 (HWE tv), aV d ta 5 (HHE tv), aV d ta 6 (HRA tv), oH ha (Hfl hv) (Hro hv) (Hrp hv) (Hca hv) (Hwy hv) (Hla hv) (Hmi hv) (Htf hv) (Htk hv), aV d ha 1 (HHO hv), aV d ha 2 (HAT hv), aV d ha 3 (HTO hv), aV d ha 4 (HWE hv), aV d ha 5 (HHE hv), aV d ha 6 (HRA hv), oS sa ha ta gt gf gc tra gs]) (rest := []) [.int p1] hX cx hw hl.1 (mX0_isNear l (XI D cs wi) hX D d  p1 q2 hcq2) (lw_S q970 q971 q82 q972) hd_X0_isNear ⟨(Nat.le_of_ble_eq_true rfl), (Nat.le_of_ble_eq_true rfl)⟩ rfl rfl (Nat.le_of_ble_eq_true rfl) dX0_ranks_11 [] [0, 1, 2, 3, 4, 5, 6, 7, 8, 9, 10, 11, 12, 13, 14, 15, 16] rfl rfl rfl rfl (by decide) ⟨(Nat.le_of_ble_eq_true rfl), (Nat.le_of_ble_eq_true rfl)⟩ (fun r u H locs hp hw => ?_)
    have hw : Wd D A s [((sa 5), .inl (d 0, 6, .inl LI)), ((sa 6), .inl (d 0, 6, .inl BE)), oH ta (Hfl tv) (Hro tv) (Hrp tv) (Hca tv) (Hwy tv) (Hla tv) (Hmi tv) (Htf tv) (Htk tv), aV d ta 1 (HHO tv), aV d ta 2 (HAT tv), aV d ta 3 (HTO tv), aV d ta 4 (HWE tv), aV d ta 5 (HHE tv), aV d ta 6 (HRA tv), oH ha (Hfl hv) (Hro hv) (Hrp hv) (Hca hv) (Hwy hv) (Hla hv) (Hmi hv) (Htf hv) (Htk hv), aV d ha 1 (HHO hv), aV d ha 2 (HAT hv), aV d ha 3 (HTO hv), aV d ha 4 (HWE hv), aV d ha 5 (HHE hv), aV d ha 6 (HRA hv), oS sa ha ta gt gf gc tra gs] H locs := hw
    subst r
    refine lv_if_eq (tgt := 22) hx hb dX0_ranks_14 (by decide) (fun c14 => ?_) (fun c14 => ?_)
    · have hf := if_t hf c14
      refine lv_ldc (v := (-1000001)) hx hb hown (hts _ q350) dX0_ranks_22 ?_
      have hf := sm_e hf
      subst hf
      exact x_retI cx hw rfl () rfl [9, 10, 11, 12, 13, 14, 15, 16, 0, 1, 2, 3, 4, 5, 6, 7, 8] rfl rfl (Nat.le_of_ble_eq_true rfl) (Nat.le_of_ble_eq_true rfl) dX0_ranks_24
    · have hf := if_f hf c14
      refine lv_iload_n hx hb dX0_ranks_17 rfl (lv_at hl 2 rfl) ?_
      refine lv_iconst (v := (-1)) hx hb dX0_ranks_18 (by decide) ?_
      refine lv_icmp_ge (tgt := 25) hx hb dX0_ranks_19 (by decide) (fun c19 => ?_) (fun c19 => ?_)
      · have hf := if_t hf c19
        refine lv_iconst (v := 0) hx hb dX0_ranks_25 (by decide) ?_
        refine lv_istore_n (lv' := [(3, .int 0), (0, .ref (sa 0)), (1, .int p1), (2, .int p2)]) hx hb dX0_ranks_26 rfl hl (by decide) rfl (fun ls hl => ?_)
        obtain ⟨r3, hlp27, hf⟩ := op_e hf
        refine x_join (A := A) (D := D) (J := 46) (nL := 6) (cells' := 0) (slots' := 0) (st := []) [oH ha (Hfl hv) (Hro hv) (Hrp hv) (Hca hv) (Hwy hv) (Hla hv) (Hmi hv) (Htf hv) (Htk hv), aV d ha 1 (HHO hv), aV d ha 2 (HAT hv), aV d ha 3 (HTO hv), aV d ha 4 (HWE hv), aV d ha 5 (HHE hv), aV d ha 6 (HRA hv), oS sa ha ta gt gf gc tra gs, ((sa 5), .inl (d 0, 6, .inl r3)), ((sa 6), .inl (d 0, 6, .inl BE)), oH ta (Hfl tv) (Hro tv) (Hrp tv) (Hca tv) (Hwy tv) (Hla tv) (Hmi tv) (Htf tv) (Htk tv), aV d ta 1 (HHO tv), aV d ta 2 (HAT tv), aV d ta 3 (HTO tv), aV d ta 4 (HWE tv), aV d ta 5 (HHE tv), aV d ta 6 (HRA tv)] [(0, .ref (sa 0)), (1, .int p1), (2, .int p2)] (fun H locs ls hw hl => ?_) (fun hK27 => ?_)
        · refine lv_ldcw (v := (-1000000)) hx hb hown (hts _ q948) dX0_ranks_46 ?_
          refine lv_istore_n (lv' := [(3, .int (-1000000)), (0, .ref (sa 0)), (1, .int p1), (2, .int p2)]) hx hb dX0_ranks_49 rfl hl (by decide) rfl (fun ls hl => ?_)
          refine lv_iconst (v := 1) hx hb dX0_ranks_50 (by decide) ?_
          refine lv_istore (lv' := [(4, .int 1), (3, .int (-1000000)), (0, .ref (sa 0)), (1, .int p1), (2, .int p2)]) hx hb dX0_ranks_51 hl (by decide) rfl (fun ls hl => ?_)
          obtain ⟨r4, hlp53, hf⟩ := op_e hf
          refine x_join (A := A) (D := D) (J := 105) (nL := 6) (cells' := 0) (slots' := 0) (st := []) [oH ha (Hfl hv) (Hro hv) (Hrp hv) (Hca hv) (Hwy hv) (Hla hv) (Hmi hv) (Htf hv) (Htk hv), aV d ha 1 (HHO hv), aV d ha 2 (HAT hv), aV d ha 3 (HTO hv), aV d ha 4 (HWE hv), aV d ha 5 (HHE hv), aV d ha 6 (HRA hv), oS sa ha ta gt gf gc tra gs, ((sa 5), .inl (d 0, 6, .inl r4.2.1)), ((sa 6), .inl (d 0, 6, .inl r4.2.2.1)), oH ta (Hfl r4.2.2.2) (Hro r4.2.2.2) (Hrp r4.2.2.2) (Hca r4.2.2.2) (Hwy r4.2.2.2) (Hla r4.2.2.2) (Hmi r4.2.2.2) (Htf r4.2.2.2) (Htk r4.2.2.2), aV d ta 1 (HHO r4.2.2.2), aV d ta 2 (HAT r4.2.2.2), aV d ta 3 (HTO r4.2.2.2), aV d ta 4 (HWE r4.2.2.2), aV d ta 5 (HHE r4.2.2.2), aV d ta 6 (HRA r4.2.2.2)] [(0, .ref (sa 0)), (2, .int p2), (3, .int r4.1)] (fun H locs ls hw hl => ?_) (fun hK53 => ?_)
          · refine lv_iload_n hx hb dX0_ranks_105 rfl (lv_at hl 1 rfl) ?_
            refine lv_iconst (v := (-1)) hx hb dX0_ranks_106 (by decide) ?_
            refine lv_icmp_ne (tgt := 114) hx hb dX0_ranks_107 (by decide) (fun c107 => ?_) (fun c107 => ?_)
            · have hf := if_f hf c107
              refine lv_aload_n hx hb dX0_ranks_114 rfl (lv_at hl 0 rfl) ?_
              refine lv_iload_n hx hb dX0_ranks_115 rfl (lv_at hl 1 rfl) ?_
              obtain ⟨q5, hcq5, hf⟩ := op_e hf
              refine x_VI (wr := [((sa 5), .inl (d 0, 6, .inl r4.2.1)), ((sa 6), .inl (d 0, 6, .inl r4.2.2.1)), oH ta (Hfl r4.2.2.2) (Hro r4.2.2.2) (Hrp r4.2.2.2) (Hca r4.2.2.2) (Hwy r4.2.2.2) (Hla r4.2.2.2) (Hmi r4.2.2.2) (Htf r4.2.2.2) (Htk r4.2.2.2), aV d ta 1 (HHO r4.2.2.2), aV d ta 2 (HAT r4.2.2.2), aV d ta 3 (HTO r4.2.2.2), aV d ta 4 (HWE r4.2.2.2), aV d ta 5 (HHE r4.2.2.2), aV d ta 6 (HRA r4.2.2.2)]) (rest := []) [.int p2] hX cx hw hl.1 (mX0_isDish l  D d cs wi ln lf dk dn him ha sa ta hv gt gf gc tra gs p2 q5 hcq5) (lw_V q890 q892 qs23 q82 q893) hd_X0_isDish ⟨(Nat.le_of_ble_eq_true rfl), (Nat.le_of_ble_eq_true rfl)⟩ (va_recv hK hw.1 (ci := 1) (q0 := 7) rfl rfl) rfl rfl (Nat.le_of_ble_eq_true rfl) dX0_ranks_116 [0, 1, 2, 3, 4, 5, 6, 7] [8, 9, 10, 11, 12, 13, 14, 15, 16] rfl rfl rfl rfl (by decide) ⟨(Nat.le_of_ble_eq_true rfl), (Nat.le_of_ble_eq_true rfl)⟩ (fun r u H locs hp hw => ?_)
              have hw : Wd D A s [((sa 5), .inl (d 0, 6, .inl r4.2.1)), ((sa 6), .inl (d 0, 6, .inl r4.2.2.1)), oH ta (Hfl r4.2.2.2) (Hro r4.2.2.2) (Hrp r4.2.2.2) (Hca r4.2.2.2) (Hwy r4.2.2.2) (Hla r4.2.2.2) (Hmi r4.2.2.2) (Htf r4.2.2.2) (Htk r4.2.2.2), aV d ta 1 (HHO r4.2.2.2), aV d ta 2 (HAT r4.2.2.2), aV d ta 3 (HTO r4.2.2.2), aV d ta 4 (HWE r4.2.2.2), aV d ta 5 (HHE r4.2.2.2), aV d ta 6 (HRA r4.2.2.2), oH ha (Hfl hv) (Hro hv) (Hrp hv) (Hca hv) (Hwy hv) (Hla hv) (Hmi hv) (Htf hv) (Htk hv), aV d ha 1 (HHO hv), aV d ha 2 (HAT hv), aV d ha 3 (HTO hv), aV d ha 4 (HWE hv), aV d ha 5 (HHE hv), aV d ha 6 (HRA hv), oS sa ha ta gt gf gc tra gs] H locs := hw
              subst r
              refine lv_if_eq (tgt := 131) hx hb dX0_ranks_119 (by decide) (fun c119 => ?_) (fun c119 => ?_)
              · have hf := if_t hf c119
                refine lv_ldcw (v := (-1000000)) hx hb hown (hts _ q948) dX0_ranks_131 ?_
                have hf := sm_e hf
                subst hf
                exact x_retI cx hw rfl () rfl [9, 10, 11, 12, 13, 14, 15, 16, 0, 1, 2, 3, 4, 5, 6, 7, 8] rfl rfl (Nat.le_of_ble_eq_true rfl) (Nat.le_of_ble_eq_true rfl) dX0_ranks_134
              · have hf := if_f hf c119
                refine lv_aload_n hx hb dX0_ranks_122 rfl (lv_at hl 0 rfl) ?_
                refine va_get (ci := 1) (C := RX0) (T := TX0) (N := 14) hx hb hts in_X0 hown hK hw.1 16 rfl rfl 12 (by decide) (hts _ q306) (fun _ h9 => h9) rfl dX0_ranks_123 ?_
                refine lv_iload_n hx hb dX0_ranks_126 rfl (lv_at hl 1 rfl) ?_
                obtain ⟨v6, hrd, hf⟩ := op_e hf
                refine x_iald (q0 := 1) cx hw rfl hrd dX0_ranks_127 ?_
                refine lv_goto (tgt := 134) hx hb dX0_ranks_128 (by decide) ?_
                have hf := sm_e hf
                subst hf
                exact x_retI cx hw rfl () rfl [9, 10, 11, 12, 13, 14, 15, 16, 0, 1, 2, 3, 4, 5, 6, 7, 8] rfl rfl (Nat.le_of_ble_eq_true rfl) (Nat.le_of_ble_eq_true rfl) dX0_ranks_134
            · have hf := if_t hf c107
              refine lv_iload_n hx hb dX0_ranks_110 rfl (lv_at hl 2 rfl) ?_
              refine lv_goto (tgt := 134) hx hb dX0_ranks_111 (by decide) ?_
              have hf := sm_e hf
              subst hf
              exact x_retI cx hw rfl () rfl [0, 1, 2, 3, 4, 5, 6, 7, 8, 9, 10, 11, 12, 13, 14, 15, 16] rfl rfl (Nat.le_of_ble_eq_true rfl) (Nat.le_of_ble_eq_true rfl) dX0_ranks_134
          · refine x_lp hlp53 (fun x53 => [oH ha (Hfl hv) (Hro hv) (Hrp hv) (Hca hv) (Hwy hv) (Hla hv) (Hmi hv) (Htf hv) (Htk hv), aV d ha 1 (HHO hv), aV d ha 2 (HAT hv), aV d ha 3 (HTO hv), aV d ha 4 (HWE hv), aV d ha 5 (HHE hv), aV d ha 6 (HRA hv), oS sa ha ta gt gf gc tra gs, ((sa 5), .inl (d 0, 6, .inl x53.2.2.1)), ((sa 6), .inl (d 0, 6, .inl x53.2.2.2.1)), oH ta (Hfl x53.2.2.2.2) (Hro x53.2.2.2.2) (Hrp x53.2.2.2.2) (Hca x53.2.2.2.2) (Hwy x53.2.2.2.2) (Hla x53.2.2.2.2) (Hmi x53.2.2.2.2) (Htf x53.2.2.2.2) (Htk x53.2.2.2.2), aV d ta 1 (HHO x53.2.2.2.2), aV d ta 2 (HAT x53.2.2.2.2), aV d ta 3 (HTO x53.2.2.2.2), aV d ta 4 (HWE x53.2.2.2.2), aV d ta 5 (HHE x53.2.2.2.2), aV d ta 6 (HRA x53.2.2.2.2)]) (fun x53 => [(0, .ref (sa 0)), (1, .int p1), (2, .int p2), (3, .int x53.1), (4, .int x53.2.1)]) hw (lv_sub hl [2, 3, 4, 1, 0] rfl) (fun x53 y53 hf hin53 hout53 H locs ls hw hl => ?_)
            have hw : Wd D A s [oH ha (Hfl hv) (Hro hv) (Hrp hv) (Hca hv) (Hwy hv) (Hla hv) (Hmi hv) (Htf hv) (Htk hv), aV d ha 1 (HHO hv), aV d ha 2 (HAT hv), aV d ha 3 (HTO hv), aV d ha 4 (HWE hv), aV d ha 5 (HHE hv), aV d ha 6 (HRA hv), oS sa ha ta gt gf gc tra gs, ((sa 5), .inl (d 0, 6, .inl x53.2.2.1)), ((sa 6), .inl (d 0, 6, .inl x53.2.2.2.1)), oH ta (Hfl x53.2.2.2.2) (Hro x53.2.2.2.2) (Hrp x53.2.2.2.2) (Hca x53.2.2.2.2) (Hwy x53.2.2.2.2) (Hla x53.2.2.2.2) (Hmi x53.2.2.2.2) (Htf x53.2.2.2.2) (Htk x53.2.2.2.2), aV d ta 1 (HHO x53.2.2.2.2), aV d ta 2 (HAT x53.2.2.2.2), aV d ta 3 (HTO x53.2.2.2.2), aV d ta 4 (HWE x53.2.2.2.2), aV d ta 5 (HHE x53.2.2.2.2), aV d ta 6 (HRA x53.2.2.2.2)] H locs := hw
            have hl : lv_has ls 6 [(0, .ref (sa 0)), (1, .int p1), (2, .int p2), (3, .int x53.1), (4, .int x53.2.1)] := hl
            refine lv_iload hx hb dX0_ranks_53 (lv_at hl 4 rfl) ?_
            refine lv_if_eq (tgt := 105) hx hb dX0_ranks_55 (by decide) (fun c55 => ?_) (fun c55 => ?_)
            · have hf := if_t hf c55
              have hf := sm_e hf
              subst hf
              have hz := hout53 _ rfl
              subst hz
              exact hK53 _ _ _ hw (lv_sub hl [0, 2, 3] rfl)
            · have hf := if_f hf c55
              refine lv_aload_n hx hb dX0_ranks_58 rfl (lv_at hl 0 rfl) ?_
              refine lv_iload_n hx hb dX0_ranks_59 rfl (lv_at hl 1 rfl) ?_
              obtain ⟨q7, hcq7, hf⟩ := op_e hf
              refine x_VI (wr := [((sa 6), .inl (d 0, 6, .inl x53.2.2.2.1))]) (rest := []) [.int p1] hX cx hw hl.1 (mX0_waited l  D d cs wi ln lf dk dn him ha ta sa hv x53.2.2.2.2 gt gf gc tra gs x53.2.2.1 p1 q7 hcq7) (lw_V q986 q988 qs26 q82 q989) hd_X0_waited ⟨(Nat.le_of_ble_eq_true rfl), (Nat.le_of_ble_eq_true rfl)⟩ (va_recv hK hw.1 (ci := 1) (q0 := 7) rfl rfl) rfl rfl (Nat.le_of_ble_eq_true rfl) dX0_ranks_60 [0, 1, 2, 3, 4, 5, 6, 7, 8, 10, 11, 12, 13, 14, 15, 16] [9] rfl rfl rfl rfl (by decide) ⟨(Nat.le_of_ble_eq_true rfl), (Nat.le_of_ble_eq_true rfl)⟩ (fun r u H locs hp hw => ?_)
              have hw : Wd D A s [((sa 6), .inl (d 0, 6, .inl x53.2.2.2.1)), oH ha (Hfl hv) (Hro hv) (Hrp hv) (Hca hv) (Hwy hv) (Hla hv) (Hmi hv) (Htf hv) (Htk hv), aV d ha 1 (HHO hv), aV d ha 2 (HAT hv), aV d ha 3 (HTO hv), aV d ha 4 (HWE hv), aV d ha 5 (HHE hv), aV d ha 6 (HRA hv), oS sa ha ta gt gf gc tra gs, ((sa 5), .inl (d 0, 6, .inl x53.2.2.1)), oH ta (Hfl q7.2) (Hro q7.2) (Hrp q7.2) (Hca q7.2) (Hwy q7.2) (Hla q7.2) (Hmi q7.2) (Htf q7.2) (Htk q7.2), aV d ta 1 (HHO q7.2), aV d ta 2 (HAT q7.2), aV d ta 3 (HTO q7.2), aV d ta 4 (HWE q7.2), aV d ta 5 (HHE q7.2), aV d ta 6 (HRA q7.2)] H locs := hw
              subst r
              refine lv_istore (lv' := [(5, .int q7.1), (0, .ref (sa 0)), (1, .int p1), (2, .int p2), (3, .int x53.1), (4, .int x53.2.1)]) hx hb dX0_ranks_63 hl (by decide) rfl (fun ls hl => ?_)
              refine lv_iload_n hx hb dX0_ranks_65 rfl (lv_at hl 4 rfl) ?_
              refine lv_ldcw (v := (-1000000)) hx hb hown (hts _ q948) dX0_ranks_66 ?_
              obtain ⟨j8, hjA, hjR⟩ := op_e hf
              refine x_join (A := A) (D := D) (J := 96) (nL := 6) (cells' := 0) (slots' := 0) (st := []) [oH ha (Hfl hv) (Hro hv) (Hrp hv) (Hca hv) (Hwy hv) (Hla hv) (Hmi hv) (Htf hv) (Htk hv), aV d ha 1 (HHO hv), aV d ha 2 (HAT hv), aV d ha 3 (HTO hv), aV d ha 4 (HWE hv), aV d ha 5 (HHE hv), aV d ha 6 (HRA hv), oS sa ha ta gt gf gc tra gs, ((sa 5), .inl (d 0, 6, .inl x53.2.2.1)), ((sa 6), .inl (d 0, 6, .inl j8.2)), oH ta (Hfl q7.2) (Hro q7.2) (Hrp q7.2) (Hca q7.2) (Hwy q7.2) (Hla q7.2) (Hmi q7.2) (Htf q7.2) (Htk q7.2), aV d ta 1 (HHO q7.2), aV d ta 2 (HAT q7.2), aV d ta 3 (HTO q7.2), aV d ta 4 (HWE q7.2), aV d ta 5 (HHE q7.2), aV d ta 6 (HRA q7.2)] [(0, .ref (sa 0)), (1, .int p1), (2, .int p2), (3, .int j8.1)] (fun H locs ls hw hl => ?_) (fun hKj96_j8 => ?_)
              · have hf := hjR
                refine lv_aload_n hx hb dX0_ranks_96 rfl (lv_at hl 0 rfl) ?_
                obtain ⟨q9, hcq9, hf⟩ := op_e hf
                refine x_VI (wr := [((sa 6), .inl (d 0, 6, .inl j8.2)), oH ta (Hfl q7.2) (Hro q7.2) (Hrp q7.2) (Hca q7.2) (Hwy q7.2) (Hla q7.2) (Hmi q7.2) (Htf q7.2) (Htk q7.2), aV d ta 1 (HHO q7.2), aV d ta 2 (HAT q7.2), aV d ta 3 (HTO q7.2), aV d ta 4 (HWE q7.2), aV d ta 5 (HHE q7.2), aV d ta 6 (HRA q7.2)]) (rest := []) [] hX cx hw hl.1 (mX0_isNext l  D d cs wi ln lf dk dn him ha sa ta hv gt gf gc tra gs x53.2.2.1 q9 hcq9) (lw_V q990 q992 qs27 q82 q993) hd_X0_isNext ⟨(Nat.le_of_ble_eq_true rfl), (Nat.le_of_ble_eq_true rfl)⟩ (va_recv hK hw.1 (ci := 1) (q0 := 7) rfl rfl) rfl rfl (Nat.le_of_ble_eq_true rfl) dX0_ranks_97 [0, 1, 2, 3, 4, 5, 6, 7, 8] [9, 10, 11, 12, 13, 14, 15, 16] rfl rfl rfl rfl (by decide) ⟨(Nat.le_of_ble_eq_true rfl), (Nat.le_of_ble_eq_true rfl)⟩ (fun r u H locs hp hw => ?_)
                have hw : Wd D A s [((sa 6), .inl (d 0, 6, .inl j8.2)), oH ta (Hfl q7.2) (Hro q7.2) (Hrp q7.2) (Hca q7.2) (Hwy q7.2) (Hla q7.2) (Hmi q7.2) (Htf q7.2) (Htk q7.2), aV d ta 1 (HHO q7.2), aV d ta 2 (HAT q7.2), aV d ta 3 (HTO q7.2), aV d ta 4 (HWE q7.2), aV d ta 5 (HHE q7.2), aV d ta 6 (HRA q7.2), oH ha (Hfl hv) (Hro hv) (Hrp hv) (Hca hv) (Hwy hv) (Hla hv) (Hmi hv) (Htf hv) (Htk hv), aV d ha 1 (HHO hv), aV d ha 2 (HAT hv), aV d ha 3 (HTO hv), aV d ha 4 (HWE hv), aV d ha 5 (HHE hv), aV d ha 6 (HRA hv), oS sa ha ta gt gf gc tra gs, ((sa 5), .inl (d 0, 6, .inl q9.2))] H locs := hw
                subst r
                refine lv_istore (lv' := [(4, .int q9.1), (0, .ref (sa 0)), (1, .int p1), (2, .int p2), (3, .int j8.1)]) hx hb dX0_ranks_100 hl (by decide) rfl (fun ls hl => ?_)
                refine lv_goto (tgt := 53) hx hb dX0_ranks_102 (by decide) ?_
                have hf := sm_e hf
                subst hf
                exact hin53 _ rfl _ _ _ (hw.sub [8, 9, 10, 11, 12, 13, 14, 15, 16, 0, 1, 2, 3, 4, 5, 6, 7] rfl rfl) (lv_sub hl [1, 2, 3, 4, 0] rfl)
              · have hf := hjA
                refine lv_icmp_eq (tgt := 78) hx hb dX0_ranks_69 (by decide) (fun c69 => ?_) (fun c69 => ?_)
                · have hf := if_t hf c69
                  refine lv_iload hx hb dX0_ranks_78 (lv_at hl 0 rfl) ?_
                  refine lv_istore_n (lv' := [(3, .int q7.1), (5, .int q7.1), (0, .ref (sa 0)), (1, .int p1), (2, .int p2), (4, .int x53.2.1)]) hx hb dX0_ranks_80 rfl hl (by decide) rfl (fun ls hl => ?_)
                  refine lv_aload_n hx hb dX0_ranks_81 rfl (lv_at hl 2 rfl) ?_
                  refine va_get (ci := 1) (C := RX0) (T := TX0) (N := 14) hx hb hts in_X0 hown hK hw.1 8 rfl rfl 11 (by decide) (hts _ q305) (fun _ h9 => h9) rfl dX0_ranks_82 ?_
                  refine lv_iconst (v := 0) hx hb dX0_ranks_85 (by decide) ?_
                  refine lv_aload_n hx hb dX0_ranks_86 rfl (lv_at hl 2 rfl) ?_
                  refine va_get (ci := 1) (C := RX0) (T := TX0) (N := 14) hx hb hts in_X0 hown hK hw.1 8 rfl rfl 12 (by decide) (hts _ q306) (fun _ h9 => h9) rfl dX0_ranks_87 ?_
                  refine lv_iconst (v := 0) hx hb dX0_ranks_90 (by decide) ?_
                  refine lv_bipush (v := 6) hx hb dX0_ranks_91 (by decide) ?_
                  refine va_copyi hx hb (hml.trans hl.1.symm) hown (hts _ q492) (hts _ q494) (hts _ q493) (hts _ q103) hK hw.1 hw.2.1 hw.2.2 9 0 0 0 rfl rfl rfl rfl rfl (by decide) (by decide) (by decide) (by decide) (by decide) (fun _ _ => rfl) (Nat.le_of_ble_eq_true rfl) (Nat.le_of_ble_eq_true rfl) dX0_ranks_93 (fun H locs hP hD hS => ?_)
                  have hw : Wd D A s [((sa 6), .inl (d 0, 6, .inl (va_cpy x53.2.2.1 x53.2.2.2.1 0 0 6))), oH ha (Hfl hv) (Hro hv) (Hrp hv) (Hca hv) (Hwy hv) (Hla hv) (Hmi hv) (Htf hv) (Htk hv), aV d ha 1 (HHO hv), aV d ha 2 (HAT hv), aV d ha 3 (HTO hv), aV d ha 4 (HWE hv), aV d ha 5 (HHE hv), aV d ha 6 (HRA hv), oS sa ha ta gt gf gc tra gs, ((sa 5), .inl (d 0, 6, .inl x53.2.2.1)), oH ta (Hfl q7.2) (Hro q7.2) (Hrp q7.2) (Hca q7.2) (Hwy q7.2) (Hla q7.2) (Hmi q7.2) (Htf q7.2) (Htk q7.2), aV d ta 1 (HHO q7.2), aV d ta 2 (HAT q7.2), aV d ta 3 (HTO q7.2), aV d ta 4 (HWE q7.2), aV d ta 5 (HHE q7.2), aV d ta 6 (HRA q7.2)] H locs := ⟨hP, hD, hS⟩
                  have hf := sm_e hf
                  subst hf
                  exact hKj96_j8 _ _ _ (hw.sub [1, 2, 3, 4, 5, 6, 7, 8, 9, 0, 10, 11, 12, 13, 14, 15, 16] rfl rfl) (lv_sub hl [2, 3, 4, 0] rfl)
                · have hf := if_f hf c69
                  refine lv_iload hx hb dX0_ranks_72 (lv_at hl 0 rfl) ?_
                  refine lv_iload_n hx hb dX0_ranks_74 rfl (lv_at hl 4 rfl) ?_
                  refine lv_icmp_ge (tgt := 96) hx hb dX0_ranks_75 (by decide) (fun c75 => ?_) (fun c75 => ?_)
                  · have hf := if_t hf c75
                    have hf := sm_e hf
                    subst hf
                    exact hKj96_j8 _ _ _ (hw.sub [1, 2, 3, 4, 5, 6, 7, 8, 9, 0, 10, 11, 12, 13, 14, 15, 16] rfl rfl) (lv_sub hl [1, 2, 3, 4] rfl)
                  · have hf := if_f hf c75
                    refine lv_iload hx hb dX0_ranks_78 (lv_at hl 0 rfl) ?_
                    refine lv_istore_n (lv' := [(3, .int q7.1), (5, .int q7.1), (0, .ref (sa 0)), (1, .int p1), (2, .int p2), (4, .int x53.2.1)]) hx hb dX0_ranks_80 rfl hl (by decide) rfl (fun ls hl => ?_)
                    refine lv_aload_n hx hb dX0_ranks_81 rfl (lv_at hl 2 rfl) ?_
                    refine va_get (ci := 1) (C := RX0) (T := TX0) (N := 14) hx hb hts in_X0 hown hK hw.1 8 rfl rfl 11 (by decide) (hts _ q305) (fun _ h9 => h9) rfl dX0_ranks_82 ?_
                    refine lv_iconst (v := 0) hx hb dX0_ranks_85 (by decide) ?_
                    refine lv_aload_n hx hb dX0_ranks_86 rfl (lv_at hl 2 rfl) ?_
                    refine va_get (ci := 1) (C := RX0) (T := TX0) (N := 14) hx hb hts in_X0 hown hK hw.1 8 rfl rfl 12 (by decide) (hts _ q306) (fun _ h9 => h9) rfl dX0_ranks_87 ?_
                    refine lv_iconst (v := 0) hx hb dX0_ranks_90 (by decide) ?_
                    refine lv_bipush (v := 6) hx hb dX0_ranks_91 (by decide) ?_
                    refine va_copyi hx hb (hml.trans hl.1.symm) hown (hts _ q492) (hts _ q494) (hts _ q493) (hts _ q103) hK hw.1 hw.2.1 hw.2.2 9 0 0 0 rfl rfl rfl rfl rfl (by decide) (by decide) (by decide) (by decide) (by decide) (fun _ _ => rfl) (Nat.le_of_ble_eq_true rfl) (Nat.le_of_ble_eq_true rfl) dX0_ranks_93 (fun H locs hP hD hS => ?_)
                    have hw : Wd D A s [((sa 6), .inl (d 0, 6, .inl (va_cpy x53.2.2.1 x53.2.2.2.1 0 0 6))), oH ha (Hfl hv) (Hro hv) (Hrp hv) (Hca hv) (Hwy hv) (Hla hv) (Hmi hv) (Htf hv) (Htk hv), aV d ha 1 (HHO hv), aV d ha 2 (HAT hv), aV d ha 3 (HTO hv), aV d ha 4 (HWE hv), aV d ha 5 (HHE hv), aV d ha 6 (HRA hv), oS sa ha ta gt gf gc tra gs, ((sa 5), .inl (d 0, 6, .inl x53.2.2.1)), oH ta (Hfl q7.2) (Hro q7.2) (Hrp q7.2) (Hca q7.2) (Hwy q7.2) (Hla q7.2) (Hmi q7.2) (Htf q7.2) (Htk q7.2), aV d ta 1 (HHO q7.2), aV d ta 2 (HAT q7.2), aV d ta 3 (HTO q7.2), aV d ta 4 (HWE q7.2), aV d ta 5 (HHE q7.2), aV d ta 6 (HRA q7.2)] H locs := ⟨hP, hD, hS⟩
                    have hf := sm_e hf
                    subst hf
                    exact hKj96_j8 _ _ _ (hw.sub [1, 2, 3, 4, 5, 6, 7, 8, 9, 0, 10, 11, 12, 13, 14, 15, 16] rfl rfl) (lv_sub hl [2, 3, 4, 0] rfl)
        · refine x_lp hlp27 (fun x27 => [oH ha (Hfl hv) (Hro hv) (Hrp hv) (Hca hv) (Hwy hv) (Hla hv) (Hmi hv) (Htf hv) (Htk hv), aV d ha 1 (HHO hv), aV d ha 2 (HAT hv), aV d ha 3 (HTO hv), aV d ha 4 (HWE hv), aV d ha 5 (HHE hv), aV d ha 6 (HRA hv), oS sa ha ta gt gf gc tra gs, ((sa 5), .inl (d 0, 6, .inl x27.2)), ((sa 6), .inl (d 0, 6, .inl BE)), oH ta (Hfl tv) (Hro tv) (Hrp tv) (Hca tv) (Hwy tv) (Hla tv) (Hmi tv) (Htf tv) (Htk tv), aV d ta 1 (HHO tv), aV d ta 2 (HAT tv), aV d ta 3 (HTO tv), aV d ta 4 (HWE tv), aV d ta 5 (HHE tv), aV d ta 6 (HRA tv)]) (fun x27 => [(0, .ref (sa 0)), (1, .int p1), (2, .int p2), (3, .int x27.1)]) (hw.sub [9, 10, 11, 12, 13, 14, 15, 16, 0, 1, 2, 3, 4, 5, 6, 7, 8] rfl rfl) (lv_sub hl [1, 2, 3, 0] rfl) (fun x27 y27 hf hin27 hout27 H locs ls hw hl => ?_)
          have hw : Wd D A s [oH ha (Hfl hv) (Hro hv) (Hrp hv) (Hca hv) (Hwy hv) (Hla hv) (Hmi hv) (Htf hv) (Htk hv), aV d ha 1 (HHO hv), aV d ha 2 (HAT hv), aV d ha 3 (HTO hv), aV d ha 4 (HWE hv), aV d ha 5 (HHE hv), aV d ha 6 (HRA hv), oS sa ha ta gt gf gc tra gs, ((sa 5), .inl (d 0, 6, .inl x27.2)), ((sa 6), .inl (d 0, 6, .inl BE)), oH ta (Hfl tv) (Hro tv) (Hrp tv) (Hca tv) (Hwy tv) (Hla tv) (Hmi tv) (Htf tv) (Htk tv), aV d ta 1 (HHO tv), aV d ta 2 (HAT tv), aV d ta 3 (HTO tv), aV d ta 4 (HWE tv), aV d ta 5 (HHE tv), aV d ta 6 (HRA tv)] H locs := hw
          have hl : lv_has ls 6 [(0, .ref (sa 0)), (1, .int p1), (2, .int p2), (3, .int x27.1)] := hl
          refine lv_iload_n hx hb dX0_ranks_27 rfl (lv_at hl 3 rfl) ?_
          refine lv_bipush (v := 6) hx hb dX0_ranks_28 (by decide) ?_
          refine lv_icmp_ge (tgt := 46) hx hb dX0_ranks_30 (by decide) (fun c30 => ?_) (fun c30 => ?_)
          · have hf := if_t hf c30
            have hf := sm_e hf
            subst hf
            have hz := hout27 _ rfl
            subst hz
            exact hK27 _ _ _ hw (lv_sub hl [0, 1, 2] rfl)
          · have hf := if_f hf c30
            refine lv_aload_n hx hb dX0_ranks_33 rfl (lv_at hl 0 rfl) ?_
            refine va_get (ci := 1) (C := RX0) (T := TX0) (N := 14) hx hb hts in_X0 hown hK hw.1 7 rfl rfl 11 (by decide) (hts _ q305) (fun _ h9 => h9) rfl dX0_ranks_34 ?_
            refine lv_iload_n hx hb dX0_ranks_37 rfl (lv_at hl 3 rfl) ?_
            refine lv_iload_n hx hb dX0_ranks_38 rfl (lv_at hl 3 rfl) ?_
            obtain ⟨w10, hrd, hf⟩ := op_e hf
            refine x_iast (q0 := 8) cx hw rfl hrd dX0_ranks_39 (fun H locs hw => ?_)
            have hw : Wd D A s [oH ha (Hfl hv) (Hro hv) (Hrp hv) (Hca hv) (Hwy hv) (Hla hv) (Hmi hv) (Htf hv) (Htk hv), aV d ha 1 (HHO hv), aV d ha 2 (HAT hv), aV d ha 3 (HTO hv), aV d ha 4 (HWE hv), aV d ha 5 (HHE hv), aV d ha 6 (HRA hv), oS sa ha ta gt gf gc tra gs, ((sa 5), .inl (d 0, 6, .inl w10)), ((sa 6), .inl (d 0, 6, .inl BE)), oH ta (Hfl tv) (Hro tv) (Hrp tv) (Hca tv) (Hwy tv) (Hla tv) (Hmi tv) (Htf tv) (Htk tv), aV d ta 1 (HHO tv), aV d ta 2 (HAT tv), aV d ta 3 (HTO tv), aV d ta 4 (HWE tv), aV d ta 5 (HHE tv), aV d ta 6 (HRA tv)] H locs := hw
            refine lv_iinc (v := (x27.1 + 1)) (lv' := [(3, .int (x27.1 + 1)), (0, .ref (sa 0)), (1, .int p1), (2, .int p2)]) hx hb dX0_ranks_40 hl (k := 3) rfl (by first | rfl | decide) (by decide) rfl (fun ls hl => ?_)
            refine lv_goto (tgt := 27) hx hb dX0_ranks_43 (by decide) ?_
            have hf := sm_e hf
            subst hf
            exact hin27 _ rfl _ _ _ hw (lv_sub hl [1, 2, 3, 0] rfl)
      · have hf := if_f hf c19
        refine lv_ldc (v := (-1000001)) hx hb hown (hts _ q350) dX0_ranks_22 ?_
        have hf := sm_e hf
        subst hf
        exact x_retI cx hw rfl () rfl [9, 10, 11, 12, 13, 14, 15, 16, 0, 1, 2, 3, 4, 5, 6, 7, 8] rfl rfl (Nat.le_of_ble_eq_true rfl) (Nat.le_of_ble_eq_true rfl) dX0_ranks_24
  · have hf := if_t hf c4
    refine lv_ldc (v := (-1000002)) hx hb hown (hts _ q764) dX0_ranks_7 ?_
    have hf := sm_e hf
    subst hf
    exact x_retI cx hw rfl () rfl [9, 10, 11, 12, 13, 14, 15, 16, 0, 1, 2, 3, 4, 5, 6, 7, 8] rfl rfl (Nat.le_of_ble_eq_true rfl) (Nat.le_of_ble_eq_true rfl) dX0_ranks_9
theorem hd_X0_weightOf : yX0_weightOf.cls = "DishLift" ∧ yX0_weightOf.cls ≠ "java/lang/invoke/MethodHandle" ∧ yX0_weightOf.cls ≠ "java/lang/invoke/VarHandle" ∧ (parseMethodDescriptor yX0_weightOf.desc).map (fun d => d.parameters.length) = some 1 := by decide +kernel
set_option maxHeartbeats 4000000 in
theorem mX0_weightOf (l : Launch)  (D : va_G) (d : Nat → ClassId) (cs : Nat → Nat) (wi : va_W) (ln : Nat → Option Int32) (lf : Nat → Nat → Option Nat) (dk : Nat → Option Nat) (dn : Nat → Int32) (him : ImF d wi ln lf dk dn) (ha : Nat → Nat) (sa : Nat → Nat) (ta : Nat → Nat) (hv : HV) (gt : Int32) (gf : Int32) (gc : Int32) (tra : Nat) (gs : Int32) (p1 : Int32)  (res : Int32) (hf : fX0_weightOf ln hv p1 = some res) : MetI l yX0_weightOf (ws_ yX0_weightOf cX0_weightOf 4 (some .int)) { frames := 2, cells := 0, slots := 0, locals := 60 } [.ref (sa 0), .int p1] (XI D cs wi) D d [oH ha (Hfl hv) (Hro hv) (Hrp hv) (Hca hv) (Hwy hv) (Hla hv) (Hmi hv) (Htf hv) (Htk hv), aV d ha 1 (HHO hv), aV d ha 2 (HAT hv), aV d ha 3 (HTO hv), aV d ha 4 (HWE hv), aV d ha 5 (HHE hv), aV d ha 6 (HRA hv), oS sa ha ta gt gf gc tra gs] (fun r (_ : Unit) => r = res) (fun _ => [oH ha (Hfl hv) (Hro hv) (Hrp hv) (Hca hv) (Hwy hv) (Hla hv) (Hmi hv) (Htf hv) (Htk hv), aV d ha 1 (HHO hv), aV d ha 2 (HAT hv), aV d ha 3 (HTO hv), aV d ha 4 (HWE hv), aV d ha 5 (HHE hv), aV d ha 6 (HRA hv), oS sa ha ta gt gf gc tra gs]) := by
  have hX := XI.ok (D := D) (cs := cs) (wi := wi)
  refine MetI.of (by decide +kernel) (Nat.le_of_ble_eq_true rfl) ?_
  intro p e s m below meth c A cx hw ls hl
  have cx : Cx p s m _ meth c (XI D cs wi) D d A "DishLift" cX0_weightOf 4 (some .int) "weightOf" := cx
  have cx' := cx
  obtain ⟨hx, hb, hr, hlk, hml, hown, hts, hK, hA, hXs, hnm⟩ := cx'
  have hl : lv_has ls 4 [(0, .ref (sa 0)), (1, .int p1)] := hl
  unfold fX0_weightOf at hf
  refine lv_iconst (v := 0) hx hb dX0_weightOf_0 (by decide) ?_
  refine lv_istore_n (lv' := [(2, .int 0), (0, .ref (sa 0)), (1, .int p1)]) hx hb dX0_weightOf_1 rfl hl (by decide) rfl (fun ls hl => ?_)
  refine lv_iconst (v := 0) hx hb dX0_weightOf_2 (by decide) ?_
  refine lv_istore_n (lv' := [(3, .int 0), (2, .int 0), (0, .ref (sa 0)), (1, .int p1)]) hx hb dX0_weightOf_3 rfl hl (by decide) rfl (fun ls hl => ?_)
  obtain ⟨r1, hlp4, hf⟩ := op_e hf
  refine x_join (A := A) (D := D) (J := 45) (nL := 4) (cells' := 0) (slots' := 0) (st := []) [oH ha (Hfl hv) (Hro hv) (Hrp hv) (Hca hv) (Hwy hv) (Hla hv) (Hmi hv) (Htf hv) (Htk hv), aV d ha 1 (HHO hv), aV d ha 2 (HAT hv), aV d ha 3 (HTO hv), aV d ha 4 (HWE hv), aV d ha 5 (HHE hv), aV d ha 6 (HRA hv), oS sa ha ta gt gf gc tra gs] [(2, .int r1)] (fun H locs ls hw hl => ?_) (fun hK4 => ?_)
  · refine lv_iload_n hx hb dX0_weightOf_45 rfl (lv_at hl 0 rfl) ?_
    have hf := sm_e hf
    subst hf
    exact x_retI cx hw rfl () rfl [0, 1, 2, 3, 4, 5, 6, 7] rfl rfl (Nat.le_of_ble_eq_true rfl) (Nat.le_of_ble_eq_true rfl) dX0_weightOf_46
  · refine x_lp hlp4 (fun x4 => [oH ha (Hfl hv) (Hro hv) (Hrp hv) (Hca hv) (Hwy hv) (Hla hv) (Hmi hv) (Htf hv) (Htk hv), aV d ha 1 (HHO hv), aV d ha 2 (HAT hv), aV d ha 3 (HTO hv), aV d ha 4 (HWE hv), aV d ha 5 (HHE hv), aV d ha 6 (HRA hv), oS sa ha ta gt gf gc tra gs]) (fun x4 => [(0, .ref (sa 0)), (1, .int p1), (2, .int x4.1), (3, .int x4.2)]) hw (lv_sub hl [2, 3, 1, 0] rfl) (fun x4 y4 hf hin4 hout4 H locs ls hw hl => ?_)
    have hw : Wd D A s [oH ha (Hfl hv) (Hro hv) (Hrp hv) (Hca hv) (Hwy hv) (Hla hv) (Hmi hv) (Htf hv) (Htk hv), aV d ha 1 (HHO hv), aV d ha 2 (HAT hv), aV d ha 3 (HTO hv), aV d ha 4 (HWE hv), aV d ha 5 (HHE hv), aV d ha 6 (HRA hv), oS sa ha ta gt gf gc tra gs] H locs := hw
    have hl : lv_has ls 4 [(0, .ref (sa 0)), (1, .int p1), (2, .int x4.1), (3, .int x4.2)] := hl
    refine lv_iload_n hx hb dX0_weightOf_4 rfl (lv_at hl 3 rfl) ?_
    refine lv_aload_n hx hb dX0_weightOf_5 rfl (lv_at hl 0 rfl) ?_
    refine va_get (ci := 1) (C := RX0) (T := TX0) (N := 14) hx hb hts in_X0 hown hK hw.1 7 rfl rfl 4 (by decide) (hts _ q298) (fun _ h9 => h9) rfl dX0_weightOf_6 ?_
    obtain ⟨q2, hcq2, hf⟩ := op_e hf
    refine x_VI (wr := [oS sa ha ta gt gf gc tra gs]) (rest := [.int x4.2]) [] hX cx hw hl.1 (vX1_many l  D d cs wi ln lf dk dn him ha hv q2 hcq2) (lw_V q755 q663 q664 q83 q665) hd_X1_many ⟨(Nat.le_of_ble_eq_true rfl), (Nat.le_of_ble_eq_true rfl)⟩ (va_recv hK hw.1 (ci := 2) (q0 := 0) rfl rfl) rfl rfl (Nat.le_of_ble_eq_true rfl) dX0_weightOf_9 [0, 1, 2, 3, 4, 5, 6] [7] rfl rfl rfl rfl (by decide) ⟨(Nat.le_of_ble_eq_true rfl), (Nat.le_of_ble_eq_true rfl)⟩ (fun r u H locs hp hw => ?_)
    have hw : Wd D A s [oS sa ha ta gt gf gc tra gs, oH ha (Hfl hv) (Hro hv) (Hrp hv) (Hca hv) (Hwy hv) (Hla hv) (Hmi hv) (Htf hv) (Htk hv), aV d ha 1 (HHO hv), aV d ha 2 (HAT hv), aV d ha 3 (HTO hv), aV d ha 4 (HWE hv), aV d ha 5 (HHE hv), aV d ha 6 (HRA hv)] H locs := hw
    subst r
    refine lv_icmp_ge (tgt := 45) hx hb dX0_weightOf_12 (by decide) (fun c12 => ?_) (fun c12 => ?_)
    · have hf := if_t hf c12
      have hf := sm_e hf
      subst hf
      have hz := hout4 _ rfl
      subst hz
      exact hK4 _ _ _ (hw.sub [1, 2, 3, 4, 5, 6, 7, 0] rfl rfl) (lv_sub hl [2] rfl)
    · have hf := if_f hf c12
      refine lv_iload_n hx hb dX0_weightOf_15 rfl (lv_at hl 2 rfl) ?_
      refine lv_iload_n hx hb dX0_weightOf_16 rfl (lv_at hl 1 rfl) ?_
      refine lv_iload_n hx hb dX0_weightOf_17 rfl (lv_at hl 3 rfl) ?_
      obtain ⟨q3, hcq3, hf⟩ := op_e hf
      refine x_SI (wr := [oS sa ha ta gt gf gc tra gs, oH ha (Hfl hv) (Hro hv) (Hrp hv) (Hca hv) (Hwy hv) (Hla hv) (Hmi hv) (Htf hv) (Htk hv), aV d ha 1 (HHO hv), aV d ha 2 (HAT hv), aV d ha 3 (HTO hv), aV d ha 4 (HWE hv), aV d ha 5 (HHE hv), aV d ha 6 (HRA hv)]) (rest := [.int x4.1]) [.int p1, .int x4.2] hX cx hw hl.1 (mX0_has l (XI D cs wi) hX D d  p1 x4.2 q3 hcq3) (lw_S q1006 q1007 q82 q1008) hd_X0_has ⟨(Nat.le_of_ble_eq_true rfl), (Nat.le_of_ble_eq_true rfl)⟩ rfl rfl (Nat.le_of_ble_eq_true rfl) dX0_weightOf_18 [] [0, 1, 2, 3, 4, 5, 6, 7] rfl rfl rfl rfl (by decide) ⟨(Nat.le_of_ble_eq_true rfl), (Nat.le_of_ble_eq_true rfl)⟩ (fun r u H locs hp hw => ?_)
      have hw : Wd D A s [oS sa ha ta gt gf gc tra gs, oH ha (Hfl hv) (Hro hv) (Hrp hv) (Hca hv) (Hwy hv) (Hla hv) (Hmi hv) (Htf hv) (Htk hv), aV d ha 1 (HHO hv), aV d ha 2 (HAT hv), aV d ha 3 (HTO hv), aV d ha 4 (HWE hv), aV d ha 5 (HHE hv), aV d ha 6 (HRA hv)] H locs := hw
      subst r
      refine lv_if_eq (tgt := 36) hx hb dX0_weightOf_21 (by decide) (fun c21 => ?_) (fun c21 => ?_)
      · have hf := if_t hf c21
        refine lv_iconst (v := 0) hx hb dX0_weightOf_36 (by decide) ?_
        refine lv_iadd hx hb dX0_weightOf_37 ?_
        refine lv_istore_n (lv' := [(2, .int (x4.1 + 0)), (0, .ref (sa 0)), (1, .int p1), (3, .int x4.2)]) hx hb dX0_weightOf_38 rfl hl (by decide) rfl (fun ls hl => ?_)
        refine lv_iinc (v := (x4.2 + 1)) (lv' := [(3, .int (x4.2 + 1)), (2, .int (x4.1 + 0)), (0, .ref (sa 0)), (1, .int p1)]) hx hb dX0_weightOf_39 hl (k := 3) rfl (by first | rfl | decide) (by decide) rfl (fun ls hl => ?_)
        refine lv_goto (tgt := 4) hx hb dX0_weightOf_42 (by decide) ?_
        have hf := sm_e hf
        subst hf
        exact hin4 _ rfl _ _ _ (hw.sub [1, 2, 3, 4, 5, 6, 7, 0] rfl rfl) (lv_sub hl [2, 3, 1, 0] rfl)
      · have hf := if_f hf c21
        refine lv_aload_n hx hb dX0_weightOf_24 rfl (lv_at hl 0 rfl) ?_
        refine va_get (ci := 1) (C := RX0) (T := TX0) (N := 14) hx hb hts in_X0 hown hK hw.1 0 rfl rfl 4 (by decide) (hts _ q298) (fun _ h9 => h9) rfl dX0_weightOf_25 ?_
        refine va_get (ci := 2) (C := RX1) (T := TX1) (N := 15) hx hb hts in_X1 hown hK hw.1 1 rfl rfl 9 (by decide) (hts _ q186) (fun _ h9 => h9) rfl dX0_weightOf_28 ?_
        refine lv_iload_n hx hb dX0_weightOf_31 rfl (lv_at hl 3 rfl) ?_
        obtain ⟨v4, hrd, hf⟩ := op_e hf
        refine x_iald (q0 := 5) cx hw rfl hrd dX0_weightOf_32 ?_
        refine lv_goto (tgt := 37) hx hb dX0_weightOf_33 (by decide) ?_
        refine lv_iadd hx hb dX0_weightOf_37 ?_
        refine lv_istore_n (lv' := [(2, .int (x4.1 + v4)), (0, .ref (sa 0)), (1, .int p1), (3, .int x4.2)]) hx hb dX0_weightOf_38 rfl hl (by decide) rfl (fun ls hl => ?_)
        refine lv_iinc (v := (x4.2 + 1)) (lv' := [(3, .int (x4.2 + 1)), (2, .int (x4.1 + v4)), (0, .ref (sa 0)), (1, .int p1)]) hx hb dX0_weightOf_39 hl (k := 3) rfl (by first | rfl | decide) (by decide) rfl (fun ls hl => ?_)
        refine lv_goto (tgt := 4) hx hb dX0_weightOf_42 (by decide) ?_
        have hf := sm_e hf
        subst hf
        exact hin4 _ rfl _ _ _ (hw.sub [1, 2, 3, 4, 5, 6, 7, 0] rfl rfl) (lv_sub hl [2, 3, 1, 0] rfl)
theorem hd_X0_holds : yX0_holds.cls = "DishLift" ∧ yX0_holds.cls ≠ "java/lang/invoke/MethodHandle" ∧ yX0_holds.cls ≠ "java/lang/invoke/VarHandle" ∧ (parseMethodDescriptor yX0_holds.desc).map (fun d => d.parameters.length) = some 1 := by decide +kernel
set_option maxHeartbeats 4000000 in
theorem mX0_holds (l : Launch)  (D : va_G) (d : Nat → ClassId) (cs : Nat → Nat) (wi : va_W) (ln : Nat → Option Int32) (lf : Nat → Nat → Option Nat) (dk : Nat → Option Nat) (dn : Nat → Int32) (him : ImF d wi ln lf dk dn) (ha : Nat → Nat) (sa : Nat → Nat) (ta : Nat → Nat) (hv : HV) (gt : Int32) (gf : Int32) (gc : Int32) (tra : Nat) (gs : Int32) (p1 : Int32)  (res : Int32) (hf : fX0_holds ln hv p1 = some res) : MetI l yX0_holds (ws_ yX0_holds cX0_holds 7 (some .int)) { frames := 3, cells := 0, slots := 0, locals := 83 } [.ref (sa 0), .int p1] (XI D cs wi) D d [oH ha (Hfl hv) (Hro hv) (Hrp hv) (Hca hv) (Hwy hv) (Hla hv) (Hmi hv) (Htf hv) (Htk hv), aV d ha 1 (HHO hv), aV d ha 2 (HAT hv), aV d ha 3 (HTO hv), aV d ha 4 (HWE hv), aV d ha 5 (HHE hv), aV d ha 6 (HRA hv), oS sa ha ta gt gf gc tra gs] (fun r (_ : Unit) => r = res) (fun _ => [oH ha (Hfl hv) (Hro hv) (Hrp hv) (Hca hv) (Hwy hv) (Hla hv) (Hmi hv) (Htf hv) (Htk hv), aV d ha 1 (HHO hv), aV d ha 2 (HAT hv), aV d ha 3 (HTO hv), aV d ha 4 (HWE hv), aV d ha 5 (HHE hv), aV d ha 6 (HRA hv), oS sa ha ta gt gf gc tra gs]) := by
  have hX := XI.ok (D := D) (cs := cs) (wi := wi)
  refine MetI.of (by decide +kernel) (Nat.le_of_ble_eq_true rfl) ?_
  intro p e s m below meth c A cx hw ls hl
  have cx : Cx p s m _ meth c (XI D cs wi) D d A "DishLift" cX0_holds 7 (some .int) "holds" := cx
  have cx' := cx
  obtain ⟨hx, hb, hr, hlk, hml, hown, hts, hK, hA, hXs, hnm⟩ := cx'
  have hl : lv_has ls 7 [(0, .ref (sa 0)), (1, .int p1)] := hl
  unfold fX0_holds at hf
  refine lv_aload_n hx hb dX0_holds_0 rfl (lv_at hl 0 rfl) ?_
  obtain ⟨q1, hcq1, hf⟩ := op_e hf
  refine x_VI (wr := []) (rest := []) [] hX cx hw hl.1 (mX0_isHouse l  D d cs wi ln lf dk dn him ha sa ta hv gt gf gc tra gs q1 hcq1) (lw_V q769 q771 qs17 q82 q772) hd_X0_isHouse ⟨(Nat.le_of_ble_eq_true rfl), (Nat.le_of_ble_eq_true rfl)⟩ (va_recv hK hw.1 (ci := 1) (q0 := 7) rfl rfl) rfl rfl (Nat.le_of_ble_eq_true rfl) dX0_holds_1 [0, 1, 2, 3, 4, 5, 6, 7] [] rfl rfl rfl rfl (by decide) ⟨(Nat.le_of_ble_eq_true rfl), (Nat.le_of_ble_eq_true rfl)⟩ (fun r u H locs hp hw => ?_)
  have hw : Wd D A s [oH ha (Hfl hv) (Hro hv) (Hrp hv) (Hca hv) (Hwy hv) (Hla hv) (Hmi hv) (Htf hv) (Htk hv), aV d ha 1 (HHO hv), aV d ha 2 (HAT hv), aV d ha 3 (HTO hv), aV d ha 4 (HWE hv), aV d ha 5 (HHE hv), aV d ha 6 (HRA hv), oS sa ha ta gt gf gc tra gs] H locs := hw
  subst r
  refine lv_if_ne (tgt := 10) hx hb dX0_holds_4 (by decide) (fun c4 => ?_) (fun c4 => ?_)
  · have hf := if_f hf c4
    refine lv_iload_n hx hb dX0_holds_10 rfl (lv_at hl 1 rfl) ?_
    refine lv_i2l (v := p1.toInt64) hx hb dX0_holds_11 rfl ?_
    refine lv_lconst (v := 0) hx hb dX0_holds_12 (by decide) ?_
    refine lv_ldc2 (v := 2) hx hb hown (hts _ q349) dX0_holds_13 ?_
    obtain ⟨q2, hcq2, hf⟩ := op_e hf
    refine x_SI (wr := [oH ha (Hfl hv) (Hro hv) (Hrp hv) (Hca hv) (Hwy hv) (Hla hv) (Hmi hv) (Htf hv) (Htk hv), aV d ha 1 (HHO hv), aV d ha 2 (HAT hv), aV d ha 3 (HTO hv), aV d ha 4 (HWE hv), aV d ha 5 (HHE hv), aV d ha 6 (HRA hv), oS sa ha ta gt gf gc tra gs]) (rest := []) [.long p1.toInt64, .long 0, .long 2] hX cx hw hl.1 (mX0_isIn l (XI D cs wi) hX D d  p1.toInt64 0 2 q2 hcq2) (lw_S q346 q347 q82 q348) hd_X0_isIn ⟨(Nat.le_of_ble_eq_true rfl), (Nat.le_of_ble_eq_true rfl)⟩ rfl rfl (Nat.le_of_ble_eq_true rfl) dX0_holds_16 [] [0, 1, 2, 3, 4, 5, 6, 7] rfl rfl rfl rfl (by decide) ⟨(Nat.le_of_ble_eq_true rfl), (Nat.le_of_ble_eq_true rfl)⟩ (fun r u H locs hp hw => ?_)
    have hw : Wd D A s [oH ha (Hfl hv) (Hro hv) (Hrp hv) (Hca hv) (Hwy hv) (Hla hv) (Hmi hv) (Htf hv) (Htk hv), aV d ha 1 (HHO hv), aV d ha 2 (HAT hv), aV d ha 3 (HTO hv), aV d ha 4 (HWE hv), aV d ha 5 (HHE hv), aV d ha 6 (HRA hv), oS sa ha ta gt gf gc tra gs] H locs := hw
    subst r
    refine lv_if_ne (tgt := 25) hx hb dX0_holds_19 (by decide) (fun c19 => ?_) (fun c19 => ?_)
    · have hf := if_f hf c19
      refine lv_aload_n hx hb dX0_holds_25 rfl (lv_at hl 0 rfl) ?_
      refine va_get (ci := 1) (C := RX0) (T := TX0) (N := 14) hx hb hts in_X0 hown hK hw.1 7 rfl rfl 4 (by decide) (hts _ q298) (fun _ h9 => h9) rfl dX0_holds_26 ?_
      refine lv_iconst (v := 0) hx hb dX0_holds_29 (by decide) ?_
      obtain ⟨q3, hcq3, hf⟩ := op_e hf
      refine x_VI (wr := [oS sa ha ta gt gf gc tra gs]) (rest := []) [.int 0] hX cx hw hl.1 (vX1_areSo l  D d cs wi ln lf dk dn him ha hv 0 q3 hcq3) (lw_V q867 q788 q789 q83 q790) hd_X1_areSo ⟨(Nat.le_of_ble_eq_true rfl), (Nat.le_of_ble_eq_true rfl)⟩ (va_recv hK hw.1 (ci := 2) (q0 := 0) rfl rfl) rfl rfl (Nat.le_of_ble_eq_true rfl) dX0_holds_30 [0, 1, 2, 3, 4, 5, 6] [7] rfl rfl rfl rfl (by decide) ⟨(Nat.le_of_ble_eq_true rfl), (Nat.le_of_ble_eq_true rfl)⟩ (fun r u H locs hp hw => ?_)
      have hw : Wd D A s [oS sa ha ta gt gf gc tra gs, oH ha (Hfl hv) (Hro hv) (Hrp hv) (Hca hv) (Hwy hv) (Hla hv) (Hmi hv) (Htf hv) (Htk hv), aV d ha 1 (HHO hv), aV d ha 2 (HAT hv), aV d ha 3 (HTO hv), aV d ha 4 (HWE hv), aV d ha 5 (HHE hv), aV d ha 6 (HRA hv)] H locs := hw
      subst r
      refine lv_aload_n hx hb dX0_holds_33 rfl (lv_at hl 0 rfl) ?_
      refine va_get (ci := 1) (C := RX0) (T := TX0) (N := 14) hx hb hts in_X0 hown hK hw.1 0 rfl rfl 4 (by decide) (hts _ q298) (fun _ h9 => h9) rfl dX0_holds_34 ?_
      refine lv_iconst (v := 1) hx hb dX0_holds_37 (by decide) ?_
      obtain ⟨q4, hcq4, hf⟩ := op_e hf
      refine x_VI (wr := [oS sa ha ta gt gf gc tra gs]) (rest := [.int q3]) [.int 1] hX cx hw hl.1 (vX1_areSo l  D d cs wi ln lf dk dn him ha hv 1 q4 hcq4) (lw_V q867 q788 q789 q83 q790) hd_X1_areSo ⟨(Nat.le_of_ble_eq_true rfl), (Nat.le_of_ble_eq_true rfl)⟩ (va_recv hK hw.1 (ci := 2) (q0 := 1) rfl rfl) rfl rfl (Nat.le_of_ble_eq_true rfl) dX0_holds_38 [1, 2, 3, 4, 5, 6, 7] [0] rfl rfl rfl rfl (by decide) ⟨(Nat.le_of_ble_eq_true rfl), (Nat.le_of_ble_eq_true rfl)⟩ (fun r u H locs hp hw => ?_)
      have hw : Wd D A s [oS sa ha ta gt gf gc tra gs, oH ha (Hfl hv) (Hro hv) (Hrp hv) (Hca hv) (Hwy hv) (Hla hv) (Hmi hv) (Htf hv) (Htk hv), aV d ha 1 (HHO hv), aV d ha 2 (HAT hv), aV d ha 3 (HTO hv), aV d ha 4 (HWE hv), aV d ha 5 (HHE hv), aV d ha 6 (HRA hv)] H locs := hw
      subst r
      refine lv_ior hx hb dX0_holds_41 ?_
      refine lv_istore_n (lv' := [(2, .int (q3 ||| q4)), (0, .ref (sa 0)), (1, .int p1)]) hx hb dX0_holds_42 rfl hl (by decide) rfl (fun ls hl => ?_)
      refine lv_iconst (v := 0) hx hb dX0_holds_43 (by decide) ?_
      refine lv_istore_n (lv' := [(3, .int 0), (2, .int (q3 ||| q4)), (0, .ref (sa 0)), (1, .int p1)]) hx hb dX0_holds_44 rfl hl (by decide) rfl (fun ls hl => ?_)
      refine lv_iconst (v := 0) hx hb dX0_holds_45 (by decide) ?_
      refine lv_istore (lv' := [(4, .int 0), (3, .int 0), (2, .int (q3 ||| q4)), (0, .ref (sa 0)), (1, .int p1)]) hx hb dX0_holds_46 hl (by decide) rfl (fun ls hl => ?_)
      refine lv_iconst (v := 0) hx hb dX0_holds_48 (by decide) ?_
      refine lv_istore (lv' := [(5, .int 0), (4, .int 0), (3, .int 0), (2, .int (q3 ||| q4)), (0, .ref (sa 0)), (1, .int p1)]) hx hb dX0_holds_49 hl (by decide) rfl (fun ls hl => ?_)
      obtain ⟨r5, hlp51, hf⟩ := op_e hf
      refine x_join (A := A) (D := D) (J := 156) (nL := 7) (cells' := 0) (slots' := 0) (st := []) [oH ha (Hfl hv) (Hro hv) (Hrp hv) (Hca hv) (Hwy hv) (Hla hv) (Hmi hv) (Htf hv) (Htk hv), aV d ha 1 (HHO hv), aV d ha 2 (HAT hv), aV d ha 3 (HTO hv), aV d ha 4 (HWE hv), aV d ha 5 (HHE hv), aV d ha 6 (HRA hv), oS sa ha ta gt gf gc tra gs] [(0, .ref (sa 0)), (1, .int p1), (3, .int r5.1), (4, .int r5.2)] (fun H locs ls hw hl => ?_) (fun hK51 => ?_)
      · refine lv_iload_n hx hb dX0_holds_156 rfl (lv_at hl 1 rfl) ?_
        refine lv_if_ne (tgt := 164) hx hb dX0_holds_157 (by decide) (fun c157 => ?_) (fun c157 => ?_)
        · have hf := if_f hf c157
          refine lv_iload_n hx hb dX0_holds_164 rfl (lv_at hl 1 rfl) ?_
          refine lv_iconst (v := 1) hx hb dX0_holds_165 (by decide) ?_
          refine lv_icmp_ne (tgt := 174) hx hb dX0_holds_166 (by decide) (fun c166 => ?_) (fun c166 => ?_)
          · have hf := if_f hf c166
            refine lv_aload_n hx hb dX0_holds_174 rfl (lv_at hl 0 rfl) ?_
            refine lv_iload hx hb dX0_holds_175 (lv_at hl 3 rfl) ?_
            obtain ⟨q6, hcq6, hf⟩ := op_e hf
            refine x_VI (wr := []) (rest := []) [.int r5.2] hX cx hw hl.1 (mX0_weightOf l  D d cs wi ln lf dk dn him ha sa ta hv gt gf gc tra gs r5.2 q6 hcq6) (lw_V q1002 q1004 qs29 q82 q1005) hd_X0_weightOf ⟨(Nat.le_of_ble_eq_true rfl), (Nat.le_of_ble_eq_true rfl)⟩ (va_recv hK hw.1 (ci := 1) (q0 := 7) rfl rfl) rfl rfl (Nat.le_of_ble_eq_true rfl) dX0_holds_177 [0, 1, 2, 3, 4, 5, 6, 7] [] rfl rfl rfl rfl (by decide) ⟨(Nat.le_of_ble_eq_true rfl), (Nat.le_of_ble_eq_true rfl)⟩ (fun r u H locs hp hw => ?_)
            have hw : Wd D A s [oH ha (Hfl hv) (Hro hv) (Hrp hv) (Hca hv) (Hwy hv) (Hla hv) (Hmi hv) (Htf hv) (Htk hv), aV d ha 1 (HHO hv), aV d ha 2 (HAT hv), aV d ha 3 (HTO hv), aV d ha 4 (HWE hv), aV d ha 5 (HHE hv), aV d ha 6 (HRA hv), oS sa ha ta gt gf gc tra gs] H locs := hw
            subst r
            have hf := sm_e hf
            subst hf
            exact x_retI cx hw rfl () rfl [0, 1, 2, 3, 4, 5, 6, 7] rfl rfl (Nat.le_of_ble_eq_true rfl) (Nat.le_of_ble_eq_true rfl) dX0_holds_180
          · have hf := if_t hf c166
            refine lv_iload hx hb dX0_holds_169 (lv_at hl 3 rfl) ?_
            refine lv_goto (tgt := 180) hx hb dX0_holds_171 (by decide) ?_
            have hf := sm_e hf
            subst hf
            exact x_retI cx hw rfl () rfl [0, 1, 2, 3, 4, 5, 6, 7] rfl rfl (Nat.le_of_ble_eq_true rfl) (Nat.le_of_ble_eq_true rfl) dX0_holds_180
        · have hf := if_t hf c157
          refine lv_iload_n hx hb dX0_holds_160 rfl (lv_at hl 2 rfl) ?_
          refine lv_goto (tgt := 180) hx hb dX0_holds_161 (by decide) ?_
          have hf := sm_e hf
          subst hf
          exact x_retI cx hw rfl () rfl [0, 1, 2, 3, 4, 5, 6, 7] rfl rfl (Nat.le_of_ble_eq_true rfl) (Nat.le_of_ble_eq_true rfl) dX0_holds_180
      · refine x_lp hlp51 (fun x51 => [oH ha (Hfl hv) (Hro hv) (Hrp hv) (Hca hv) (Hwy hv) (Hla hv) (Hmi hv) (Htf hv) (Htk hv), aV d ha 1 (HHO hv), aV d ha 2 (HAT hv), aV d ha 3 (HTO hv), aV d ha 4 (HWE hv), aV d ha 5 (HHE hv), aV d ha 6 (HRA hv), oS sa ha ta gt gf gc tra gs]) (fun x51 => [(0, .ref (sa 0)), (1, .int p1), (2, .int (q3 ||| q4)), (3, .int x51.1), (4, .int x51.2.1), (5, .int x51.2.2)]) (hw.sub [1, 2, 3, 4, 5, 6, 7, 0] rfl rfl) (lv_sub hl [4, 5, 3, 2, 1, 0] rfl) (fun x51 y51 hf hin51 hout51 H locs ls hw hl => ?_)
        have hw : Wd D A s [oH ha (Hfl hv) (Hro hv) (Hrp hv) (Hca hv) (Hwy hv) (Hla hv) (Hmi hv) (Htf hv) (Htk hv), aV d ha 1 (HHO hv), aV d ha 2 (HAT hv), aV d ha 3 (HTO hv), aV d ha 4 (HWE hv), aV d ha 5 (HHE hv), aV d ha 6 (HRA hv), oS sa ha ta gt gf gc tra gs] H locs := hw
        have hl : lv_has ls 7 [(0, .ref (sa 0)), (1, .int p1), (2, .int (q3 ||| q4)), (3, .int x51.1), (4, .int x51.2.1), (5, .int x51.2.2)] := hl
        refine lv_iload hx hb dX0_holds_51 (lv_at hl 5 rfl) ?_
        refine lv_iload_n hx hb dX0_holds_53 rfl (lv_at hl 2 rfl) ?_
        refine lv_icmp_gt (tgt := 156) hx hb dX0_holds_54 (by decide) (fun c54 => ?_) (fun c54 => ?_)
        · have hf := if_t hf c54
          have hf := sm_e hf
          subst hf
          have hz := hout51 _ rfl
          subst hz
          exact hK51 _ _ _ hw (lv_sub hl [0, 1, 3, 4] rfl)
        · have hf := if_f hf c54
          refine lv_iload hx hb dX0_holds_57 (lv_at hl 5 rfl) ?_
          refine lv_iload_n hx hb dX0_holds_59 rfl (lv_at hl 2 rfl) ?_
          refine lv_iconst (v := (-1)) hx hb dX0_holds_60 (by decide) ?_
          refine lv_ixor hx hb dX0_holds_61 ?_
          refine lv_iand hx hb dX0_holds_62 ?_
          refine lv_if_ne (tgt := 150) hx hb dX0_holds_63 (by decide) (fun c63 => ?_) (fun c63 => ?_)
          · have hf := if_f hf c63
            refine lv_iinc (v := (x51.2.2 + 1)) (lv' := [(5, .int (x51.2.2 + 1)), (0, .ref (sa 0)), (1, .int p1), (2, .int (q3 ||| q4)), (3, .int x51.1), (4, .int x51.2.1)]) hx hb dX0_holds_150 hl (k := 5) rfl (by first | rfl | decide) (by decide) rfl (fun ls hl => ?_)
            refine lv_goto (tgt := 51) hx hb dX0_holds_153 (by decide) ?_
            have hf := sm_e hf
            subst hf
            exact hin51 _ rfl _ _ _ hw (lv_sub hl [1, 2, 3, 4, 5, 0] rfl)
          · have hf := if_t hf c63
            refine lv_iload hx hb dX0_holds_66 (lv_at hl 5 rfl) ?_
            obtain ⟨q7, hcq7, hf⟩ := op_e hf
            refine x_SI (wr := [oH ha (Hfl hv) (Hro hv) (Hrp hv) (Hca hv) (Hwy hv) (Hla hv) (Hmi hv) (Htf hv) (Htk hv), aV d ha 1 (HHO hv), aV d ha 2 (HAT hv), aV d ha 3 (HTO hv), aV d ha 4 (HWE hv), aV d ha 5 (HHE hv), aV d ha 6 (HRA hv), oS sa ha ta gt gf gc tra gs]) (rest := []) [.int x51.2.2] hX cx hw hl.1 (mJ15_bitCount l (XI D cs wi) hX D d  x51.2.2 q7 hcq7) (lw_S q976 q792 q112 q793) hd_J15_bitCount ⟨(Nat.le_of_ble_eq_true rfl), (Nat.le_of_ble_eq_true rfl)⟩ rfl rfl (Nat.le_of_ble_eq_true rfl) dX0_holds_68 [] [0, 1, 2, 3, 4, 5, 6, 7] rfl rfl rfl rfl (by decide) ⟨(Nat.le_of_ble_eq_true rfl), (Nat.le_of_ble_eq_true rfl)⟩ (fun r u H locs hp hw => ?_)
            have hw : Wd D A s [oH ha (Hfl hv) (Hro hv) (Hrp hv) (Hca hv) (Hwy hv) (Hla hv) (Hmi hv) (Htf hv) (Htk hv), aV d ha 1 (HHO hv), aV d ha 2 (HAT hv), aV d ha 3 (HTO hv), aV d ha 4 (HWE hv), aV d ha 5 (HHE hv), aV d ha 6 (HRA hv), oS sa ha ta gt gf gc tra gs] H locs := hw
            subst r
            refine lv_aload_n hx hb dX0_holds_71 rfl (lv_at hl 0 rfl) ?_
            refine va_get (ci := 1) (C := RX0) (T := TX0) (N := 14) hx hb hts in_X0 hown hK hw.1 7 rfl rfl 4 (by decide) (hts _ q298) (fun _ h9 => h9) rfl dX0_holds_72 ?_
            refine va_get (ci := 2) (C := RX1) (T := TX1) (N := 15) hx hb hts in_X1 hown hK hw.1 0 rfl rfl 1 (by decide) (hts _ q164) (fun _ h9 => h9) rfl dX0_holds_75 ?_
            refine lv_icmp_gt (tgt := 150) hx hb dX0_holds_78 (by decide) (fun c78 => ?_) (fun c78 => ?_)
            · have hf := if_t hf c78
              refine lv_iinc (v := (x51.2.2 + 1)) (lv' := [(5, .int (x51.2.2 + 1)), (0, .ref (sa 0)), (1, .int p1), (2, .int (q3 ||| q4)), (3, .int x51.1), (4, .int x51.2.1)]) hx hb dX0_holds_150 hl (k := 5) rfl (by first | rfl | decide) (by decide) rfl (fun ls hl => ?_)
              refine lv_goto (tgt := 51) hx hb dX0_holds_153 (by decide) ?_
              have hf := sm_e hf
              subst hf
              exact hin51 _ rfl _ _ _ hw (lv_sub hl [1, 2, 3, 4, 5, 0] rfl)
            · have hf := if_f hf c78
              refine lv_aload_n hx hb dX0_holds_81 rfl (lv_at hl 0 rfl) ?_
              refine lv_iload hx hb dX0_holds_82 (lv_at hl 5 rfl) ?_
              obtain ⟨q8, hcq8, hf⟩ := op_e hf
              refine x_VI (wr := []) (rest := []) [.int x51.2.2] hX cx hw hl.1 (mX0_weightOf l  D d cs wi ln lf dk dn him ha sa ta hv gt gf gc tra gs x51.2.2 q8 hcq8) (lw_V q1002 q1004 qs29 q82 q1005) hd_X0_weightOf ⟨(Nat.le_of_ble_eq_true rfl), (Nat.le_of_ble_eq_true rfl)⟩ (va_recv hK hw.1 (ci := 1) (q0 := 7) rfl rfl) rfl rfl (Nat.le_of_ble_eq_true rfl) dX0_holds_84 [0, 1, 2, 3, 4, 5, 6, 7] [] rfl rfl rfl rfl (by decide) ⟨(Nat.le_of_ble_eq_true rfl), (Nat.le_of_ble_eq_true rfl)⟩ (fun r u H locs hp hw => ?_)
              have hw : Wd D A s [oH ha (Hfl hv) (Hro hv) (Hrp hv) (Hca hv) (Hwy hv) (Hla hv) (Hmi hv) (Htf hv) (Htk hv), aV d ha 1 (HHO hv), aV d ha 2 (HAT hv), aV d ha 3 (HTO hv), aV d ha 4 (HWE hv), aV d ha 5 (HHE hv), aV d ha 6 (HRA hv), oS sa ha ta gt gf gc tra gs] H locs := hw
              subst r
              refine lv_aload_n hx hb dX0_holds_87 rfl (lv_at hl 0 rfl) ?_
              refine va_get (ci := 1) (C := RX0) (T := TX0) (N := 14) hx hb hts in_X0 hown hK hw.1 7 rfl rfl 4 (by decide) (hts _ q298) (fun _ h9 => h9) rfl dX0_holds_88 ?_
              refine va_get (ci := 2) (C := RX1) (T := TX1) (N := 15) hx hb hts in_X1 hown hK hw.1 0 rfl rfl 2 (by decide) (hts _ q167) (fun _ h9 => h9) rfl dX0_holds_91 ?_
              refine lv_icmp_le (tgt := 100) hx hb dX0_holds_94 (by decide) (fun c94 => ?_) (fun c94 => ?_)
              · have hf := if_t hf c94
                refine lv_iinc (v := (x51.1 + 1)) (lv' := [(3, .int (x51.1 + 1)), (0, .ref (sa 0)), (1, .int p1), (2, .int (q3 ||| q4)), (4, .int x51.2.1), (5, .int x51.2.2)]) hx hb dX0_holds_100 hl (k := 3) rfl (by first | rfl | decide) (by decide) rfl (fun ls hl => ?_)
                refine lv_aload_n hx hb dX0_holds_103 rfl (lv_at hl 1 rfl) ?_
                refine lv_iload hx hb dX0_holds_104 (lv_at hl 5 rfl) ?_
                obtain ⟨q9, hcq9, hf⟩ := op_e hf
                refine x_VI (wr := []) (rest := []) [.int x51.2.2] hX cx hw hl.1 (mX0_weightOf l  D d cs wi ln lf dk dn him ha sa ta hv gt gf gc tra gs x51.2.2 q9 hcq9) (lw_V q1002 q1004 qs29 q82 q1005) hd_X0_weightOf ⟨(Nat.le_of_ble_eq_true rfl), (Nat.le_of_ble_eq_true rfl)⟩ (va_recv hK hw.1 (ci := 1) (q0 := 7) rfl rfl) rfl rfl (Nat.le_of_ble_eq_true rfl) dX0_holds_106 [0, 1, 2, 3, 4, 5, 6, 7] [] rfl rfl rfl rfl (by decide) ⟨(Nat.le_of_ble_eq_true rfl), (Nat.le_of_ble_eq_true rfl)⟩ (fun r u H locs hp hw => ?_)
                have hw : Wd D A s [oH ha (Hfl hv) (Hro hv) (Hrp hv) (Hca hv) (Hwy hv) (Hla hv) (Hmi hv) (Htf hv) (Htk hv), aV d ha 1 (HHO hv), aV d ha 2 (HAT hv), aV d ha 3 (HTO hv), aV d ha 4 (HWE hv), aV d ha 5 (HHE hv), aV d ha 6 (HRA hv), oS sa ha ta gt gf gc tra gs] H locs := hw
                subst r
                refine lv_aload_n hx hb dX0_holds_109 rfl (lv_at hl 1 rfl) ?_
                refine lv_iload hx hb dX0_holds_110 (lv_at hl 4 rfl) ?_
                obtain ⟨q10, hcq10, hf⟩ := op_e hf
                refine x_VI (wr := []) (rest := [.int q9]) [.int x51.2.1] hX cx hw hl.1 (mX0_weightOf l  D d cs wi ln lf dk dn him ha sa ta hv gt gf gc tra gs x51.2.1 q10 hcq10) (lw_V q1002 q1004 qs29 q82 q1005) hd_X0_weightOf ⟨(Nat.le_of_ble_eq_true rfl), (Nat.le_of_ble_eq_true rfl)⟩ (va_recv hK hw.1 (ci := 1) (q0 := 7) rfl rfl) rfl rfl (Nat.le_of_ble_eq_true rfl) dX0_holds_112 [0, 1, 2, 3, 4, 5, 6, 7] [] rfl rfl rfl rfl (by decide) ⟨(Nat.le_of_ble_eq_true rfl), (Nat.le_of_ble_eq_true rfl)⟩ (fun r u H locs hp hw => ?_)
                have hw : Wd D A s [oH ha (Hfl hv) (Hro hv) (Hrp hv) (Hca hv) (Hwy hv) (Hla hv) (Hmi hv) (Htf hv) (Htk hv), aV d ha 1 (HHO hv), aV d ha 2 (HAT hv), aV d ha 3 (HTO hv), aV d ha 4 (HWE hv), aV d ha 5 (HHE hv), aV d ha 6 (HRA hv), oS sa ha ta gt gf gc tra gs] H locs := hw
                subst r
                refine lv_isub hx hb dX0_holds_115 ?_
                refine lv_istore (lv' := [(6, .int (q9 - q10)), (3, .int (x51.1 + 1)), (0, .ref (sa 0)), (1, .int p1), (2, .int (q3 ||| q4)), (4, .int x51.2.1), (5, .int x51.2.2)]) hx hb dX0_holds_116 hl (by decide) rfl (fun ls hl => ?_)
                refine lv_iload hx hb dX0_holds_118 (lv_at hl 0 rfl) ?_
                refine lv_if_gt (tgt := 141) hx hb dX0_holds_120 (by decide) (fun c120 => ?_) (fun c120 => ?_)
                · have hf := if_t hf c120
                  refine lv_iload hx hb dX0_holds_141 (lv_at hl 6 rfl) ?_
                  refine lv_goto (tgt := 148) hx hb dX0_holds_143 (by decide) ?_
                  refine lv_istore (lv' := [(4, .int x51.2.2), (6, .int (q9 - q10)), (3, .int (x51.1 + 1)), (0, .ref (sa 0)), (1, .int p1), (2, .int (q3 ||| q4)), (5, .int x51.2.2)]) hx hb dX0_holds_148 hl (by decide) rfl (fun ls hl => ?_)
                  refine lv_iinc (v := (x51.2.2 + 1)) (lv' := [(5, .int (x51.2.2 + 1)), (4, .int x51.2.2), (6, .int (q9 - q10)), (3, .int (x51.1 + 1)), (0, .ref (sa 0)), (1, .int p1), (2, .int (q3 ||| q4))]) hx hb dX0_holds_150 hl (k := 6) rfl (by first | rfl | decide) (by decide) rfl (fun ls hl => ?_)
                  refine lv_goto (tgt := 51) hx hb dX0_holds_153 (by decide) ?_
                  have hf := sm_e hf
                  subst hf
                  exact hin51 _ rfl _ _ _ hw (lv_sub hl [4, 5, 6, 3, 1, 0] rfl)
                · have hf := if_f hf c120
                  refine lv_iload hx hb dX0_holds_123 (lv_at hl 0 rfl) ?_
                  refine lv_if_ne (tgt := 146) hx hb dX0_holds_125 (by decide) (fun c125 => ?_) (fun c125 => ?_)
                  · have hf := if_f hf c125
                    refine lv_iload hx hb dX0_holds_146 (lv_at hl 5 rfl) ?_
                    refine lv_istore (lv' := [(4, .int x51.2.1), (6, .int (q9 - q10)), (3, .int (x51.1 + 1)), (0, .ref (sa 0)), (1, .int p1), (2, .int (q3 ||| q4)), (5, .int x51.2.2)]) hx hb dX0_holds_148 hl (by decide) rfl (fun ls hl => ?_)
                    refine lv_iinc (v := (x51.2.2 + 1)) (lv' := [(5, .int (x51.2.2 + 1)), (4, .int x51.2.1), (6, .int (q9 - q10)), (3, .int (x51.1 + 1)), (0, .ref (sa 0)), (1, .int p1), (2, .int (q3 ||| q4))]) hx hb dX0_holds_150 hl (k := 6) rfl (by first | rfl | decide) (by decide) rfl (fun ls hl => ?_)
                    refine lv_goto (tgt := 51) hx hb dX0_holds_153 (by decide) ?_
                    have hf := sm_e hf
                    subst hf
                    exact hin51 _ rfl _ _ _ hw (lv_sub hl [4, 5, 6, 3, 1, 0] rfl)
                  · have hf := if_t hf c125
                    refine lv_iload hx hb dX0_holds_128 (lv_at hl 6 rfl) ?_
                    obtain ⟨q11, hcq11, hf⟩ := op_e hf
                    refine x_SI (wr := [oH ha (Hfl hv) (Hro hv) (Hrp hv) (Hca hv) (Hwy hv) (Hla hv) (Hmi hv) (Htf hv) (Htk hv), aV d ha 1 (HHO hv), aV d ha 2 (HAT hv), aV d ha 3 (HTO hv), aV d ha 4 (HWE hv), aV d ha 5 (HHE hv), aV d ha 6 (HRA hv), oS sa ha ta gt gf gc tra gs]) (rest := []) [.int x51.2.2] hX cx hw hl.1 (mJ15_bitCount l (XI D cs wi) hX D d  x51.2.2 q11 hcq11) (lw_S q976 q792 q112 q793) hd_J15_bitCount ⟨(Nat.le_of_ble_eq_true rfl), (Nat.le_of_ble_eq_true rfl)⟩ rfl rfl (Nat.le_of_ble_eq_true rfl) dX0_holds_130 [] [0, 1, 2, 3, 4, 5, 6, 7] rfl rfl rfl rfl (by decide) ⟨(Nat.le_of_ble_eq_true rfl), (Nat.le_of_ble_eq_true rfl)⟩ (fun r u H locs hp hw => ?_)
                    have hw : Wd D A s [oH ha (Hfl hv) (Hro hv) (Hrp hv) (Hca hv) (Hwy hv) (Hla hv) (Hmi hv) (Htf hv) (Htk hv), aV d ha 1 (HHO hv), aV d ha 2 (HAT hv), aV d ha 3 (HTO hv), aV d ha 4 (HWE hv), aV d ha 5 (HHE hv), aV d ha 6 (HRA hv), oS sa ha ta gt gf gc tra gs] H locs := hw
                    subst r
                    refine lv_iload hx hb dX0_holds_133 (lv_at hl 5 rfl) ?_
                    obtain ⟨q12, hcq12, hf⟩ := op_e hf
                    refine x_SI (wr := [oH ha (Hfl hv) (Hro hv) (Hrp hv) (Hca hv) (Hwy hv) (Hla hv) (Hmi hv) (Htf hv) (Htk hv), aV d ha 1 (HHO hv), aV d ha 2 (HAT hv), aV d ha 3 (HTO hv), aV d ha 4 (HWE hv), aV d ha 5 (HHE hv), aV d ha 6 (HRA hv), oS sa ha ta gt gf gc tra gs]) (rest := [.int q11]) [.int x51.2.1] hX cx hw hl.1 (mJ15_bitCount l (XI D cs wi) hX D d  x51.2.1 q12 hcq12) (lw_S q976 q792 q112 q793) hd_J15_bitCount ⟨(Nat.le_of_ble_eq_true rfl), (Nat.le_of_ble_eq_true rfl)⟩ rfl rfl (Nat.le_of_ble_eq_true rfl) dX0_holds_135 [] [0, 1, 2, 3, 4, 5, 6, 7] rfl rfl rfl rfl (by decide) ⟨(Nat.le_of_ble_eq_true rfl), (Nat.le_of_ble_eq_true rfl)⟩ (fun r u H locs hp hw => ?_)
                    have hw : Wd D A s [oH ha (Hfl hv) (Hro hv) (Hrp hv) (Hca hv) (Hwy hv) (Hla hv) (Hmi hv) (Htf hv) (Htk hv), aV d ha 1 (HHO hv), aV d ha 2 (HAT hv), aV d ha 3 (HTO hv), aV d ha 4 (HWE hv), aV d ha 5 (HHE hv), aV d ha 6 (HRA hv), oS sa ha ta gt gf gc tra gs] H locs := hw
                    subst r
                    refine lv_icmp_le (tgt := 146) hx hb dX0_holds_138 (by decide) (fun c138 => ?_) (fun c138 => ?_)
                    · have hf := if_t hf c138
                      refine lv_iload hx hb dX0_holds_146 (lv_at hl 5 rfl) ?_
                      refine lv_istore (lv' := [(4, .int x51.2.1), (6, .int (q9 - q10)), (3, .int (x51.1 + 1)), (0, .ref (sa 0)), (1, .int p1), (2, .int (q3 ||| q4)), (5, .int x51.2.2)]) hx hb dX0_holds_148 hl (by decide) rfl (fun ls hl => ?_)
                      refine lv_iinc (v := (x51.2.2 + 1)) (lv' := [(5, .int (x51.2.2 + 1)), (4, .int x51.2.1), (6, .int (q9 - q10)), (3, .int (x51.1 + 1)), (0, .ref (sa 0)), (1, .int p1), (2, .int (q3 ||| q4))]) hx hb dX0_holds_150 hl (k := 6) rfl (by first | rfl | decide) (by decide) rfl (fun ls hl => ?_)
                      refine lv_goto (tgt := 51) hx hb dX0_holds_153 (by decide) ?_
                      have hf := sm_e hf
                      subst hf
                      exact hin51 _ rfl _ _ _ hw (lv_sub hl [4, 5, 6, 3, 1, 0] rfl)
                    · have hf := if_f hf c138
                      refine lv_iload hx hb dX0_holds_141 (lv_at hl 6 rfl) ?_
                      refine lv_goto (tgt := 148) hx hb dX0_holds_143 (by decide) ?_
                      refine lv_istore (lv' := [(4, .int x51.2.2), (6, .int (q9 - q10)), (3, .int (x51.1 + 1)), (0, .ref (sa 0)), (1, .int p1), (2, .int (q3 ||| q4)), (5, .int x51.2.2)]) hx hb dX0_holds_148 hl (by decide) rfl (fun ls hl => ?_)
                      refine lv_iinc (v := (x51.2.2 + 1)) (lv' := [(5, .int (x51.2.2 + 1)), (4, .int x51.2.2), (6, .int (q9 - q10)), (3, .int (x51.1 + 1)), (0, .ref (sa 0)), (1, .int p1), (2, .int (q3 ||| q4))]) hx hb dX0_holds_150 hl (k := 6) rfl (by first | rfl | decide) (by decide) rfl (fun ls hl => ?_)
                      refine lv_goto (tgt := 51) hx hb dX0_holds_153 (by decide) ?_
                      have hf := sm_e hf
                      subst hf
                      exact hin51 _ rfl _ _ _ hw (lv_sub hl [4, 5, 6, 3, 1, 0] rfl)
              · have hf := if_f hf c94
                refine lv_goto (tgt := 150) hx hb dX0_holds_97 (by decide) ?_
                refine lv_iinc (v := (x51.2.2 + 1)) (lv' := [(5, .int (x51.2.2 + 1)), (0, .ref (sa 0)), (1, .int p1), (2, .int (q3 ||| q4)), (3, .int x51.1), (4, .int x51.2.1)]) hx hb dX0_holds_150 hl (k := 5) rfl (by first | rfl | decide) (by decide) rfl (fun ls hl => ?_)
                refine lv_goto (tgt := 51) hx hb dX0_holds_153 (by decide) ?_
                have hf := sm_e hf
                subst hf
                exact hin51 _ rfl _ _ _ hw (lv_sub hl [1, 2, 3, 4, 5, 0] rfl)
    · have hf := if_t hf c19
      refine lv_ldc (v := (-1000001)) hx hb hown (hts _ q350) dX0_holds_22 ?_
      have hf := sm_e hf
      subst hf
      exact x_retI cx hw rfl () rfl [0, 1, 2, 3, 4, 5, 6, 7] rfl rfl (Nat.le_of_ble_eq_true rfl) (Nat.le_of_ble_eq_true rfl) dX0_holds_24
  · have hf := if_t hf c4
    refine lv_ldc (v := (-1000002)) hx hb hown (hts _ q764) dX0_holds_7 ?_
    have hf := sm_e hf
    subst hf
    exact x_retI cx hw rfl () rfl [0, 1, 2, 3, 4, 5, 6, 7] rfl rfl (Nat.le_of_ble_eq_true rfl) (Nat.le_of_ble_eq_true rfl) dX0_holds_9
theorem hd_X0_claim : yX0_claim.cls = "DishLift" ∧ yX0_claim.cls ≠ "java/lang/invoke/MethodHandle" ∧ yX0_claim.cls ≠ "java/lang/invoke/VarHandle" ∧ (parseMethodDescriptor yX0_claim.desc).map (fun d => d.parameters.length) = some 1 := by decide +kernel
set_option maxHeartbeats 4000000 in
theorem mX0_claim (l : Launch)  (D : va_G) (d : Nat → ClassId) (cs : Nat → Nat) (wi : va_W) (ln : Nat → Option Int32) (lf : Nat → Nat → Option Nat) (dk : Nat → Option Nat) (dn : Nat → Int32) (him : ImF d wi ln lf dk dn) (ha : Nat → Nat) (sa : Nat → Nat) (ta : Nat → Nat) (hv : HV) (gt : Int32) (gf : Int32) (gc : Int32) (tra : Nat) (gs : Int32) (p1 : Int32)  (res : Int32) (hf : fX0_claim hv p1 = some res) : MetI l yX0_claim (ws_ yX0_claim cX0_claim 2 (some .int)) { frames := 0, cells := 0, slots := 0, locals := 0 } [.ref (sa 0), .int p1] (XI D cs wi) D d [oH ha (Hfl hv) (Hro hv) (Hrp hv) (Hca hv) (Hwy hv) (Hla hv) (Hmi hv) (Htf hv) (Htk hv), aV d ha 1 (HHO hv), aV d ha 2 (HAT hv), aV d ha 3 (HTO hv), aV d ha 4 (HWE hv), aV d ha 5 (HHE hv), aV d ha 6 (HRA hv), oS sa ha ta gt gf gc tra gs] (fun r (_ : Unit) => r = res) (fun _ => [oH ha (Hfl hv) (Hro hv) (Hrp hv) (Hca hv) (Hwy hv) (Hla hv) (Hmi hv) (Htf hv) (Htk hv), aV d ha 1 (HHO hv), aV d ha 2 (HAT hv), aV d ha 3 (HTO hv), aV d ha 4 (HWE hv), aV d ha 5 (HHE hv), aV d ha 6 (HRA hv), oS sa ha ta gt gf gc tra gs]) := by
  have hX := XI.ok (D := D) (cs := cs) (wi := wi)
  refine MetI.of (by decide +kernel) (Nat.le_of_ble_eq_true rfl) ?_
  intro p e s m below meth c A cx hw ls hl
  have cx : Cx p s m _ meth c (XI D cs wi) D d A "DishLift" cX0_claim 2 (some .int) "claim" := cx
  have cx' := cx
  obtain ⟨hx, hb, hr, hlk, hml, hown, hts, hK, hA, hXs, hnm⟩ := cx'
  have hl : lv_has ls 2 [(0, .ref (sa 0)), (1, .int p1)] := hl
  unfold fX0_claim at hf
  refine lv_aload_n hx hb dX0_claim_0 rfl (lv_at hl 0 rfl) ?_
  refine va_get (ci := 1) (C := RX0) (T := TX0) (N := 14) hx hb hts in_X0 hown hK hw.1 7 rfl rfl 4 (by decide) (hts _ q298) (fun _ h9 => h9) rfl dX0_claim_1 ?_
  refine va_get (ci := 2) (C := RX1) (T := TX1) (N := 15) hx hb hts in_X1 hown hK hw.1 0 rfl rfl 6 (by decide) (hts _ q176) (fun _ h9 => h9) rfl dX0_claim_4 ?_
  refine lv_iload_n hx hb dX0_claim_7 rfl (lv_at hl 1 rfl) ?_
  obtain ⟨v1, hrd, hf⟩ := op_e hf
  refine x_iald (q0 := 1) cx hw rfl hrd dX0_claim_8 ?_
  refine lv_iconst (v := 2) hx hb dX0_claim_9 (by decide) ?_
  refine lv_icmp_ne (tgt := 17) hx hb dX0_claim_10 (by decide) (fun c10 => ?_) (fun c10 => ?_)
  · have hf := if_f hf c10
    refine lv_aload_n hx hb dX0_claim_17 rfl (lv_at hl 0 rfl) ?_
    refine va_get (ci := 1) (C := RX0) (T := TX0) (N := 14) hx hb hts in_X0 hown hK hw.1 7 rfl rfl 4 (by decide) (hts _ q298) (fun _ h9 => h9) rfl dX0_claim_18 ?_
    refine va_get (ci := 2) (C := RX1) (T := TX1) (N := 15) hx hb hts in_X1 hown hK hw.1 0 rfl rfl 10 (by decide) (hts _ q190) (fun _ h9 => h9) rfl dX0_claim_21 ?_
    refine lv_iload_n hx hb dX0_claim_24 rfl (lv_at hl 1 rfl) ?_
    obtain ⟨v2, hrd, hf⟩ := op_e hf
    refine x_iald (q0 := 5) cx hw rfl hrd dX0_claim_25 ?_
    have hf := sm_e hf
    subst hf
    exact x_retI cx hw rfl () rfl [0, 1, 2, 3, 4, 5, 6, 7] rfl rfl (Nat.le_of_ble_eq_true rfl) (Nat.le_of_ble_eq_true rfl) dX0_claim_26
  · have hf := if_t hf c10
    refine lv_iconst (v := 0) hx hb dX0_claim_13 (by decide) ?_
    refine lv_goto (tgt := 26) hx hb dX0_claim_14 (by decide) ?_
    have hf := sm_e hf
    subst hf
    exact x_retI cx hw rfl () rfl [0, 1, 2, 3, 4, 5, 6, 7] rfl rfl (Nat.le_of_ble_eq_true rfl) (Nat.le_of_ble_eq_true rfl) dX0_claim_26
theorem hd_X0_share : yX0_share.cls = "DishLift" ∧ yX0_share.cls ≠ "java/lang/invoke/MethodHandle" ∧ yX0_share.cls ≠ "java/lang/invoke/VarHandle" ∧ (parseMethodDescriptor yX0_share.desc).map (fun d => d.parameters.length) = some 2 := by decide +kernel
set_option maxHeartbeats 4000000 in
theorem mX0_share (l : Launch)  (D : va_G) (d : Nat → ClassId) (cs : Nat → Nat) (wi : va_W) (ln : Nat → Option Int32) (lf : Nat → Nat → Option Nat) (dk : Nat → Option Nat) (dn : Nat → Int32) (him : ImF d wi ln lf dk dn) (ha : Nat → Nat) (sa : Nat → Nat) (ta : Nat → Nat) (hv : HV) (gt : Int32) (gf : Int32) (gc : Int32) (tra : Nat) (gs : Int32) (p1 : Int32) (p2 : Int32)  (res : Int32) (hf : fX0_share ln hv p1 p2 = some res) : MetI l yX0_share (ws_ yX0_share cX0_share 7 (some .int)) { frames := 3, cells := 0, slots := 0, locals := 81 } [.ref (sa 0), .int p1, .int p2] (XI D cs wi) D d [oH ha (Hfl hv) (Hro hv) (Hrp hv) (Hca hv) (Hwy hv) (Hla hv) (Hmi hv) (Htf hv) (Htk hv), aV d ha 1 (HHO hv), aV d ha 2 (HAT hv), aV d ha 3 (HTO hv), aV d ha 4 (HWE hv), aV d ha 5 (HHE hv), aV d ha 6 (HRA hv), oS sa ha ta gt gf gc tra gs] (fun r (_ : Unit) => r = res) (fun _ => [oH ha (Hfl hv) (Hro hv) (Hrp hv) (Hca hv) (Hwy hv) (Hla hv) (Hmi hv) (Htf hv) (Htk hv), aV d ha 1 (HHO hv), aV d ha 2 (HAT hv), aV d ha 3 (HTO hv), aV d ha 4 (HWE hv), aV d ha 5 (HHE hv), aV d ha 6 (HRA hv), oS sa ha ta gt gf gc tra gs]) := by
  have hX := XI.ok (D := D) (cs := cs) (wi := wi)
  refine MetI.of (by decide +kernel) (Nat.le_of_ble_eq_true rfl) ?_
  intro p e s m below meth c A cx hw ls hl
  have cx : Cx p s m _ meth c (XI D cs wi) D d A "DishLift" cX0_share 7 (some .int) "share" := cx
  have cx' := cx
  obtain ⟨hx, hb, hr, hlk, hml, hown, hts, hK, hA, hXs, hnm⟩ := cx'
  have hl : lv_has ls 7 [(0, .ref (sa 0)), (1, .int p1), (2, .int p2)] := hl
  unfold fX0_share at hf
  refine lv_aload_n hx hb dX0_share_0 rfl (lv_at hl 0 rfl) ?_
  refine lv_iload_n hx hb dX0_share_1 rfl (lv_at hl 1 rfl) ?_
  obtain ⟨q1, hcq1, hf⟩ := op_e hf
  refine x_VI (wr := []) (rest := []) [.int p1] hX cx hw hl.1 (mX0_isDish l  D d cs wi ln lf dk dn him ha sa ta hv gt gf gc tra gs p1 q1 hcq1) (lw_V q890 q892 qs23 q82 q893) hd_X0_isDish ⟨(Nat.le_of_ble_eq_true rfl), (Nat.le_of_ble_eq_true rfl)⟩ (va_recv hK hw.1 (ci := 1) (q0 := 7) rfl rfl) rfl rfl (Nat.le_of_ble_eq_true rfl) dX0_share_2 [0, 1, 2, 3, 4, 5, 6, 7] [] rfl rfl rfl rfl (by decide) ⟨(Nat.le_of_ble_eq_true rfl), (Nat.le_of_ble_eq_true rfl)⟩ (fun r u H locs hp hw => ?_)
  have hw : Wd D A s [oH ha (Hfl hv) (Hro hv) (Hrp hv) (Hca hv) (Hwy hv) (Hla hv) (Hmi hv) (Htf hv) (Htk hv), aV d ha 1 (HHO hv), aV d ha 2 (HAT hv), aV d ha 3 (HTO hv), aV d ha 4 (HWE hv), aV d ha 5 (HHE hv), aV d ha 6 (HRA hv), oS sa ha ta gt gf gc tra gs] H locs := hw
  subst r
  refine lv_if_eq (tgt := 20) hx hb dX0_share_5 (by decide) (fun c5 => ?_) (fun c5 => ?_)
  · have hf := if_t hf c5
    refine lv_ldc (v := (-1000001)) hx hb hown (hts _ q350) dX0_share_20 ?_
    have hf := sm_e hf
    subst hf
    exact x_retI cx hw rfl () rfl [0, 1, 2, 3, 4, 5, 6, 7] rfl rfl (Nat.le_of_ble_eq_true rfl) (Nat.le_of_ble_eq_true rfl) dX0_share_22
  · have hf := if_f hf c5
    refine lv_iload_n hx hb dX0_share_8 rfl (lv_at hl 2 rfl) ?_
    refine lv_i2l (v := p2.toInt64) hx hb dX0_share_9 rfl ?_
    refine lv_lconst (v := 0) hx hb dX0_share_10 (by decide) ?_
    refine lv_ldc2 (v := 999) hx hb hown (hts _ q1013) dX0_share_11 ?_
    obtain ⟨q2, hcq2, hf⟩ := op_e hf
    refine x_SI (wr := [oH ha (Hfl hv) (Hro hv) (Hrp hv) (Hca hv) (Hwy hv) (Hla hv) (Hmi hv) (Htf hv) (Htk hv), aV d ha 1 (HHO hv), aV d ha 2 (HAT hv), aV d ha 3 (HTO hv), aV d ha 4 (HWE hv), aV d ha 5 (HHE hv), aV d ha 6 (HRA hv), oS sa ha ta gt gf gc tra gs]) (rest := []) [.long p2.toInt64, .long 0, .long 999] hX cx hw hl.1 (mX0_isIn l (XI D cs wi) hX D d  p2.toInt64 0 999 q2 hcq2) (lw_S q346 q347 q82 q348) hd_X0_isIn ⟨(Nat.le_of_ble_eq_true rfl), (Nat.le_of_ble_eq_true rfl)⟩ rfl rfl (Nat.le_of_ble_eq_true rfl) dX0_share_14 [] [0, 1, 2, 3, 4, 5, 6, 7] rfl rfl rfl rfl (by decide) ⟨(Nat.le_of_ble_eq_true rfl), (Nat.le_of_ble_eq_true rfl)⟩ (fun r u H locs hp hw => ?_)
    have hw : Wd D A s [oH ha (Hfl hv) (Hro hv) (Hrp hv) (Hca hv) (Hwy hv) (Hla hv) (Hmi hv) (Htf hv) (Htk hv), aV d ha 1 (HHO hv), aV d ha 2 (HAT hv), aV d ha 3 (HTO hv), aV d ha 4 (HWE hv), aV d ha 5 (HHE hv), aV d ha 6 (HRA hv), oS sa ha ta gt gf gc tra gs] H locs := hw
    subst r
    refine lv_if_ne (tgt := 23) hx hb dX0_share_17 (by decide) (fun c17 => ?_) (fun c17 => ?_)
    · have hf := if_f hf c17
      refine lv_aload_n hx hb dX0_share_23 rfl (lv_at hl 0 rfl) ?_
      refine lv_iload_n hx hb dX0_share_24 rfl (lv_at hl 1 rfl) ?_
      obtain ⟨q3, hcq3, hf⟩ := op_e hf
      refine x_VI (wr := []) (rest := []) [.int p1] hX cx hw hl.1 (mX0_claim l  D d cs wi ln lf dk dn him ha sa ta hv gt gf gc tra gs p1 q3 hcq3) (lw_V q1014 q1016 qs30 q82 q1017) hd_X0_claim ⟨(Nat.le_of_ble_eq_true rfl), (Nat.le_of_ble_eq_true rfl)⟩ (va_recv hK hw.1 (ci := 1) (q0 := 7) rfl rfl) rfl rfl (Nat.le_of_ble_eq_true rfl) dX0_share_25 [0, 1, 2, 3, 4, 5, 6, 7] [] rfl rfl rfl rfl (by decide) ⟨(Nat.le_of_ble_eq_true rfl), (Nat.le_of_ble_eq_true rfl)⟩ (fun r u H locs hp hw => ?_)
      have hw : Wd D A s [oH ha (Hfl hv) (Hro hv) (Hrp hv) (Hca hv) (Hwy hv) (Hla hv) (Hmi hv) (Htf hv) (Htk hv), aV d ha 1 (HHO hv), aV d ha 2 (HAT hv), aV d ha 3 (HTO hv), aV d ha 4 (HWE hv), aV d ha 5 (HHE hv), aV d ha 6 (HRA hv), oS sa ha ta gt gf gc tra gs] H locs := hw
      subst r
      refine lv_if_ne (tgt := 33) hx hb dX0_share_28 (by decide) (fun c28 => ?_) (fun c28 => ?_)
      · have hf := if_f hf c28
        refine lv_iconst (v := 0) hx hb dX0_share_33 (by decide) ?_
        refine lv_istore_n (lv' := [(3, .int 0), (0, .ref (sa 0)), (1, .int p1), (2, .int p2)]) hx hb dX0_share_34 rfl hl (by decide) rfl (fun ls hl => ?_)
        refine lv_iconst (v := 0) hx hb dX0_share_35 (by decide) ?_
        refine lv_istore (lv' := [(4, .int 0), (3, .int 0), (0, .ref (sa 0)), (1, .int p1), (2, .int p2)]) hx hb dX0_share_36 hl (by decide) rfl (fun ls hl => ?_)
        obtain ⟨r4, hlp38, hf⟩ := op_e hf
        refine x_join (A := A) (D := D) (J := 65) (nL := 7) (cells' := 0) (slots' := 0) (st := []) [oH ha (Hfl hv) (Hro hv) (Hrp hv) (Hca hv) (Hwy hv) (Hla hv) (Hmi hv) (Htf hv) (Htk hv), aV d ha 1 (HHO hv), aV d ha 2 (HAT hv), aV d ha 3 (HTO hv), aV d ha 4 (HWE hv), aV d ha 5 (HHE hv), aV d ha 6 (HRA hv), oS sa ha ta gt gf gc tra gs] [(0, .ref (sa 0)), (1, .int p1), (2, .int p2), (3, .int r4)] (fun H locs ls hw hl => ?_) (fun hK38 => ?_)
        · refine lv_iload_n hx hb dX0_share_65 rfl (lv_at hl 2 rfl) ?_
          refine lv_istore (lv' := [(4, .int p2), (0, .ref (sa 0)), (1, .int p1), (2, .int p2), (3, .int r4)]) hx hb dX0_share_66 hl (by decide) rfl (fun ls hl => ?_)
          refine lv_iconst (v := 0) hx hb dX0_share_68 (by decide) ?_
          refine lv_istore (lv' := [(5, .int 0), (4, .int p2), (0, .ref (sa 0)), (1, .int p1), (2, .int p2), (3, .int r4)]) hx hb dX0_share_69 hl (by decide) rfl (fun ls hl => ?_)
          refine lv_iconst (v := 0) hx hb dX0_share_71 (by decide) ?_
          refine lv_istore (lv' := [(6, .int 0), (5, .int 0), (4, .int p2), (0, .ref (sa 0)), (1, .int p1), (2, .int p2), (3, .int r4)]) hx hb dX0_share_72 hl (by decide) rfl (fun ls hl => ?_)
          obtain ⟨r5, hlp74, hf⟩ := op_e hf
          refine x_join (A := A) (D := D) (J := 132) (nL := 7) (cells' := 0) (slots' := 0) (st := []) [oH ha (Hfl hv) (Hro hv) (Hrp hv) (Hca hv) (Hwy hv) (Hla hv) (Hmi hv) (Htf hv) (Htk hv), aV d ha 1 (HHO hv), aV d ha 2 (HAT hv), aV d ha 3 (HTO hv), aV d ha 4 (HWE hv), aV d ha 5 (HHE hv), aV d ha 6 (HRA hv), oS sa ha ta gt gf gc tra gs] [(0, .ref (sa 0)), (1, .int p1), (2, .int p2), (3, .int r4), (4, .int r5.1), (5, .int r5.2)] (fun H locs ls hw hl => ?_) (fun hK74 => ?_)
          · refine lv_iload_n hx hb dX0_share_132 rfl (lv_at hl 2 rfl) ?_
            refine lv_aload_n hx hb dX0_share_133 rfl (lv_at hl 0 rfl) ?_
            refine lv_iload_n hx hb dX0_share_134 rfl (lv_at hl 1 rfl) ?_
            obtain ⟨q6, hcq6, hf⟩ := op_e hf
            refine x_VI (wr := []) (rest := [.int p2]) [.int p1] hX cx hw hl.1 (mX0_claim l  D d cs wi ln lf dk dn him ha sa ta hv gt gf gc tra gs p1 q6 hcq6) (lw_V q1014 q1016 qs30 q82 q1017) hd_X0_claim ⟨(Nat.le_of_ble_eq_true rfl), (Nat.le_of_ble_eq_true rfl)⟩ (va_recv hK hw.1 (ci := 1) (q0 := 7) rfl rfl) rfl rfl (Nat.le_of_ble_eq_true rfl) dX0_share_135 [0, 1, 2, 3, 4, 5, 6, 7] [] rfl rfl rfl rfl (by decide) ⟨(Nat.le_of_ble_eq_true rfl), (Nat.le_of_ble_eq_true rfl)⟩ (fun r u H locs hp hw => ?_)
            have hw : Wd D A s [oH ha (Hfl hv) (Hro hv) (Hrp hv) (Hca hv) (Hwy hv) (Hla hv) (Hmi hv) (Htf hv) (Htk hv), aV d ha 1 (HHO hv), aV d ha 2 (HAT hv), aV d ha 3 (HTO hv), aV d ha 4 (HWE hv), aV d ha 5 (HHE hv), aV d ha 6 (HRA hv), oS sa ha ta gt gf gc tra gs] H locs := hw
            subst r
            refine lv_imul hx hb dX0_share_138 ?_
            refine lv_iload_n hx hb dX0_share_139 rfl (lv_at hl 3 rfl) ?_
            obtain ⟨g7, hrd, hf⟩ := op_e hf
            refine x_idiv cx hrd dX0_share_140 ?_
            refine lv_iload hx hb dX0_share_141 (lv_at hl 5 rfl) ?_
            refine lv_iload hx hb dX0_share_143 (lv_at hl 4 rfl) ?_
            refine lv_icmp_ge (tgt := 152) hx hb dX0_share_145 (by decide) (fun c145 => ?_) (fun c145 => ?_)
            · have hf := if_t hf c145
              refine lv_iconst (v := 0) hx hb dX0_share_152 (by decide) ?_
              refine lv_iadd hx hb dX0_share_153 ?_
              have hf := sm_e hf
              subst hf
              exact x_retI cx hw rfl () rfl [0, 1, 2, 3, 4, 5, 6, 7] rfl rfl (Nat.le_of_ble_eq_true rfl) (Nat.le_of_ble_eq_true rfl) dX0_share_154
            · have hf := if_f hf c145
              refine lv_iconst (v := 1) hx hb dX0_share_148 (by decide) ?_
              refine lv_goto (tgt := 153) hx hb dX0_share_149 (by decide) ?_
              refine lv_iadd hx hb dX0_share_153 ?_
              have hf := sm_e hf
              subst hf
              exact x_retI cx hw rfl () rfl [0, 1, 2, 3, 4, 5, 6, 7] rfl rfl (Nat.le_of_ble_eq_true rfl) (Nat.le_of_ble_eq_true rfl) dX0_share_154
          · refine x_lp hlp74 (fun x74 => [oH ha (Hfl hv) (Hro hv) (Hrp hv) (Hca hv) (Hwy hv) (Hla hv) (Hmi hv) (Htf hv) (Htk hv), aV d ha 1 (HHO hv), aV d ha 2 (HAT hv), aV d ha 3 (HTO hv), aV d ha 4 (HWE hv), aV d ha 5 (HHE hv), aV d ha 6 (HRA hv), oS sa ha ta gt gf gc tra gs]) (fun x74 => [(0, .ref (sa 0)), (1, .int p1), (2, .int p2), (3, .int r4), (4, .int x74.1), (5, .int x74.2.1), (6, .int x74.2.2)]) hw (lv_sub hl [3, 4, 5, 6, 2, 1, 0] rfl) (fun x74 y74 hf hin74 hout74 H locs ls hw hl => ?_)
            have hw : Wd D A s [oH ha (Hfl hv) (Hro hv) (Hrp hv) (Hca hv) (Hwy hv) (Hla hv) (Hmi hv) (Htf hv) (Htk hv), aV d ha 1 (HHO hv), aV d ha 2 (HAT hv), aV d ha 3 (HTO hv), aV d ha 4 (HWE hv), aV d ha 5 (HHE hv), aV d ha 6 (HRA hv), oS sa ha ta gt gf gc tra gs] H locs := hw
            have hl : lv_has ls 7 [(0, .ref (sa 0)), (1, .int p1), (2, .int p2), (3, .int r4), (4, .int x74.1), (5, .int x74.2.1), (6, .int x74.2.2)] := hl
            refine lv_iload hx hb dX0_share_74 (lv_at hl 6 rfl) ?_
            refine lv_aload_n hx hb dX0_share_76 rfl (lv_at hl 0 rfl) ?_
            refine va_get (ci := 1) (C := RX0) (T := TX0) (N := 14) hx hb hts in_X0 hown hK hw.1 7 rfl rfl 4 (by decide) (hts _ q298) (fun _ h9 => h9) rfl dX0_share_77 ?_
            obtain ⟨q8, hcq8, hf⟩ := op_e hf
            refine x_VI (wr := [oS sa ha ta gt gf gc tra gs]) (rest := [.int x74.2.2]) [] hX cx hw hl.1 (vX1_many l  D d cs wi ln lf dk dn him ha hv q8 hcq8) (lw_V q755 q663 q664 q83 q665) hd_X1_many ⟨(Nat.le_of_ble_eq_true rfl), (Nat.le_of_ble_eq_true rfl)⟩ (va_recv hK hw.1 (ci := 2) (q0 := 0) rfl rfl) rfl rfl (Nat.le_of_ble_eq_true rfl) dX0_share_80 [0, 1, 2, 3, 4, 5, 6] [7] rfl rfl rfl rfl (by decide) ⟨(Nat.le_of_ble_eq_true rfl), (Nat.le_of_ble_eq_true rfl)⟩ (fun r u H locs hp hw => ?_)
            have hw : Wd D A s [oS sa ha ta gt gf gc tra gs, oH ha (Hfl hv) (Hro hv) (Hrp hv) (Hca hv) (Hwy hv) (Hla hv) (Hmi hv) (Htf hv) (Htk hv), aV d ha 1 (HHO hv), aV d ha 2 (HAT hv), aV d ha 3 (HTO hv), aV d ha 4 (HWE hv), aV d ha 5 (HHE hv), aV d ha 6 (HRA hv)] H locs := hw
            subst r
            refine lv_icmp_ge (tgt := 132) hx hb dX0_share_83 (by decide) (fun c83 => ?_) (fun c83 => ?_)
            · have hf := if_t hf c83
              have hf := sm_e hf
              subst hf
              have hz := hout74 _ rfl
              subst hz
              exact hK74 _ _ _ (hw.sub [1, 2, 3, 4, 5, 6, 7, 0] rfl rfl) (lv_sub hl [0, 1, 2, 3, 4, 5] rfl)
            · have hf := if_f hf c83
              refine lv_iload hx hb dX0_share_86 (lv_at hl 4 rfl) ?_
              refine lv_iload_n hx hb dX0_share_88 rfl (lv_at hl 2 rfl) ?_
              refine lv_aload_n hx hb dX0_share_89 rfl (lv_at hl 0 rfl) ?_
              refine lv_iload hx hb dX0_share_90 (lv_at hl 6 rfl) ?_
              obtain ⟨q9, hcq9, hf⟩ := op_e hf
              refine x_VI (wr := []) (rest := [.int p2, .int x74.1]) [.int x74.2.2] hX cx hw hl.1 (mX0_claim l  D d cs wi ln lf dk dn him ha sa ta hv gt gf gc tra gs x74.2.2 q9 hcq9) (lw_V q1014 q1016 qs30 q82 q1017) hd_X0_claim ⟨(Nat.le_of_ble_eq_true rfl), (Nat.le_of_ble_eq_true rfl)⟩ (va_recv hK hw.1 (ci := 1) (q0 := 0) rfl rfl) rfl rfl (Nat.le_of_ble_eq_true rfl) dX0_share_92 [1, 2, 3, 4, 5, 6, 7, 0] [] rfl rfl rfl rfl (by decide) ⟨(Nat.le_of_ble_eq_true rfl), (Nat.le_of_ble_eq_true rfl)⟩ (fun r u H locs hp hw => ?_)
              have hw : Wd D A s [oH ha (Hfl hv) (Hro hv) (Hrp hv) (Hca hv) (Hwy hv) (Hla hv) (Hmi hv) (Htf hv) (Htk hv), aV d ha 1 (HHO hv), aV d ha 2 (HAT hv), aV d ha 3 (HTO hv), aV d ha 4 (HWE hv), aV d ha 5 (HHE hv), aV d ha 6 (HRA hv), oS sa ha ta gt gf gc tra gs] H locs := hw
              subst r
              refine lv_imul hx hb dX0_share_95 ?_
              refine lv_iload_n hx hb dX0_share_96 rfl (lv_at hl 3 rfl) ?_
              obtain ⟨g10, hrd, hf⟩ := op_e hf
              refine x_idiv cx hrd dX0_share_97 ?_
              refine lv_isub hx hb dX0_share_98 ?_
              refine lv_istore (lv' := [(4, .int (x74.1 - ((p2 * q9) / r4))), (0, .ref (sa 0)), (1, .int p1), (2, .int p2), (3, .int r4), (5, .int x74.2.1), (6, .int x74.2.2)]) hx hb dX0_share_99 hl (by decide) rfl (fun ls hl => ?_)
              refine lv_iload hx hb dX0_share_101 (lv_at hl 5 rfl) ?_
              refine lv_iload hx hb dX0_share_103 (lv_at hl 6 rfl) ?_
              refine lv_iload_n hx hb dX0_share_105 rfl (lv_at hl 2 rfl) ?_
              refine lv_icmp_ge (tgt := 122) hx hb dX0_share_106 (by decide) (fun c106 => ?_) (fun c106 => ?_)
              · have hf := if_t hf c106
                refine lv_iconst (v := 0) hx hb dX0_share_122 (by decide) ?_
                refine lv_iadd hx hb dX0_share_123 ?_
                refine lv_istore (lv' := [(5, .int (x74.2.1 + 0)), (4, .int (x74.1 - ((p2 * q9) / r4))), (0, .ref (sa 0)), (1, .int p1), (2, .int p2), (3, .int r4), (6, .int x74.2.2)]) hx hb dX0_share_124 hl (by decide) rfl (fun ls hl => ?_)
                refine lv_iinc (v := (x74.2.2 + 1)) (lv' := [(6, .int (x74.2.2 + 1)), (5, .int (x74.2.1 + 0)), (4, .int (x74.1 - ((p2 * q9) / r4))), (0, .ref (sa 0)), (1, .int p1), (2, .int p2), (3, .int r4)]) hx hb dX0_share_126 hl (k := 6) rfl (by first | rfl | decide) (by decide) rfl (fun ls hl => ?_)
                refine lv_goto (tgt := 74) hx hb dX0_share_129 (by decide) ?_
                have hf := sm_e hf
                subst hf
                exact hin74 _ rfl _ _ _ hw (lv_sub hl [3, 4, 5, 6, 2, 1, 0] rfl)
              · have hf := if_f hf c106
                refine lv_aload_n hx hb dX0_share_109 rfl (lv_at hl 1 rfl) ?_
                refine lv_iload hx hb dX0_share_110 (lv_at hl 6 rfl) ?_
                obtain ⟨q11, hcq11, hf⟩ := op_e hf
                refine x_VI (wr := []) (rest := [.int x74.2.1]) [.int x74.2.2] hX cx hw hl.1 (mX0_claim l  D d cs wi ln lf dk dn him ha sa ta hv gt gf gc tra gs x74.2.2 q11 hcq11) (lw_V q1014 q1016 qs30 q82 q1017) hd_X0_claim ⟨(Nat.le_of_ble_eq_true rfl), (Nat.le_of_ble_eq_true rfl)⟩ (va_recv hK hw.1 (ci := 1) (q0 := 7) rfl rfl) rfl rfl (Nat.le_of_ble_eq_true rfl) dX0_share_112 [0, 1, 2, 3, 4, 5, 6, 7] [] rfl rfl rfl rfl (by decide) ⟨(Nat.le_of_ble_eq_true rfl), (Nat.le_of_ble_eq_true rfl)⟩ (fun r u H locs hp hw => ?_)
                have hw : Wd D A s [oH ha (Hfl hv) (Hro hv) (Hrp hv) (Hca hv) (Hwy hv) (Hla hv) (Hmi hv) (Htf hv) (Htk hv), aV d ha 1 (HHO hv), aV d ha 2 (HAT hv), aV d ha 3 (HTO hv), aV d ha 4 (HWE hv), aV d ha 5 (HHE hv), aV d ha 6 (HRA hv), oS sa ha ta gt gf gc tra gs] H locs := hw
                subst r
                refine lv_if_le (tgt := 122) hx hb dX0_share_115 (by decide) (fun c115 => ?_) (fun c115 => ?_)
                · have hf := if_t hf c115
                  refine lv_iconst (v := 0) hx hb dX0_share_122 (by decide) ?_
                  refine lv_iadd hx hb dX0_share_123 ?_
                  refine lv_istore (lv' := [(5, .int (x74.2.1 + 0)), (4, .int (x74.1 - ((p2 * q9) / r4))), (0, .ref (sa 0)), (1, .int p1), (2, .int p2), (3, .int r4), (6, .int x74.2.2)]) hx hb dX0_share_124 hl (by decide) rfl (fun ls hl => ?_)
                  refine lv_iinc (v := (x74.2.2 + 1)) (lv' := [(6, .int (x74.2.2 + 1)), (5, .int (x74.2.1 + 0)), (4, .int (x74.1 - ((p2 * q9) / r4))), (0, .ref (sa 0)), (1, .int p1), (2, .int p2), (3, .int r4)]) hx hb dX0_share_126 hl (k := 6) rfl (by first | rfl | decide) (by decide) rfl (fun ls hl => ?_)
                  refine lv_goto (tgt := 74) hx hb dX0_share_129 (by decide) ?_
                  have hf := sm_e hf
                  subst hf
                  exact hin74 _ rfl _ _ _ hw (lv_sub hl [3, 4, 5, 6, 2, 1, 0] rfl)
                · have hf := if_f hf c115
                  refine lv_iconst (v := 1) hx hb dX0_share_118 (by decide) ?_
                  refine lv_goto (tgt := 123) hx hb dX0_share_119 (by decide) ?_
                  refine lv_iadd hx hb dX0_share_123 ?_
                  refine lv_istore (lv' := [(5, .int (x74.2.1 + 1)), (4, .int (x74.1 - ((p2 * q9) / r4))), (0, .ref (sa 0)), (1, .int p1), (2, .int p2), (3, .int r4), (6, .int x74.2.2)]) hx hb dX0_share_124 hl (by decide) rfl (fun ls hl => ?_)
                  refine lv_iinc (v := (x74.2.2 + 1)) (lv' := [(6, .int (x74.2.2 + 1)), (5, .int (x74.2.1 + 1)), (4, .int (x74.1 - ((p2 * q9) / r4))), (0, .ref (sa 0)), (1, .int p1), (2, .int p2), (3, .int r4)]) hx hb dX0_share_126 hl (k := 6) rfl (by first | rfl | decide) (by decide) rfl (fun ls hl => ?_)
                  refine lv_goto (tgt := 74) hx hb dX0_share_129 (by decide) ?_
                  have hf := sm_e hf
                  subst hf
                  exact hin74 _ rfl _ _ _ hw (lv_sub hl [3, 4, 5, 6, 2, 1, 0] rfl)
        · refine x_lp hlp38 (fun x38 => [oH ha (Hfl hv) (Hro hv) (Hrp hv) (Hca hv) (Hwy hv) (Hla hv) (Hmi hv) (Htf hv) (Htk hv), aV d ha 1 (HHO hv), aV d ha 2 (HAT hv), aV d ha 3 (HTO hv), aV d ha 4 (HWE hv), aV d ha 5 (HHE hv), aV d ha 6 (HRA hv), oS sa ha ta gt gf gc tra gs]) (fun x38 => [(0, .ref (sa 0)), (1, .int p1), (2, .int p2), (3, .int x38.1), (4, .int x38.2)]) hw (lv_sub hl [2, 3, 4, 1, 0] rfl) (fun x38 y38 hf hin38 hout38 H locs ls hw hl => ?_)
          have hw : Wd D A s [oH ha (Hfl hv) (Hro hv) (Hrp hv) (Hca hv) (Hwy hv) (Hla hv) (Hmi hv) (Htf hv) (Htk hv), aV d ha 1 (HHO hv), aV d ha 2 (HAT hv), aV d ha 3 (HTO hv), aV d ha 4 (HWE hv), aV d ha 5 (HHE hv), aV d ha 6 (HRA hv), oS sa ha ta gt gf gc tra gs] H locs := hw
          have hl : lv_has ls 7 [(0, .ref (sa 0)), (1, .int p1), (2, .int p2), (3, .int x38.1), (4, .int x38.2)] := hl
          refine lv_iload hx hb dX0_share_38 (lv_at hl 4 rfl) ?_
          refine lv_aload_n hx hb dX0_share_40 rfl (lv_at hl 0 rfl) ?_
          refine va_get (ci := 1) (C := RX0) (T := TX0) (N := 14) hx hb hts in_X0 hown hK hw.1 7 rfl rfl 4 (by decide) (hts _ q298) (fun _ h9 => h9) rfl dX0_share_41 ?_
          obtain ⟨q12, hcq12, hf⟩ := op_e hf
          refine x_VI (wr := [oS sa ha ta gt gf gc tra gs]) (rest := [.int x38.2]) [] hX cx hw hl.1 (vX1_many l  D d cs wi ln lf dk dn him ha hv q12 hcq12) (lw_V q755 q663 q664 q83 q665) hd_X1_many ⟨(Nat.le_of_ble_eq_true rfl), (Nat.le_of_ble_eq_true rfl)⟩ (va_recv hK hw.1 (ci := 2) (q0 := 0) rfl rfl) rfl rfl (Nat.le_of_ble_eq_true rfl) dX0_share_44 [0, 1, 2, 3, 4, 5, 6] [7] rfl rfl rfl rfl (by decide) ⟨(Nat.le_of_ble_eq_true rfl), (Nat.le_of_ble_eq_true rfl)⟩ (fun r u H locs hp hw => ?_)
          have hw : Wd D A s [oS sa ha ta gt gf gc tra gs, oH ha (Hfl hv) (Hro hv) (Hrp hv) (Hca hv) (Hwy hv) (Hla hv) (Hmi hv) (Htf hv) (Htk hv), aV d ha 1 (HHO hv), aV d ha 2 (HAT hv), aV d ha 3 (HTO hv), aV d ha 4 (HWE hv), aV d ha 5 (HHE hv), aV d ha 6 (HRA hv)] H locs := hw
          subst r
          refine lv_icmp_ge (tgt := 65) hx hb dX0_share_47 (by decide) (fun c47 => ?_) (fun c47 => ?_)
          · have hf := if_t hf c47
            have hf := sm_e hf
            subst hf
            have hz := hout38 _ rfl
            subst hz
            exact hK38 _ _ _ (hw.sub [1, 2, 3, 4, 5, 6, 7, 0] rfl rfl) (lv_sub hl [0, 1, 2, 3] rfl)
          · have hf := if_f hf c47
            refine lv_iload_n hx hb dX0_share_50 rfl (lv_at hl 3 rfl) ?_
            refine lv_aload_n hx hb dX0_share_51 rfl (lv_at hl 0 rfl) ?_
            refine lv_iload hx hb dX0_share_52 (lv_at hl 4 rfl) ?_
            obtain ⟨q13, hcq13, hf⟩ := op_e hf
            refine x_VI (wr := []) (rest := [.int x38.1]) [.int x38.2] hX cx hw hl.1 (mX0_claim l  D d cs wi ln lf dk dn him ha sa ta hv gt gf gc tra gs x38.2 q13 hcq13) (lw_V q1014 q1016 qs30 q82 q1017) hd_X0_claim ⟨(Nat.le_of_ble_eq_true rfl), (Nat.le_of_ble_eq_true rfl)⟩ (va_recv hK hw.1 (ci := 1) (q0 := 0) rfl rfl) rfl rfl (Nat.le_of_ble_eq_true rfl) dX0_share_54 [1, 2, 3, 4, 5, 6, 7, 0] [] rfl rfl rfl rfl (by decide) ⟨(Nat.le_of_ble_eq_true rfl), (Nat.le_of_ble_eq_true rfl)⟩ (fun r u H locs hp hw => ?_)
            have hw : Wd D A s [oH ha (Hfl hv) (Hro hv) (Hrp hv) (Hca hv) (Hwy hv) (Hla hv) (Hmi hv) (Htf hv) (Htk hv), aV d ha 1 (HHO hv), aV d ha 2 (HAT hv), aV d ha 3 (HTO hv), aV d ha 4 (HWE hv), aV d ha 5 (HHE hv), aV d ha 6 (HRA hv), oS sa ha ta gt gf gc tra gs] H locs := hw
            subst r
            refine lv_iadd hx hb dX0_share_57 ?_
            refine lv_istore_n (lv' := [(3, .int (x38.1 + q13)), (0, .ref (sa 0)), (1, .int p1), (2, .int p2), (4, .int x38.2)]) hx hb dX0_share_58 rfl hl (by decide) rfl (fun ls hl => ?_)
            refine lv_iinc (v := (x38.2 + 1)) (lv' := [(4, .int (x38.2 + 1)), (3, .int (x38.1 + q13)), (0, .ref (sa 0)), (1, .int p1), (2, .int p2)]) hx hb dX0_share_59 hl (k := 4) rfl (by first | rfl | decide) (by decide) rfl (fun ls hl => ?_)
            refine lv_goto (tgt := 38) hx hb dX0_share_62 (by decide) ?_
            have hf := sm_e hf
            subst hf
            exact hin38 _ rfl _ _ _ hw (lv_sub hl [2, 3, 4, 1, 0] rfl)
      · have hf := if_t hf c28
        refine lv_iconst (v := 0) hx hb dX0_share_31 (by decide) ?_
        have hf := sm_e hf
        subst hf
        exact x_retI cx hw rfl () rfl [0, 1, 2, 3, 4, 5, 6, 7] rfl rfl (Nat.le_of_ble_eq_true rfl) (Nat.le_of_ble_eq_true rfl) dX0_share_32
    · have hf := if_t hf c17
      refine lv_ldc (v := (-1000001)) hx hb hown (hts _ q350) dX0_share_20 ?_
      have hf := sm_e hf
      subst hf
      exact x_retI cx hw rfl () rfl [0, 1, 2, 3, 4, 5, 6, 7] rfl rfl (Nat.le_of_ble_eq_true rfl) (Nat.le_of_ble_eq_true rfl) dX0_share_22
theorem hd_X0_isSo : yX0_isSo.cls = "DishLift" ∧ yX0_isSo.cls ≠ "java/lang/invoke/MethodHandle" ∧ yX0_isSo.cls ≠ "java/lang/invoke/VarHandle" ∧ (parseMethodDescriptor yX0_isSo.desc).map (fun d => d.parameters.length) = some 2 := by decide +kernel
set_option maxHeartbeats 4000000 in
theorem mX0_isSo (l : Launch)  (D : va_G) (d : Nat → ClassId) (cs : Nat → Nat) (wi : va_W) (ln : Nat → Option Int32) (lf : Nat → Nat → Option Nat) (dk : Nat → Option Nat) (dn : Nat → Int32) (him : ImF d wi ln lf dk dn) (ta : Nat → Nat) (sa : Nat → Nat) (ha : Nat → Nat) (rad : Nat) (rn : Nat) (tv : HV) (gt : Int32) (gf : Int32) (gc : Int32) (tra : Nat) (gs : Int32) (RC : Nat → Int32) (p1 : Int32)  (res : Int32 × HV) (hf : fX0_isSo ln lf dk rn tv RC p1 = some res) : MetI l yX0_isSo (ws_ yX0_isSo cX0_isSo 5 (some .boolean)) { frames := 6, cells := 0, slots := 0, locals := 183 } [.ref (sa 0), .int p1, .ref rad] (XI D cs wi) D d [(rad, .inl (d 0, rn, .inl RC)), oS sa ha ta gt gf gc tra gs, oH ta (Hfl tv) (Hro tv) (Hrp tv) (Hca tv) (Hwy tv) (Hla tv) (Hmi tv) (Htf tv) (Htk tv), aV d ta 1 (HHO tv), aV d ta 2 (HAT tv), aV d ta 3 (HTO tv), aV d ta 4 (HWE tv), aV d ta 5 (HHE tv), aV d ta 6 (HRA tv)] (fun r (_ : Unit) => r = res.1) (fun _ => [(rad, .inl (d 0, rn, .inl RC)), oS sa ha ta gt gf gc tra gs, oH ta (Hfl res.2) (Hro res.2) (Hrp res.2) (Hca res.2) (Hwy res.2) (Hla res.2) (Hmi res.2) (Htf res.2) (Htk res.2), aV d ta 1 (HHO res.2), aV d ta 2 (HAT res.2), aV d ta 3 (HTO res.2), aV d ta 4 (HWE res.2), aV d ta 5 (HHE res.2), aV d ta 6 (HRA res.2)]) := by
  have hX := XI.ok (D := D) (cs := cs) (wi := wi)
  refine MetI.of (by decide +kernel) (Nat.le_of_ble_eq_true rfl) ?_
  intro p e s m below meth c A cx hw ls hl
  have cx : Cx p s m _ meth c (XI D cs wi) D d A "DishLift" cX0_isSo 5 (some .boolean) "isSo" := cx
  have cx' := cx
  obtain ⟨hx, hb, hr, hlk, hml, hown, hts, hK, hA, hXs, hnm⟩ := cx'
  have hl : lv_has ls 5 [(0, .ref (sa 0)), (1, .int p1), (2, .ref rad)] := hl
  unfold fX0_isSo at hf
  refine lv_iconst (v := 1) hx hb dX0_isSo_0 (by decide) ?_
  refine lv_istore_n (lv' := [(3, .int 1), (0, .ref (sa 0)), (1, .int p1), (2, .ref rad)]) hx hb dX0_isSo_1 rfl hl (by decide) rfl (fun ls hl => ?_)
  refine lv_iconst (v := 0) hx hb dX0_isSo_2 (by decide) ?_
  refine lv_istore (lv' := [(4, .int 0), (3, .int 1), (0, .ref (sa 0)), (1, .int p1), (2, .ref rad)]) hx hb dX0_isSo_3 hl (by decide) rfl (fun ls hl => ?_)
  obtain ⟨r1, hlp5, hf⟩ := op_e hf
  refine x_join (A := A) (D := D) (J := 45) (nL := 5) (cells' := 0) (slots' := 0) (st := []) [(rad, .inl (d 0, rn, .inl RC)), oS sa ha ta gt gf gc tra gs, oH ta (Hfl r1.2) (Hro r1.2) (Hrp r1.2) (Hca r1.2) (Hwy r1.2) (Hla r1.2) (Hmi r1.2) (Htf r1.2) (Htk r1.2), aV d ta 1 (HHO r1.2), aV d ta 2 (HAT r1.2), aV d ta 3 (HTO r1.2), aV d ta 4 (HWE r1.2), aV d ta 5 (HHE r1.2), aV d ta 6 (HRA r1.2)] [(3, .int r1.1)] (fun H locs ls hw hl => ?_) (fun hK5 => ?_)
  · refine lv_iload_n hx hb dX0_isSo_45 rfl (lv_at hl 0 rfl) ?_
    obtain ⟨g2, hgb, hf⟩ := op_e hf
    have hf := sm_e hf
    subst hf
    exact x_retI cx hw (gb_spec hgb) () rfl [0, 1, 2, 3, 4, 5, 6, 7, 8] rfl rfl (Nat.le_of_ble_eq_true rfl) (Nat.le_of_ble_eq_true rfl) dX0_isSo_46
  · refine x_lp hlp5 (fun x5 => [(rad, .inl (d 0, rn, .inl RC)), oS sa ha ta gt gf gc tra gs, oH ta (Hfl x5.2.2) (Hro x5.2.2) (Hrp x5.2.2) (Hca x5.2.2) (Hwy x5.2.2) (Hla x5.2.2) (Hmi x5.2.2) (Htf x5.2.2) (Htk x5.2.2), aV d ta 1 (HHO x5.2.2), aV d ta 2 (HAT x5.2.2), aV d ta 3 (HTO x5.2.2), aV d ta 4 (HWE x5.2.2), aV d ta 5 (HHE x5.2.2), aV d ta 6 (HRA x5.2.2)]) (fun x5 => [(0, .ref (sa 0)), (1, .int p1), (2, .ref rad), (3, .int x5.1), (4, .int x5.2.1)]) hw (lv_sub hl [2, 3, 4, 1, 0] rfl) (fun x5 y5 hf hin5 hout5 H locs ls hw hl => ?_)
    have hw : Wd D A s [(rad, .inl (d 0, rn, .inl RC)), oS sa ha ta gt gf gc tra gs, oH ta (Hfl x5.2.2) (Hro x5.2.2) (Hrp x5.2.2) (Hca x5.2.2) (Hwy x5.2.2) (Hla x5.2.2) (Hmi x5.2.2) (Htf x5.2.2) (Htk x5.2.2), aV d ta 1 (HHO x5.2.2), aV d ta 2 (HAT x5.2.2), aV d ta 3 (HTO x5.2.2), aV d ta 4 (HWE x5.2.2), aV d ta 5 (HHE x5.2.2), aV d ta 6 (HRA x5.2.2)] H locs := hw
    have hl : lv_has ls 5 [(0, .ref (sa 0)), (1, .int p1), (2, .ref rad), (3, .int x5.1), (4, .int x5.2.1)] := hl
    refine lv_iload hx hb dX0_isSo_5 (lv_at hl 4 rfl) ?_
    refine lv_aload_n hx hb dX0_isSo_7 rfl (lv_at hl 2 rfl) ?_
    refine va_alen (v := (Int32.ofNat rn)) hx hb hK hw.1 0 0 rfl rfl rfl dX0_isSo_8 ?_
    refine lv_icmp_ge (tgt := 45) hx hb dX0_isSo_9 (by decide) (fun c9 => ?_) (fun c9 => ?_)
    · have hf := if_t hf c9
      have hf := sm_e hf
      subst hf
      have hz := hout5 _ rfl
      subst hz
      exact hK5 _ _ _ hw (lv_sub hl [3] rfl)
    · have hf := if_f hf c9
      refine lv_iload_n hx hb dX0_isSo_12 rfl (lv_at hl 3 rfl) ?_
      refine lv_aload_n hx hb dX0_isSo_13 rfl (lv_at hl 0 rfl) ?_
      refine va_get (ci := 1) (C := RX0) (T := TX0) (N := 14) hx hb hts in_X0 hown hK hw.1 1 rfl rfl 5 (by decide) (hts _ q299) (fun _ h9 => h9) rfl dX0_isSo_14 ?_
      obtain ⟨q3, hcq3, hf⟩ := op_e hf
      refine x_VA (wr := [(rad, .inl (d 0, rn, .inl RC)), oS sa ha ta gt gf gc tra gs]) (rest := [.int x5.1]) [] hX cx hw hl.1 (vX1_pass l  D d cs wi ln lf dk dn him ta x5.2.2 q3 hcq3) (lw_V q778 q779 q780 q83 q781) hd_X1_pass ⟨(Nat.le_of_ble_eq_true rfl), (Nat.le_of_ble_eq_true rfl)⟩ (va_recv hK hw.1 (ci := 2) (q0 := 2) rfl rfl) rfl rfl (Nat.le_of_ble_eq_true rfl) dX0_isSo_17 [2, 3, 4, 5, 6, 7, 8] [0, 1] rfl rfl rfl rfl (by decide) ⟨(Nat.le_of_ble_eq_true rfl), (Nat.le_of_ble_eq_true rfl)⟩ (fun u H locs hp hw => ?_)
      have hw : Wd D A s [(rad, .inl (d 0, rn, .inl RC)), oS sa ha ta gt gf gc tra gs, oH ta (Hfl q3) (Hro q3) (Hrp q3) (Hca q3) (Hwy q3) (Hla q3) (Hmi q3) (Htf q3) (Htk q3), aV d ta 1 (HHO q3), aV d ta 2 (HAT q3), aV d ta 3 (HTO q3), aV d ta 4 (HWE q3), aV d ta 5 (HHE q3), aV d ta 6 (HRA q3)] H locs := hw
      refine va_get (ci := 2) (C := RX1) (T := TX1) (N := 15) hx hb hts in_X1 hown hK hw.1 2 rfl rfl 10 (by decide) (hts _ q190) (fun _ h9 => h9) rfl dX0_isSo_20 ?_
      refine lv_iload_n hx hb dX0_isSo_23 rfl (lv_at hl 1 rfl) ?_
      obtain ⟨v4, hrd, hf⟩ := op_e hf
      refine x_iald (q0 := 7) cx hw rfl hrd dX0_isSo_24 ?_
      refine lv_aload_n hx hb dX0_isSo_25 rfl (lv_at hl 2 rfl) ?_
      refine lv_iload hx hb dX0_isSo_26 (lv_at hl 4 rfl) ?_
      obtain ⟨v5, hrd, hf⟩ := op_e hf
      refine x_iald (q0 := 0) cx hw rfl hrd dX0_isSo_28 ?_
      refine lv_icmp_ne (tgt := 36) hx hb dX0_isSo_29 (by decide) (fun c29 => ?_) (fun c29 => ?_)
      · have hf := if_f hf c29
        refine lv_iconst (v := 0) hx hb dX0_isSo_36 (by decide) ?_
        refine lv_iand hx hb dX0_isSo_37 ?_
        refine lv_istore_n (lv' := [(3, .int (x5.1 &&& 0)), (0, .ref (sa 0)), (1, .int p1), (2, .ref rad), (4, .int x5.2.1)]) hx hb dX0_isSo_38 rfl hl (by decide) rfl (fun ls hl => ?_)
        refine lv_iinc (v := (x5.2.1 + 1)) (lv' := [(4, .int (x5.2.1 + 1)), (3, .int (x5.1 &&& 0)), (0, .ref (sa 0)), (1, .int p1), (2, .ref rad)]) hx hb dX0_isSo_39 hl (k := 4) rfl (by first | rfl | decide) (by decide) rfl (fun ls hl => ?_)
        refine lv_goto (tgt := 5) hx hb dX0_isSo_42 (by decide) ?_
        have hf := sm_e hf
        subst hf
        exact hin5 _ rfl _ _ _ hw (lv_sub hl [2, 3, 4, 1, 0] rfl)
      · have hf := if_t hf c29
        refine lv_iconst (v := 1) hx hb dX0_isSo_32 (by decide) ?_
        refine lv_goto (tgt := 37) hx hb dX0_isSo_33 (by decide) ?_
        refine lv_iand hx hb dX0_isSo_37 ?_
        refine lv_istore_n (lv' := [(3, .int (x5.1 &&& 1)), (0, .ref (sa 0)), (1, .int p1), (2, .ref rad), (4, .int x5.2.1)]) hx hb dX0_isSo_38 rfl hl (by decide) rfl (fun ls hl => ?_)
        refine lv_iinc (v := (x5.2.1 + 1)) (lv' := [(4, .int (x5.2.1 + 1)), (3, .int (x5.1 &&& 1)), (0, .ref (sa 0)), (1, .int p1), (2, .ref rad)]) hx hb dX0_isSo_39 hl (k := 4) rfl (by first | rfl | decide) (by decide) rfl (fun ls hl => ?_)
        refine lv_goto (tgt := 5) hx hb dX0_isSo_42 (by decide) ?_
        have hf := sm_e hf
        subst hf
        exact hin5 _ rfl _ _ _ hw (lv_sub hl [2, 3, 4, 1, 0] rfl)
theorem hd_X0_alters : yX0_alters.cls = "DishLift" ∧ yX0_alters.cls ≠ "java/lang/invoke/MethodHandle" ∧ yX0_alters.cls ≠ "java/lang/invoke/VarHandle" ∧ (parseMethodDescriptor yX0_alters.desc).map (fun d => d.parameters.length) = some 3 := by decide +kernel
set_option maxHeartbeats 4000000 in
theorem mX0_alters (l : Launch)  (D : va_G) (d : Nat → ClassId) (cs : Nat → Nat) (wi : va_W) (ln : Nat → Option Int32) (lf : Nat → Nat → Option Nat) (dk : Nat → Option Nat) (dn : Nat → Int32) (him : ImF d wi ln lf dk dn) (ha : Nat → Nat) (ta : Nat → Nat) (sa : Nat → Nat) (hv : HV) (tv : HV) (gt : Int32) (gf : Int32) (gc : Int32) (tra : Nat) (gs : Int32) (TK : Nat → Option Nat) (p1 : Int32) (p2 : Int32) (p3 : Int32)  (res : HV) (hf : fX0_alters hv tv TK p1 p2 p3 = some res) : MetV l yX0_alters (ws_ yX0_alters cX0_alters 4 none) { frames := 3, cells := 0, slots := 0, locals := 81 } [.ref (sa 0), .int p1, .int p2, .int p3] (XI D cs wi) D d [oH ha (Hfl hv) (Hro hv) (Hrp hv) (Hca hv) (Hwy hv) (Hla hv) (Hmi hv) (Htf hv) (Htk hv), aV d ha 1 (HHO hv), aV d ha 2 (HAT hv), aV d ha 3 (HTO hv), aV d ha 4 (HWE hv), aV d ha 5 (HHE hv), aV d ha 6 (HRA hv), oS sa ha ta gt gf gc tra gs, ((sa 7), .inl (d 5, 5, .inr (.inr (.inr (.inr TK))))), oH ta (Hfl tv) (Hro tv) (Hrp tv) (Hca tv) (Hwy tv) (Hla tv) (Hmi tv) (Htf tv) (Htk tv), aV d ta 1 (HHO tv), aV d ta 2 (HAT tv), aV d ta 3 (HTO tv), aV d ta 4 (HWE tv), aV d ta 5 (HHE tv), aV d ta 6 (HRA tv)] (fun (_ : Unit) => True) (fun _ => [oH ha (Hfl hv) (Hro hv) (Hrp hv) (Hca hv) (Hwy hv) (Hla hv) (Hmi hv) (Htf hv) (Htk hv), aV d ha 1 (HHO hv), aV d ha 2 (HAT hv), aV d ha 3 (HTO hv), aV d ha 4 (HWE hv), aV d ha 5 (HHE hv), aV d ha 6 (HRA hv), oS sa ha ta gt gf gc tra gs, ((sa 7), .inl (d 5, 5, .inr (.inr (.inr (.inr TK))))), oH ta (Hfl res) (Hro res) (Hrp res) (Hca res) (Hwy res) (Hla res) (Hmi res) (Htf res) (Htk res), aV d ta 1 (HHO res), aV d ta 2 (HAT res), aV d ta 3 (HTO res), aV d ta 4 (HWE res), aV d ta 5 (HHE res), aV d ta 6 (HRA res)]) := by
  have hX := XI.ok (D := D) (cs := cs) (wi := wi)
  refine MetV.of (by decide +kernel) (Nat.le_of_ble_eq_true rfl) ?_
  intro p e s m below meth c A cx hw ls hl
  have cx : Cx p s m _ meth c (XI D cs wi) D d A "DishLift" cX0_alters 4 none "alters" := cx
  have cx' := cx
  obtain ⟨hx, hb, hr, hlk, hml, hown, hts, hK, hA, hXs, hnm⟩ := cx'
  have hl : lv_has ls 4 [(0, .ref (sa 0)), (1, .int p1), (2, .int p2), (3, .int p3)] := hl
  unfold fX0_alters at hf
  refine lv_aload_n hx hb dX0_alters_0 rfl (lv_at hl 0 rfl) ?_
  obtain ⟨q1, hcq1, hf⟩ := op_e hf
  refine x_VA (wr := [((sa 7), .inl (d 5, 5, .inr (.inr (.inr (.inr TK)))))]) (rest := []) [] hX cx hw hl.1 (mX0_tried l  D d cs wi ln lf dk dn him ha ta sa hv tv gt gf gc tra gs q1 hcq1) (lw_V q932 q934 qs24 q82 q935) hd_X0_tried ⟨(Nat.le_of_ble_eq_true rfl), (Nat.le_of_ble_eq_true rfl)⟩ (va_recv hK hw.1 (ci := 1) (q0 := 7) rfl rfl) rfl rfl (Nat.le_of_ble_eq_true rfl) dX0_alters_1 [0, 1, 2, 3, 4, 5, 6, 7, 9, 10, 11, 12, 13, 14, 15] [8] rfl rfl rfl rfl (by decide) ⟨(Nat.le_of_ble_eq_true rfl), (Nat.le_of_ble_eq_true rfl)⟩ (fun u H locs hp hw => ?_)
  have hw : Wd D A s [((sa 7), .inl (d 5, 5, .inr (.inr (.inr (.inr TK))))), oH ha (Hfl hv) (Hro hv) (Hrp hv) (Hca hv) (Hwy hv) (Hla hv) (Hmi hv) (Htf hv) (Htk hv), aV d ha 1 (HHO hv), aV d ha 2 (HAT hv), aV d ha 3 (HTO hv), aV d ha 4 (HWE hv), aV d ha 5 (HHE hv), aV d ha 6 (HRA hv), oS sa ha ta gt gf gc tra gs, oH ta (Hfl q1) (Hro q1) (Hrp q1) (Hca q1) (Hwy q1) (Hla q1) (Hmi q1) (Htf q1) (Htk q1), aV d ta 1 (HHO q1), aV d ta 2 (HAT q1), aV d ta 3 (HTO q1), aV d ta 4 (HWE q1), aV d ta 5 (HHE q1), aV d ta 6 (HRA q1)] H locs := hw
  refine lv_pop hx hb dX0_alters_4 rfl ?_
  refine lv_iload_n hx hb dX0_alters_5 rfl (lv_at hl 2 rfl) ?_
  by_cases n0 : p2 = 0
  · have hf := if_t hf n0
    refine lv_tableIn (tgt := 32) hx hb dX0_alters_6 (by rw [n0]; decide) (by rw [n0]; decide) (by rw [n0]; rfl) (by decide) ?_
    refine lv_aload_n hx hb dX0_alters_32 rfl (lv_at hl 0 rfl) ?_
    refine va_get (ci := 1) (C := RX0) (T := TX0) (N := 14) hx hb hts in_X0 hown hK hw.1 8 rfl rfl 5 (by decide) (hts _ q299) (fun _ h9 => h9) rfl dX0_alters_33 ?_
    refine lv_iload_n hx hb dX0_alters_36 rfl (lv_at hl 1 rfl) ?_
    refine va_put (ci := 2) (v := .int p1) (ty := .int) (C := RX1) (T := TX1) (N := 15) hx hb hts in_X1 tyX1 tyX1_ok nmX1 hown hK hw.1 hw.2.1 hw.2.2 9 rfl rfl 13 (by decide) (hts _ q196) (fun _ h9 => h9) rfl (by decide +kernel) rfl rfl (Nat.le_of_ble_eq_true rfl) dX0_alters_37 (fun H locs hP hD hS => ?_)
    have hw : Wd D A s [((sa 7), .inl (d 5, 5, .inr (.inr (.inr (.inr TK))))), oH ha (Hfl hv) (Hro hv) (Hrp hv) (Hca hv) (Hwy hv) (Hla hv) (Hmi hv) (Htf hv) (Htk hv), aV d ha 1 (HHO hv), aV d ha 2 (HAT hv), aV d ha 3 (HTO hv), aV d ha 4 (HWE hv), aV d ha 5 (HHE hv), aV d ha 6 (HRA hv), oS sa ha ta gt gf gc tra gs, oH ta (Hfl q1) (Hro q1) (Hrp q1) (Hca q1) (Hwy q1) (Hla q1) (Hmi q1) p1 (Htk q1), aV d ta 1 (HHO q1), aV d ta 2 (HAT q1), aV d ta 3 (HTO q1), aV d ta 4 (HWE q1), aV d ta 5 (HHE q1), aV d ta 6 (HRA q1)] H locs := ⟨hP, hD, hS⟩
    obtain ⟨b2, hb0, hf⟩ := op_e hf
    obtain ⟨e0, e1, e2, e3, e4, e5, e6, e7, e8, e9, e10, e11, e12, e13, e14⟩ := actf (sm_e hb0)
    have hw : Wd D A s [((sa 7), .inl (d 5, 5, .inr (.inr (.inr (.inr TK))))), oH ha (Hfl hv) (Hro hv) (Hrp hv) (Hca hv) (Hwy hv) (Hla hv) (Hmi hv) (Htf hv) (Htk hv), aV d ha 1 (HHO hv), aV d ha 2 (HAT hv), aV d ha 3 (HTO hv), aV d ha 4 (HWE hv), aV d ha 5 (HHE hv), aV d ha 6 (HRA hv), oS sa ha ta gt gf gc tra gs, oH ta (Hfl b2) (Hro b2) (Hrp b2) (Hca b2) (Hwy b2) (Hla b2) (Hmi b2) (Htf b2) (Htk b2), aV d ta 1 (HHO b2), aV d ta 2 (HAT b2), aV d ta 3 (HTO b2), aV d ta 4 (HWE b2), aV d ta 5 (HHE b2), aV d ta 6 (HRA b2)] H locs := by rw [e0, e1, e2, e3, e4, e5, e6, e7, e8, e9, e10, e11, e12, e13, e14]; exact hw
    refine lv_aload_n hx hb dX0_alters_40 rfl (lv_at hl 0 rfl) ?_
    refine va_get (ci := 1) (C := RX0) (T := TX0) (N := 14) hx hb hts in_X0 hown hK hw.1 8 rfl rfl 5 (by decide) (hts _ q299) (fun _ h9 => h9) rfl dX0_alters_41 ?_
    refine lv_aload_n hx hb dX0_alters_44 rfl (lv_at hl 0 rfl) ?_
    refine va_get (ci := 1) (C := RX0) (T := TX0) (N := 14) hx hb hts in_X0 hown hK hw.1 8 rfl rfl 13 (by decide) (hts _ q307) (fun _ h9 => h9) rfl dX0_alters_45 ?_
    refine lv_iload_n hx hb dX0_alters_48 rfl (lv_at hl 3 rfl) ?_
    refine lv_iconst (v := 1) hx hb dX0_alters_49 (by decide) ?_
    refine lv_isub hx hb dX0_alters_50 ?_
    obtain ⟨o3, hrd, hf⟩ := op_e hf
    refine x_aald (q0 := 0) (t0 := 5) cx hw rfl rfl hrd dX0_alters_51 ?_
    obtain ⟨e4, ho, hf⟩ := op_e hf
    refine W.eq (g2 := F0 m 52 ls [.ref e4, .ref (ta 0)]) (by rw [ho]; rfl) ?_
    refine va_put (ci := 2) (v := .ref e4) (ty := (.object "DishLift$Dish")) (C := RX1) (T := TX1) (N := 15) hx hb hts in_X1 tyX1 tyX1_ok nmX1 hown hK hw.1 hw.2.1 hw.2.2 9 rfl rfl 14 (by decide) (hts _ q198) (fun _ h9 => h9) rfl (by decide +kernel) rfl rfl (Nat.le_of_ble_eq_true rfl) dX0_alters_52 (fun H locs hP hD hS => ?_)
    have hw : Wd D A s [((sa 7), .inl (d 5, 5, .inr (.inr (.inr (.inr TK))))), oH ha (Hfl hv) (Hro hv) (Hrp hv) (Hca hv) (Hwy hv) (Hla hv) (Hmi hv) (Htf hv) (Htk hv), aV d ha 1 (HHO hv), aV d ha 2 (HAT hv), aV d ha 3 (HTO hv), aV d ha 4 (HWE hv), aV d ha 5 (HHE hv), aV d ha 6 (HRA hv), oS sa ha ta gt gf gc tra gs, oH ta (Hfl b2) (Hro b2) (Hrp b2) (Hca b2) (Hwy b2) (Hla b2) (Hmi b2) (Htf b2) (some e4), aV d ta 1 (HHO b2), aV d ta 2 (HAT b2), aV d ta 3 (HTO b2), aV d ta 4 (HWE b2), aV d ta 5 (HHE b2), aV d ta 6 (HRA b2)] H locs := ⟨hP, hD, hS⟩
    obtain ⟨b5, hb0, hf⟩ := op_e hf
    obtain ⟨e0, e1, e2, e3, e4, e5, e6, e7, e8, e9, e10, e11, e12, e13, e14⟩ := actk (sm_e hb0)
    have hw : Wd D A s [((sa 7), .inl (d 5, 5, .inr (.inr (.inr (.inr TK))))), oH ha (Hfl hv) (Hro hv) (Hrp hv) (Hca hv) (Hwy hv) (Hla hv) (Hmi hv) (Htf hv) (Htk hv), aV d ha 1 (HHO hv), aV d ha 2 (HAT hv), aV d ha 3 (HTO hv), aV d ha 4 (HWE hv), aV d ha 5 (HHE hv), aV d ha 6 (HRA hv), oS sa ha ta gt gf gc tra gs, oH ta (Hfl b5) (Hro b5) (Hrp b5) (Hca b5) (Hwy b5) (Hla b5) (Hmi b5) (Htf b5) (Htk b5), aV d ta 1 (HHO b5), aV d ta 2 (HAT b5), aV d ta 3 (HTO b5), aV d ta 4 (HWE b5), aV d ta 5 (HHE b5), aV d ta 6 (HRA b5)] H locs := by rw [e0, e1, e2, e3, e4, e5, e6, e7, e8, e9, e10, e11, e12, e13, e14]; exact hw
    refine lv_goto (tgt := 90) hx hb dX0_alters_55 (by decide) ?_
    have hf := sm_e hf
    subst hf
    exact x_retV cx hw () trivial [1, 2, 3, 4, 5, 6, 7, 8, 0, 9, 10, 11, 12, 13, 14, 15] rfl rfl (Nat.le_of_ble_eq_true rfl) (Nat.le_of_ble_eq_true rfl) dX0_alters_90
  · have hf := if_f hf n0
    by_cases n1 : p2 = 1
    · have hf := if_t hf n1
      refine lv_tableIn (tgt := 58) hx hb dX0_alters_6 (by rw [n1]; decide) (by rw [n1]; decide) (by rw [n1]; rfl) (by decide) ?_
      refine lv_aload_n hx hb dX0_alters_58 rfl (lv_at hl 0 rfl) ?_
      refine va_get (ci := 1) (C := RX0) (T := TX0) (N := 14) hx hb hts in_X0 hown hK hw.1 8 rfl rfl 5 (by decide) (hts _ q299) (fun _ h9 => h9) rfl dX0_alters_59 ?_
      refine lv_iload_n hx hb dX0_alters_62 rfl (lv_at hl 3 rfl) ?_
      refine va_put (ci := 2) (v := .int p3) (ty := .int) (C := RX1) (T := TX1) (N := 15) hx hb hts in_X1 tyX1 tyX1_ok nmX1 hown hK hw.1 hw.2.1 hw.2.2 9 rfl rfl 3 (by decide) (hts _ q169) (fun _ h9 => h9) rfl (by decide +kernel) rfl rfl (Nat.le_of_ble_eq_true rfl) dX0_alters_63 (fun H locs hP hD hS => ?_)
      have hw : Wd D A s [((sa 7), .inl (d 5, 5, .inr (.inr (.inr (.inr TK))))), oH ha (Hfl hv) (Hro hv) (Hrp hv) (Hca hv) (Hwy hv) (Hla hv) (Hmi hv) (Htf hv) (Htk hv), aV d ha 1 (HHO hv), aV d ha 2 (HAT hv), aV d ha 3 (HTO hv), aV d ha 4 (HWE hv), aV d ha 5 (HHE hv), aV d ha 6 (HRA hv), oS sa ha ta gt gf gc tra gs, oH ta (Hfl q1) (Hro q1) (Hrp q1) p3 (Hwy q1) (Hla q1) (Hmi q1) (Htf q1) (Htk q1), aV d ta 1 (HHO q1), aV d ta 2 (HAT q1), aV d ta 3 (HTO q1), aV d ta 4 (HWE q1), aV d ta 5 (HHE q1), aV d ta 6 (HRA q1)] H locs := ⟨hP, hD, hS⟩
      obtain ⟨b6, hb0, hf⟩ := op_e hf
      obtain ⟨e0, e1, e2, e3, e4, e5, e6, e7, e8, e9, e10, e11, e12, e13, e14⟩ := acca (sm_e hb0)
      have hw : Wd D A s [((sa 7), .inl (d 5, 5, .inr (.inr (.inr (.inr TK))))), oH ha (Hfl hv) (Hro hv) (Hrp hv) (Hca hv) (Hwy hv) (Hla hv) (Hmi hv) (Htf hv) (Htk hv), aV d ha 1 (HHO hv), aV d ha 2 (HAT hv), aV d ha 3 (HTO hv), aV d ha 4 (HWE hv), aV d ha 5 (HHE hv), aV d ha 6 (HRA hv), oS sa ha ta gt gf gc tra gs, oH ta (Hfl b6) (Hro b6) (Hrp b6) (Hca b6) (Hwy b6) (Hla b6) (Hmi b6) (Htf b6) (Htk b6), aV d ta 1 (HHO b6), aV d ta 2 (HAT b6), aV d ta 3 (HTO b6), aV d ta 4 (HWE b6), aV d ta 5 (HHE b6), aV d ta 6 (HRA b6)] H locs := by rw [e0, e1, e2, e3, e4, e5, e6, e7, e8, e9, e10, e11, e12, e13, e14]; exact hw
      refine lv_goto (tgt := 90) hx hb dX0_alters_66 (by decide) ?_
      have hf := sm_e hf
      subst hf
      exact x_retV cx hw () trivial [1, 2, 3, 4, 5, 6, 7, 8, 0, 9, 10, 11, 12, 13, 14, 15] rfl rfl (Nat.le_of_ble_eq_true rfl) (Nat.le_of_ble_eq_true rfl) dX0_alters_90
    · have hf := if_f hf n1
      by_cases n2 : p2 = 2
      · have hf := if_t hf n2
        refine lv_tableIn (tgt := 69) hx hb dX0_alters_6 (by rw [n2]; decide) (by rw [n2]; decide) (by rw [n2]; rfl) (by decide) ?_
        refine lv_aload_n hx hb dX0_alters_69 rfl (lv_at hl 0 rfl) ?_
        refine va_get (ci := 1) (C := RX0) (T := TX0) (N := 14) hx hb hts in_X0 hown hK hw.1 8 rfl rfl 5 (by decide) (hts _ q299) (fun _ h9 => h9) rfl dX0_alters_70 ?_
        refine va_get (ci := 2) (C := RX1) (T := TX1) (N := 15) hx hb hts in_X1 hown hK hw.1 9 rfl rfl 10 (by decide) (hts _ q190) (fun _ h9 => h9) rfl dX0_alters_73 ?_
        refine lv_iload_n hx hb dX0_alters_76 rfl (lv_at hl 1 rfl) ?_
        refine lv_iload_n hx hb dX0_alters_77 rfl (lv_at hl 3 rfl) ?_
        obtain ⟨w7, hrd, hf⟩ := op_e hf
        refine x_iast (q0 := 14) cx hw rfl hrd dX0_alters_78 (fun H locs hw => ?_)
        have hw : Wd D A s [((sa 7), .inl (d 5, 5, .inr (.inr (.inr (.inr TK))))), oH ha (Hfl hv) (Hro hv) (Hrp hv) (Hca hv) (Hwy hv) (Hla hv) (Hmi hv) (Htf hv) (Htk hv), aV d ha 1 (HHO hv), aV d ha 2 (HAT hv), aV d ha 3 (HTO hv), aV d ha 4 (HWE hv), aV d ha 5 (HHE hv), aV d ha 6 (HRA hv), oS sa ha ta gt gf gc tra gs, oH ta (Hfl q1) (Hro q1) (Hrp q1) (Hca q1) (Hwy q1) (Hla q1) (Hmi q1) (Htf q1) (Htk q1), aV d ta 1 (HHO q1), aV d ta 2 (HAT q1), aV d ta 3 (HTO q1), aV d ta 4 (HWE q1), aV d ta 5 w7, aV d ta 6 (HRA q1)] H locs := hw
        obtain ⟨b8, hb0, hf⟩ := op_e hf
        obtain ⟨e0, e1, e2, e3, e4, e5, e6, e7, e8, e9, e10, e11, e12, e13, e14⟩ := acHE (sm_e hb0)
        have hw : Wd D A s [((sa 7), .inl (d 5, 5, .inr (.inr (.inr (.inr TK))))), oH ha (Hfl hv) (Hro hv) (Hrp hv) (Hca hv) (Hwy hv) (Hla hv) (Hmi hv) (Htf hv) (Htk hv), aV d ha 1 (HHO hv), aV d ha 2 (HAT hv), aV d ha 3 (HTO hv), aV d ha 4 (HWE hv), aV d ha 5 (HHE hv), aV d ha 6 (HRA hv), oS sa ha ta gt gf gc tra gs, oH ta (Hfl b8) (Hro b8) (Hrp b8) (Hca b8) (Hwy b8) (Hla b8) (Hmi b8) (Htf b8) (Htk b8), aV d ta 1 (HHO b8), aV d ta 2 (HAT b8), aV d ta 3 (HTO b8), aV d ta 4 (HWE b8), aV d ta 5 (HHE b8), aV d ta 6 (HRA b8)] H locs := by rw [e0, e1, e2, e3, e4, e5, e6, e7, e8, e9, e10, e11, e12, e13, e14]; exact hw
        refine lv_goto (tgt := 90) hx hb dX0_alters_79 (by decide) ?_
        have hf := sm_e hf
        subst hf
        exact x_retV cx hw () trivial [1, 2, 3, 4, 5, 6, 7, 8, 0, 9, 10, 11, 12, 13, 14, 15] rfl rfl (Nat.le_of_ble_eq_true rfl) (Nat.le_of_ble_eq_true rfl) dX0_alters_90
      · have hf := if_f hf n2
        have t0 := lv_neT (a := 0) n0 (by decide)
        have t1 := lv_neT (a := 1) n1 (by decide)
        have t2 := lv_neT (a := 2) n2 (by decide)
        refine lv_tableOut (tgt := 82) hx hb dX0_alters_6 (by omega) (by decide) ?_
        refine lv_aload_n hx hb dX0_alters_82 rfl (lv_at hl 0 rfl) ?_
        refine va_get (ci := 1) (C := RX0) (T := TX0) (N := 14) hx hb hts in_X0 hown hK hw.1 8 rfl rfl 5 (by decide) (hts _ q299) (fun _ h9 => h9) rfl dX0_alters_83 ?_
        refine lv_iload_n hx hb dX0_alters_86 rfl (lv_at hl 3 rfl) ?_
        refine va_put (ci := 2) (v := .int p3) (ty := .int) (C := RX1) (T := TX1) (N := 15) hx hb hts in_X1 tyX1 tyX1_ok nmX1 hown hK hw.1 hw.2.1 hw.2.2 9 rfl rfl 2 (by decide) (hts _ q167) (fun _ h9 => h9) rfl (by decide +kernel) rfl rfl (Nat.le_of_ble_eq_true rfl) dX0_alters_87 (fun H locs hP hD hS => ?_)
        have hw : Wd D A s [((sa 7), .inl (d 5, 5, .inr (.inr (.inr (.inr TK))))), oH ha (Hfl hv) (Hro hv) (Hrp hv) (Hca hv) (Hwy hv) (Hla hv) (Hmi hv) (Htf hv) (Htk hv), aV d ha 1 (HHO hv), aV d ha 2 (HAT hv), aV d ha 3 (HTO hv), aV d ha 4 (HWE hv), aV d ha 5 (HHE hv), aV d ha 6 (HRA hv), oS sa ha ta gt gf gc tra gs, oH ta (Hfl q1) (Hro q1) p3 (Hca q1) (Hwy q1) (Hla q1) (Hmi q1) (Htf q1) (Htk q1), aV d ta 1 (HHO q1), aV d ta 2 (HAT q1), aV d ta 3 (HTO q1), aV d ta 4 (HWE q1), aV d ta 5 (HHE q1), aV d ta 6 (HRA q1)] H locs := ⟨hP, hD, hS⟩
        obtain ⟨b9, hb0, hf⟩ := op_e hf
        obtain ⟨e0, e1, e2, e3, e4, e5, e6, e7, e8, e9, e10, e11, e12, e13, e14⟩ := acrp (sm_e hb0)
        have hw : Wd D A s [((sa 7), .inl (d 5, 5, .inr (.inr (.inr (.inr TK))))), oH ha (Hfl hv) (Hro hv) (Hrp hv) (Hca hv) (Hwy hv) (Hla hv) (Hmi hv) (Htf hv) (Htk hv), aV d ha 1 (HHO hv), aV d ha 2 (HAT hv), aV d ha 3 (HTO hv), aV d ha 4 (HWE hv), aV d ha 5 (HHE hv), aV d ha 6 (HRA hv), oS sa ha ta gt gf gc tra gs, oH ta (Hfl b9) (Hro b9) (Hrp b9) (Hca b9) (Hwy b9) (Hla b9) (Hmi b9) (Htf b9) (Htk b9), aV d ta 1 (HHO b9), aV d ta 2 (HAT b9), aV d ta 3 (HTO b9), aV d ta 4 (HWE b9), aV d ta 5 (HHE b9), aV d ta 6 (HRA b9)] H locs := by rw [e0, e1, e2, e3, e4, e5, e6, e7, e8, e9, e10, e11, e12, e13, e14]; exact hw
        have hf := sm_e hf
        subst hf
        exact x_retV cx hw () trivial [1, 2, 3, 4, 5, 6, 7, 8, 0, 9, 10, 11, 12, 13, 14, 15] rfl rfl (Nat.le_of_ble_eq_true rfl) (Nat.le_of_ble_eq_true rfl) dX0_alters_90
theorem hd_X0_setOf : yX0_setOf.cls = "DishLift" ∧ yX0_setOf.cls ≠ "java/lang/invoke/MethodHandle" ∧ yX0_setOf.cls ≠ "java/lang/invoke/VarHandle" ∧ (parseMethodDescriptor yX0_setOf.desc).map (fun d => d.parameters.length) = some 3 := by decide +kernel
set_option maxHeartbeats 4000000 in
theorem mX0_setOf (l : Launch)  (D : va_G) (d : Nat → ClassId) (cs : Nat → Nat) (wi : va_W) (ln : Nat → Option Int32) (lf : Nat → Nat → Option Nat) (dk : Nat → Option Nat) (dn : Nat → Int32) (him : ImF d wi ln lf dk dn) (ha : Nat → Nat) (ta : Nat → Nat) (sa : Nat → Nat) (rad : Nat) (rn : Nat) (hv : HV) (tv : HV) (gt : Int32) (gf : Int32) (gc : Int32) (tra : Nat) (gs : Int32) (TK : Nat → Option Nat) (RC : Nat → Int32) (p1 : Int32) (p2 : Int32)  (res : Int32 × HV) (hf : fX0_setOf ln lf dk rn hv tv TK RC p1 p2 = some res) : MetI l yX0_setOf (ws_ yX0_setOf cX0_setOf 6 (some .int)) { frames := 7, cells := 0, slots := 0, locals := 207 } [.ref (sa 0), .int p1, .int p2, .ref rad] (XI D cs wi) D d [oH ha (Hfl hv) (Hro hv) (Hrp hv) (Hca hv) (Hwy hv) (Hla hv) (Hmi hv) (Htf hv) (Htk hv), aV d ha 1 (HHO hv), aV d ha 2 (HAT hv), aV d ha 3 (HTO hv), aV d ha 4 (HWE hv), aV d ha 5 (HHE hv), aV d ha 6 (HRA hv), (rad, .inl (d 0, rn, .inl RC)), oS sa ha ta gt gf gc tra gs, ((sa 7), .inl (d 5, 5, .inr (.inr (.inr (.inr TK))))), oH ta (Hfl tv) (Hro tv) (Hrp tv) (Hca tv) (Hwy tv) (Hla tv) (Hmi tv) (Htf tv) (Htk tv), aV d ta 1 (HHO tv), aV d ta 2 (HAT tv), aV d ta 3 (HTO tv), aV d ta 4 (HWE tv), aV d ta 5 (HHE tv), aV d ta 6 (HRA tv)] (fun r (_ : Unit) => r = res.1) (fun _ => [oH ha (Hfl hv) (Hro hv) (Hrp hv) (Hca hv) (Hwy hv) (Hla hv) (Hmi hv) (Htf hv) (Htk hv), aV d ha 1 (HHO hv), aV d ha 2 (HAT hv), aV d ha 3 (HTO hv), aV d ha 4 (HWE hv), aV d ha 5 (HHE hv), aV d ha 6 (HRA hv), (rad, .inl (d 0, rn, .inl RC)), oS sa ha ta gt gf gc tra gs, ((sa 7), .inl (d 5, 5, .inr (.inr (.inr (.inr TK))))), oH ta (Hfl res.2) (Hro res.2) (Hrp res.2) (Hca res.2) (Hwy res.2) (Hla res.2) (Hmi res.2) (Htf res.2) (Htk res.2), aV d ta 1 (HHO res.2), aV d ta 2 (HAT res.2), aV d ta 3 (HTO res.2), aV d ta 4 (HWE res.2), aV d ta 5 (HHE res.2), aV d ta 6 (HRA res.2)]) := by
  have hX := XI.ok (D := D) (cs := cs) (wi := wi)
  refine MetI.of (by decide +kernel) (Nat.le_of_ble_eq_true rfl) ?_
  intro p e s m below meth c A cx hw ls hl
  have cx : Cx p s m _ meth c (XI D cs wi) D d A "DishLift" cX0_setOf 6 (some .int) "setOf" := cx
  have cx' := cx
  obtain ⟨hx, hb, hr, hlk, hml, hown, hts, hK, hA, hXs, hnm⟩ := cx'
  have hl : lv_has ls 6 [(0, .ref (sa 0)), (1, .int p1), (2, .int p2), (3, .ref rad)] := hl
  unfold fX0_setOf at hf
  refine lv_iconst (v := 0) hx hb dX0_setOf_0 (by decide) ?_
  refine lv_istore (lv' := [(4, .int 0), (0, .ref (sa 0)), (1, .int p1), (2, .int p2), (3, .ref rad)]) hx hb dX0_setOf_1 hl (by decide) rfl (fun ls hl => ?_)
  refine lv_iconst (v := 1) hx hb dX0_setOf_3 (by decide) ?_
  refine lv_iload_n hx hb dX0_setOf_4 rfl (lv_at hl 3 rfl) ?_
  refine lv_isub hx hb dX0_setOf_5 ?_
  refine lv_istore (lv' := [(5, .int (1 - p2)), (4, .int 0), (0, .ref (sa 0)), (1, .int p1), (2, .int p2), (3, .ref rad)]) hx hb dX0_setOf_6 hl (by decide) rfl (fun ls hl => ?_)
  obtain ⟨r1, hlp8, hf⟩ := op_e hf
  refine x_join (A := A) (D := D) (J := 70) (nL := 6) (cells' := 0) (slots' := 0) (st := []) [oH ha (Hfl hv) (Hro hv) (Hrp hv) (Hca hv) (Hwy hv) (Hla hv) (Hmi hv) (Htf hv) (Htk hv), aV d ha 1 (HHO hv), aV d ha 2 (HAT hv), aV d ha 3 (HTO hv), aV d ha 4 (HWE hv), aV d ha 5 (HHE hv), aV d ha 6 (HRA hv), (rad, .inl (d 0, rn, .inl RC)), oS sa ha ta gt gf gc tra gs, ((sa 7), .inl (d 5, 5, .inr (.inr (.inr (.inr TK))))), oH ta (Hfl r1.2) (Hro r1.2) (Hrp r1.2) (Hca r1.2) (Hwy r1.2) (Hla r1.2) (Hmi r1.2) (Htf r1.2) (Htk r1.2), aV d ta 1 (HHO r1.2), aV d ta 2 (HAT r1.2), aV d ta 3 (HTO r1.2), aV d ta 4 (HWE r1.2), aV d ta 5 (HHE r1.2), aV d ta 6 (HRA r1.2)] [(4, .int r1.1)] (fun H locs ls hw hl => ?_) (fun hK8 => ?_)
  · refine lv_iload hx hb dX0_setOf_70 (lv_at hl 0 rfl) ?_
    have hf := sm_e hf
    subst hf
    exact x_retI cx hw rfl () rfl [0, 1, 2, 3, 4, 5, 6, 7, 8, 9, 10, 11, 12, 13, 14, 15, 16] rfl rfl (Nat.le_of_ble_eq_true rfl) (Nat.le_of_ble_eq_true rfl) dX0_setOf_72
  · refine x_lp hlp8 (fun x8 => [oH ha (Hfl hv) (Hro hv) (Hrp hv) (Hca hv) (Hwy hv) (Hla hv) (Hmi hv) (Htf hv) (Htk hv), aV d ha 1 (HHO hv), aV d ha 2 (HAT hv), aV d ha 3 (HTO hv), aV d ha 4 (HWE hv), aV d ha 5 (HHE hv), aV d ha 6 (HRA hv), (rad, .inl (d 0, rn, .inl RC)), oS sa ha ta gt gf gc tra gs, ((sa 7), .inl (d 5, 5, .inr (.inr (.inr (.inr TK))))), oH ta (Hfl x8.2.2) (Hro x8.2.2) (Hrp x8.2.2) (Hca x8.2.2) (Hwy x8.2.2) (Hla x8.2.2) (Hmi x8.2.2) (Htf x8.2.2) (Htk x8.2.2), aV d ta 1 (HHO x8.2.2), aV d ta 2 (HAT x8.2.2), aV d ta 3 (HTO x8.2.2), aV d ta 4 (HWE x8.2.2), aV d ta 5 (HHE x8.2.2), aV d ta 6 (HRA x8.2.2)]) (fun x8 => [(0, .ref (sa 0)), (1, .int p1), (2, .int p2), (3, .ref rad), (4, .int x8.1), (5, .int x8.2.1)]) hw (lv_sub hl [2, 3, 4, 5, 1, 0] rfl) (fun x8 y8 hf hin8 hout8 H locs ls hw hl => ?_)
    have hw : Wd D A s [oH ha (Hfl hv) (Hro hv) (Hrp hv) (Hca hv) (Hwy hv) (Hla hv) (Hmi hv) (Htf hv) (Htk hv), aV d ha 1 (HHO hv), aV d ha 2 (HAT hv), aV d ha 3 (HTO hv), aV d ha 4 (HWE hv), aV d ha 5 (HHE hv), aV d ha 6 (HRA hv), (rad, .inl (d 0, rn, .inl RC)), oS sa ha ta gt gf gc tra gs, ((sa 7), .inl (d 5, 5, .inr (.inr (.inr (.inr TK))))), oH ta (Hfl x8.2.2) (Hro x8.2.2) (Hrp x8.2.2) (Hca x8.2.2) (Hwy x8.2.2) (Hla x8.2.2) (Hmi x8.2.2) (Htf x8.2.2) (Htk x8.2.2), aV d ta 1 (HHO x8.2.2), aV d ta 2 (HAT x8.2.2), aV d ta 3 (HTO x8.2.2), aV d ta 4 (HWE x8.2.2), aV d ta 5 (HHE x8.2.2), aV d ta 6 (HRA x8.2.2)] H locs := hw
    have hl : lv_has ls 6 [(0, .ref (sa 0)), (1, .int p1), (2, .int p2), (3, .ref rad), (4, .int x8.1), (5, .int x8.2.1)] := hl
    refine lv_iload hx hb dX0_setOf_8 (lv_at hl 5 rfl) ?_
    refine lv_iload_n hx hb dX0_setOf_10 rfl (lv_at hl 2 rfl) ?_
    obtain ⟨j2, hjA, hjR⟩ := op_e hf
    refine x_join (A := A) (D := D) (J := 31) (nL := 6) (cells' := 0) (slots' := 0) (st := [.int j2, .int x8.2.1]) [oH ha (Hfl hv) (Hro hv) (Hrp hv) (Hca hv) (Hwy hv) (Hla hv) (Hmi hv) (Htf hv) (Htk hv), aV d ha 1 (HHO hv), aV d ha 2 (HAT hv), aV d ha 3 (HTO hv), aV d ha 4 (HWE hv), aV d ha 5 (HHE hv), aV d ha 6 (HRA hv), (rad, .inl (d 0, rn, .inl RC)), oS sa ha ta gt gf gc tra gs, ((sa 7), .inl (d 5, 5, .inr (.inr (.inr (.inr TK))))), oH ta (Hfl x8.2.2) (Hro x8.2.2) (Hrp x8.2.2) (Hca x8.2.2) (Hwy x8.2.2) (Hla x8.2.2) (Hmi x8.2.2) (Htf x8.2.2) (Htk x8.2.2), aV d ta 1 (HHO x8.2.2), aV d ta 2 (HAT x8.2.2), aV d ta 3 (HTO x8.2.2), aV d ta 4 (HWE x8.2.2), aV d ta 5 (HHE x8.2.2), aV d ta 6 (HRA x8.2.2)] [(0, .ref (sa 0)), (1, .int p1), (2, .int p2), (3, .ref rad), (4, .int x8.1), (5, .int x8.2.1)] (fun H locs ls hw hl => ?_) (fun hKj31_j2 => ?_)
    · have hf := hjR
      refine lv_icmp_gt (tgt := 70) hx hb dX0_setOf_31 (by decide) (fun c31 => ?_) (fun c31 => ?_)
      · have hf := if_t hf c31
        have hf := sm_e hf
        subst hf
        have hz := hout8 _ rfl
        subst hz
        exact hK8 _ _ _ hw (lv_sub hl [4] rfl)
      · have hf := if_f hf c31
        refine lv_aload_n hx hb dX0_setOf_34 rfl (lv_at hl 0 rfl) ?_
        refine lv_iload_n hx hb dX0_setOf_35 rfl (lv_at hl 1 rfl) ?_
        refine lv_iload_n hx hb dX0_setOf_36 rfl (lv_at hl 2 rfl) ?_
        refine lv_iload hx hb dX0_setOf_37 (lv_at hl 5 rfl) ?_
        obtain ⟨q3, hcq3, hf⟩ := op_e hf
        refine x_VV (wr := [(rad, .inl (d 0, rn, .inl RC))]) (rest := []) [.int p1, .int p2, .int x8.2.1] hX cx hw hl.1 (mX0_alters l  D d cs wi ln lf dk dn him ha ta sa hv x8.2.2 gt gf gc tra gs TK p1 p2 x8.2.1 q3 hcq3) (lw_V q1051 q1053 qs33 q82 q1054) hd_X0_alters ⟨(Nat.le_of_ble_eq_true rfl), (Nat.le_of_ble_eq_true rfl)⟩ (va_recv hK hw.1 (ci := 1) (q0 := 8) rfl rfl) rfl rfl (Nat.le_of_ble_eq_true rfl) dX0_setOf_39 [0, 1, 2, 3, 4, 5, 6, 8, 9, 10, 11, 12, 13, 14, 15, 16] [7] rfl rfl rfl rfl (by decide) ⟨(Nat.le_of_ble_eq_true rfl), (Nat.le_of_ble_eq_true rfl)⟩ (fun u H locs hp hw => ?_)
        have hw : Wd D A s [(rad, .inl (d 0, rn, .inl RC)), oH ha (Hfl hv) (Hro hv) (Hrp hv) (Hca hv) (Hwy hv) (Hla hv) (Hmi hv) (Htf hv) (Htk hv), aV d ha 1 (HHO hv), aV d ha 2 (HAT hv), aV d ha 3 (HTO hv), aV d ha 4 (HWE hv), aV d ha 5 (HHE hv), aV d ha 6 (HRA hv), oS sa ha ta gt gf gc tra gs, ((sa 7), .inl (d 5, 5, .inr (.inr (.inr (.inr TK))))), oH ta (Hfl q3) (Hro q3) (Hrp q3) (Hca q3) (Hwy q3) (Hla q3) (Hmi q3) (Htf q3) (Htk q3), aV d ta 1 (HHO q3), aV d ta 2 (HAT q3), aV d ta 3 (HTO q3), aV d ta 4 (HWE q3), aV d ta 5 (HHE q3), aV d ta 6 (HRA q3)] H locs := hw
        refine lv_iload hx hb dX0_setOf_42 (lv_at hl 4 rfl) ?_
        refine lv_aload_n hx hb dX0_setOf_44 rfl (lv_at hl 0 rfl) ?_
        refine lv_iload_n hx hb dX0_setOf_45 rfl (lv_at hl 1 rfl) ?_
        refine lv_aload_n hx hb dX0_setOf_46 rfl (lv_at hl 3 rfl) ?_
        obtain ⟨q4, hcq4, hf⟩ := op_e hf
        refine x_VI (wr := [oH ha (Hfl hv) (Hro hv) (Hrp hv) (Hca hv) (Hwy hv) (Hla hv) (Hmi hv) (Htf hv) (Htk hv), aV d ha 1 (HHO hv), aV d ha 2 (HAT hv), aV d ha 3 (HTO hv), aV d ha 4 (HWE hv), aV d ha 5 (HHE hv), aV d ha 6 (HRA hv), ((sa 7), .inl (d 5, 5, .inr (.inr (.inr (.inr TK)))))]) (rest := [.int x8.1]) [.int p1, .ref rad] hX cx hw hl.1 (mX0_isSo l  D d cs wi ln lf dk dn him ta sa ha rad rn q3 gt gf gc tra gs RC p1 q4 hcq4) (lw_V q1055 q1057 qs34 q82 q1058) hd_X0_isSo ⟨(Nat.le_of_ble_eq_true rfl), (Nat.le_of_ble_eq_true rfl)⟩ (va_recv hK hw.1 (ci := 1) (q0 := 8) rfl rfl) rfl rfl (Nat.le_of_ble_eq_true rfl) dX0_setOf_47 [0, 8, 10, 11, 12, 13, 14, 15, 16] [1, 2, 3, 4, 5, 6, 7, 9] rfl rfl rfl rfl (by decide) ⟨(Nat.le_of_ble_eq_true rfl), (Nat.le_of_ble_eq_true rfl)⟩ (fun r u H locs hp hw => ?_)
        have hw : Wd D A s [oH ha (Hfl hv) (Hro hv) (Hrp hv) (Hca hv) (Hwy hv) (Hla hv) (Hmi hv) (Htf hv) (Htk hv), aV d ha 1 (HHO hv), aV d ha 2 (HAT hv), aV d ha 3 (HTO hv), aV d ha 4 (HWE hv), aV d ha 5 (HHE hv), aV d ha 6 (HRA hv), ((sa 7), .inl (d 5, 5, .inr (.inr (.inr (.inr TK))))), (rad, .inl (d 0, rn, .inl RC)), oS sa ha ta gt gf gc tra gs, oH ta (Hfl q4.2) (Hro q4.2) (Hrp q4.2) (Hca q4.2) (Hwy q4.2) (Hla q4.2) (Hmi q4.2) (Htf q4.2) (Htk q4.2), aV d ta 1 (HHO q4.2), aV d ta 2 (HAT q4.2), aV d ta 3 (HTO q4.2), aV d ta 4 (HWE q4.2), aV d ta 5 (HHE q4.2), aV d ta 6 (HRA q4.2)] H locs := hw
        subst r
        refine lv_if_eq (tgt := 60) hx hb dX0_setOf_50 (by decide) (fun c50 => ?_) (fun c50 => ?_)
        · have hf := if_t hf c50
          refine lv_iconst (v := 0) hx hb dX0_setOf_60 (by decide) ?_
          refine lv_ior hx hb dX0_setOf_61 ?_
          refine lv_istore (lv' := [(4, .int (x8.1 ||| 0)), (0, .ref (sa 0)), (1, .int p1), (2, .int p2), (3, .ref rad), (5, .int x8.2.1)]) hx hb dX0_setOf_62 hl (by decide) rfl (fun ls hl => ?_)
          refine lv_iinc (v := (x8.2.1 + 1)) (lv' := [(5, .int (x8.2.1 + 1)), (4, .int (x8.1 ||| 0)), (0, .ref (sa 0)), (1, .int p1), (2, .int p2), (3, .ref rad)]) hx hb dX0_setOf_64 hl (k := 5) rfl (by first | rfl | decide) (by decide) rfl (fun ls hl => ?_)
          refine lv_goto (tgt := 8) hx hb dX0_setOf_67 (by decide) ?_
          have hf := sm_e hf
          subst hf
          exact hin8 _ rfl _ _ _ (hw.sub [0, 1, 2, 3, 4, 5, 6, 8, 9, 7, 10, 11, 12, 13, 14, 15, 16] rfl rfl) (lv_sub hl [2, 3, 4, 5, 1, 0] rfl)
        · have hf := if_f hf c50
          refine lv_iconst (v := 1) hx hb dX0_setOf_53 (by decide) ?_
          refine lv_iload hx hb dX0_setOf_54 (lv_at hl 5 rfl) ?_
          refine lv_ishl hx hb dX0_setOf_56 ?_
          refine lv_goto (tgt := 61) hx hb dX0_setOf_57 (by decide) ?_
          refine lv_ior hx hb dX0_setOf_61 ?_
          refine lv_istore (lv' := [(4, .int (x8.1 ||| ((1 : Int32) <<< (x8.2.1 &&& 31)))), (0, .ref (sa 0)), (1, .int p1), (2, .int p2), (3, .ref rad), (5, .int x8.2.1)]) hx hb dX0_setOf_62 hl (by decide) rfl (fun ls hl => ?_)
          refine lv_iinc (v := (x8.2.1 + 1)) (lv' := [(5, .int (x8.2.1 + 1)), (4, .int (x8.1 ||| ((1 : Int32) <<< (x8.2.1 &&& 31)))), (0, .ref (sa 0)), (1, .int p1), (2, .int p2), (3, .ref rad)]) hx hb dX0_setOf_64 hl (k := 5) rfl (by first | rfl | decide) (by decide) rfl (fun ls hl => ?_)
          refine lv_goto (tgt := 8) hx hb dX0_setOf_67 (by decide) ?_
          have hf := sm_e hf
          subst hf
          exact hin8 _ rfl _ _ _ (hw.sub [0, 1, 2, 3, 4, 5, 6, 8, 9, 7, 10, 11, 12, 13, 14, 15, 16] rfl rfl) (lv_sub hl [2, 3, 4, 5, 1, 0] rfl)
    · have hf := hjA
      refine lv_if_ne (tgt := 22) hx hb dX0_setOf_11 (by decide) (fun c11 => ?_) (fun c11 => ?_)
      · have hf := if_f hf c11
        refine lv_aload_n hx hb dX0_setOf_22 rfl (lv_at hl 0 rfl) ?_
        refine va_get (ci := 1) (C := RX0) (T := TX0) (N := 14) hx hb hts in_X0 hown hK hw.1 8 rfl rfl 4 (by decide) (hts _ q298) (fun _ h9 => h9) rfl dX0_setOf_23 ?_
        refine va_get (ci := 2) (C := RX1) (T := TX1) (N := 15) hx hb hts in_X1 hown hK hw.1 0 rfl rfl 0 (by decide) (hts _ q161) (fun _ h9 => h9) rfl dX0_setOf_26 ?_
        refine lv_iconst (v := 1) hx hb dX0_setOf_29 (by decide) ?_
        refine lv_isub hx hb dX0_setOf_30 ?_
        have hf := sm_e hf
        subst hf
        exact hKj31_j2 _ _ _ hw hl
      · have hf := if_t hf c11
        refine lv_aload_n hx hb dX0_setOf_14 rfl (lv_at hl 0 rfl) ?_
        refine va_get (ci := 1) (C := RX0) (T := TX0) (N := 14) hx hb hts in_X0 hown hK hw.1 8 rfl rfl 13 (by decide) (hts _ q307) (fun _ h9 => h9) rfl dX0_setOf_15 ?_
        refine va_alen (v := 5) hx hb hK hw.1 9 5 rfl rfl rfl dX0_setOf_18 ?_
        refine lv_goto (tgt := 31) hx hb dX0_setOf_19 (by decide) ?_
        have hf := sm_e hf
        subst hf
        exact hKj31_j2 _ _ _ hw hl
