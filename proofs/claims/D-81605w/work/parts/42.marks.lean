set_option maxRecDepth 100000
def fX14_mark_X4 (dn : Nat → Int32) (tn : Nat) (tm : Int32) (TB : Nat → Int32) (a : Nat) : Option (Int32 × Int32 × (Nat → Int32)) :=
  (fX2_begins tn tm TB 20).bind fun q1 =>
  some ((dn a), q1.1, q1.2)
def fX14_mark_X5 (dn : Nat → Int32) (tn : Nat) (tm : Int32) (TB : Nat → Int32) (a : Nat) : Option (Int32 × Int32 × (Nat → Int32)) :=
  (fX2_begins tn tm TB 20).bind fun q1 =>
  some ((dn a), q1.1, q1.2)
def fX14_mark_X6 (dn : Nat → Int32) (tn : Nat) (tm : Int32) (TB : Nat → Int32) (a : Nat) : Option (Int32 × Int32 × (Nat → Int32)) :=
  (fX2_begins tn tm TB 20).bind fun q1 =>
  some ((dn a), q1.1, q1.2)
def fX14_mark_X7 (dn : Nat → Int32) (tn : Nat) (tm : Int32) (TB : Nat → Int32) (a : Nat) : Option (Int32 × Int32 × (Nat → Int32)) :=
  (fX2_begins tn tm TB 20).bind fun q1 =>
  some ((dn a), q1.1, q1.2)
def fX14_mark_X8 (dn : Nat → Int32) (tn : Nat) (tm : Int32) (TB : Nat → Int32) (a : Nat) : Option (Int32 × Int32 × (Nat → Int32)) :=
  (fX2_begins tn tm TB 20).bind fun q1 =>
  some ((dn a), q1.1, q1.2)
def fX4_mark_X4 (dn : Nat → Int32) (tn : Nat) (hv : HV) (tm : Int32) (TB : Nat → Int32) (a : Nat) : Option (Int32 × Int32 × (Nat → Int32)) :=
  (fX2_begins tn tm TB 21).bind fun q1 =>
  (fX14_mark_X4 dn tn q1.1 q1.2 a).bind fun q2 =>
  (rd (HHE hv) 6 (dn a)).bind fun v3 =>
  some ((q2.1 + v3), q2.2.1, q2.2.2)
def fX4_mark_X5 (dn : Nat → Int32) (tn : Nat) (hv : HV) (tm : Int32) (TB : Nat → Int32) (a : Nat) : Option (Int32 × Int32 × (Nat → Int32)) :=
  (fX2_begins tn tm TB 21).bind fun q1 =>
  (fX14_mark_X5 dn tn q1.1 q1.2 a).bind fun q2 =>
  (rd (HHE hv) 6 (dn a)).bind fun v3 =>
  some ((q2.1 + v3), q2.2.1, q2.2.2)
def fX4_mark_X6 (dn : Nat → Int32) (tn : Nat) (hv : HV) (tm : Int32) (TB : Nat → Int32) (a : Nat) : Option (Int32 × Int32 × (Nat → Int32)) :=
  (fX2_begins tn tm TB 21).bind fun q1 =>
  (fX14_mark_X6 dn tn q1.1 q1.2 a).bind fun q2 =>
  (rd (HHE hv) 6 (dn a)).bind fun v3 =>
  some ((q2.1 + v3), q2.2.1, q2.2.2)
def fX5_mark_X5 (dn : Nat → Int32) (tn : Nat) (hv : HV) (tm : Int32) (TB : Nat → Int32) (a : Nat) : Option (Int32 × Int32 × (Nat → Int32)) :=
  (fX2_begins tn tm TB 24).bind fun q1 =>
  (fX4_mark_X5 dn tn hv q1.1 q1.2 a).bind fun q2 =>
  some ((2 * q2.1), q2.2.1, q2.2.2)
def fX6_mark_X6 (dn : Nat → Int32) (tn : Nat) (hv : HV) (tm : Int32) (TB : Nat → Int32) (a : Nat) : Option (Int32 × Int32 × (Nat → Int32)) :=
  (fX2_begins tn tm TB 22).bind fun q1 =>
  (fX4_mark_X6 dn tn hv q1.1 q1.2 a).bind fun q2 =>
  some ((q2.1 - 1000), q2.2.1, q2.2.2)
def fX7_mark_X7 (dn : Nat → Int32) (tn : Nat) (hv : HV) (tm : Int32) (TB : Nat → Int32) (a : Nat) : Option (Int32 × Int32 × (Nat → Int32)) :=
  (fX2_begins tn tm TB 23).bind fun q1 =>
  (fX14_mark_X7 dn tn q1.1 q1.2 a).bind fun q2 =>
  (fX7_size_X7 dn tn hv q2.2.1 q2.2.2 a).bind fun q3 =>
  some ((q2.1 - q3.1), q3.2.1, q3.2.2)
def fX7_mark_X8 (dn : Nat → Int32) (tn : Nat) (hv : HV) (tm : Int32) (TB : Nat → Int32) (a : Nat) : Option (Int32 × Int32 × (Nat → Int32)) :=
  (fX2_begins tn tm TB 23).bind fun q1 =>
  (fX14_mark_X8 dn tn q1.1 q1.2 a).bind fun q2 =>
  (fX8_size_X8 dn tn hv q2.2.1 q2.2.2 a).bind fun q3 =>
  some ((q2.1 - q3.1), q3.2.1, q3.2.2)
def fX4_size_X4 (dn : Nat → Int32) (tn : Nat) (hv : HV) (tm : Int32) (TB : Nat → Int32) (a : Nat) : Option (Int32 × Int32 × (Nat → Int32)) :=
  (fX2_begins tn tm TB 11).bind fun q1 =>
  (fX3_size_X4 dn tn hv q1.1 q1.2 a).bind fun q2 =>
  (fX4_mark_X4 dn tn hv q2.2.1 q2.2.2 a).bind fun q3 =>
  some ((q2.1 + q3.1), q3.2.1, q3.2.2)
def fX4_size_X5 (dn : Nat → Int32) (tn : Nat) (hv : HV) (tm : Int32) (TB : Nat → Int32) (a : Nat) : Option (Int32 × Int32 × (Nat → Int32)) :=
  (fX2_begins tn tm TB 11).bind fun q1 =>
  (fX3_size_X5 dn tn hv q1.1 q1.2 a).bind fun q2 =>
  (fX5_mark_X5 dn tn hv q2.2.1 q2.2.2 a).bind fun q3 =>
  some ((q2.1 + q3.1), q3.2.1, q3.2.2)
def fX4_size_X6 (dn : Nat → Int32) (tn : Nat) (hv : HV) (tm : Int32) (TB : Nat → Int32) (a : Nat) : Option (Int32 × Int32 × (Nat → Int32)) :=
  (fX2_begins tn tm TB 11).bind fun q1 =>
  (fX3_size_X6 dn tn hv q1.1 q1.2 a).bind fun q2 =>
  (fX6_mark_X6 dn tn hv q2.2.1 q2.2.2 a).bind fun q3 =>
  some ((q2.1 + q3.1), q3.2.1, q3.2.2)
def fX5_size_X5 (dn : Nat → Int32) (tn : Nat) (hv : HV) (tm : Int32) (TB : Nat → Int32) (a : Nat) : Option (Int32 × Int32 × (Nat → Int32)) :=
  (fX2_begins tn tm TB 12).bind fun q1 =>
  (fX4_size_X5 dn tn hv q1.1 q1.2 a).bind fun q2 =>
  some ((-q2.1), q2.2.1, q2.2.2)
theorem hd_X14_mark : yX14_mark.cls = "DishLift$Marked" ∧ yX14_mark.cls ≠ "java/lang/invoke/MethodHandle" ∧ yX14_mark.cls ≠ "java/lang/invoke/VarHandle" ∧ (parseMethodDescriptor yX14_mark.desc).map (fun d => d.parameters.length) = some 2 := by decide +kernel
set_option maxHeartbeats 4000000 in
theorem mX14_mark_X4 (l : Launch) (D : va_G) (d : Nat → ClassId) (cs : Nat → Nat) (wi : va_W) (ln : Nat → Option Int32) (lf : Nat → Nat → Option Nat) (dk : Nat → Option Nat) (dn : Nat → Int32) (him : ImF d wi ln lf dk dn) (ha : Nat → Nat) (tra : Nat) (tba : Nat) (tn : Nat) (hv : HV) (tm : Int32) (TB : Nat → Int32) (a : Nat) (hk : dk a = some 0) (res : Int32 × Int32 × (Nat → Int32)) (hf : fX14_mark_X4 dn tn tm TB a = some res) : MetI l yX14_mark (ws_ yX14_mark cX14_mark 3 (some .int)) { frames := 1, cells := 0, slots := 0, locals := 21 } [.ref a, .ref tra, .ref (ha 0)] (XI D cs wi) D d [oH ha (Hfl hv) (Hro hv) (Hrp hv) (Hca hv) (Hwy hv) (Hla hv) (Hmi hv) (Htf hv) (Htk hv), aV d ha 1 (HHO hv), aV d ha 2 (HAT hv), aV d ha 3 (HTO hv), aV d ha 4 (HWE hv), aV d ha 5 (HHE hv), aV d ha 6 (HRA hv), (tra, .inr (4, [.ref tba, .int tm])), (tba, .inl (d 0, tn, .inl TB))] (fun r (_ : Unit) => r = res.1) (fun _ => [oH ha (Hfl hv) (Hro hv) (Hrp hv) (Hca hv) (Hwy hv) (Hla hv) (Hmi hv) (Htf hv) (Htk hv), aV d ha 1 (HHO hv), aV d ha 2 (HAT hv), aV d ha 3 (HTO hv), aV d ha 4 (HWE hv), aV d ha 5 (HHE hv), aV d ha 6 (HRA hv), (tra, .inr (4, [.ref tba, .int res.2.1])), (tba, .inl (d 0, tn, .inl res.2.2))]) := by
  have hX := XI.ok (D := D) (cs := cs) (wi := wi)
  refine MetI.of (by decide +kernel) (Nat.le_of_ble_eq_true rfl) ?_
  intro p e s m below meth c A cx hw ls hl
  have cx : Cx p s m _ meth c (XI D cs wi) D d A "DishLift$Marked" cX14_mark 3 (some .int) "mark" := cx
  have cx' := cx
  obtain ⟨hx, hb, hr, hlk, hml, hown, hts, hK, hA, hXs, hnm⟩ := cx'
  have hl : lv_has ls 3 [(0, .ref a), (1, .ref tra), (2, .ref (ha 0))] := hl
  generalize hlo : ([] : List Loc) = locs at hw ⊢
  unfold fX14_mark_X4 at hf
  refine lv_aload_n hx hb dX14_mark_0 rfl (lv_at hl 1 rfl) ?_
  refine lv_bipush (v := 20) hx hb dX14_mark_1 (by decide) ?_
  obtain ⟨q1, hcq1, hf⟩ := op_e hf
  refine x_VV (wr := [oH ha (Hfl hv) (Hro hv) (Hrp hv) (Hca hv) (Hwy hv) (Hla hv) (Hmi hv) (Htf hv) (Htk hv), aV d ha 1 (HHO hv), aV d ha 2 (HAT hv), aV d ha 3 (HTO hv), aV d ha 4 (HWE hv), aV d ha 5 (HHE hv), aV d ha 6 (HRA hv)]) (rest := []) [.int 20] hX cx hw hl.1 (mX2_begins l  D d cs wi ln lf dk dn him tra tba tn tm TB 20  q1 hcq1) (lw_V q1180 q1155 q1156 q87 q1157) hd_X2_begins ⟨(Nat.le_of_ble_eq_true rfl), (Nat.le_of_ble_eq_true rfl)⟩ (va_recv hK hw.1 (ci := 4) (q0 := 7) rfl rfl) rfl rfl (Nat.le_of_ble_eq_true rfl) dX14_mark_3 [7, 8] [0, 1, 2, 3, 4, 5, 6] rfl rfl rfl rfl (by decide) ⟨(Nat.le_of_ble_eq_true rfl), (Nat.le_of_ble_eq_true rfl)⟩ (fun u H locs hp hw => ?_)
  have hw : Wd D A s [oH ha (Hfl hv) (Hro hv) (Hrp hv) (Hca hv) (Hwy hv) (Hla hv) (Hmi hv) (Htf hv) (Htk hv), aV d ha 1 (HHO hv), aV d ha 2 (HAT hv), aV d ha 3 (HTO hv), aV d ha 4 (HWE hv), aV d ha 5 (HHE hv), aV d ha 6 (HRA hv), (tra, .inr (4, [.ref tba, .int q1.1])), (tba, .inl (d 0, tn, .inl q1.2))] H locs := hw
  refine lv_aload_n hx hb dX14_mark_6 rfl (lv_at hl 0 rfl) ?_
  refine x_FI0 (n := 0) (x := ⟨"DishLift$Marked", "number", "()I"⟩) (rest := []) (C := "DishLift$Hot") [] hX cx hw hl.1 (hK.1 5 _ rfl).2 (mX3_number l D d cs wi ln lf dk dn him a 0 hk) (lw_F q1182 q1190 q1136 q88 q1143) (Tb.Fw (by decide) q1184 q1183 q1188 q1191 q1189 hXs.1) ⟨by decide, by decide, by decide +kernel⟩ ⟨(Nat.le_of_ble_eq_true rfl), (Nat.le_of_ble_eq_true rfl)⟩ (dish_recv hXs hK hw (him.2 a 0 hk).2 rfl) rfl rfl (Nat.le_of_ble_eq_true rfl) dX14_mark_7 ⟨(Nat.le_of_ble_eq_true rfl), (Nat.le_of_ble_eq_true rfl)⟩ (fun r u H locs hp hw => ?_)
  have hw : Wd D A s [oH ha (Hfl hv) (Hro hv) (Hrp hv) (Hca hv) (Hwy hv) (Hla hv) (Hmi hv) (Htf hv) (Htk hv), aV d ha 1 (HHO hv), aV d ha 2 (HAT hv), aV d ha 3 (HTO hv), aV d ha 4 (HWE hv), aV d ha 5 (HHE hv), aV d ha 6 (HRA hv), (tra, .inr (4, [.ref tba, .int q1.1])), (tba, .inl (d 0, tn, .inl q1.2))] H locs := hw
  subst hp
  have hf := sm_e hf
  subst hf
  exact x_retI cx hw rfl () rfl [0, 1, 2, 3, 4, 5, 6, 7, 8] rfl rfl (Nat.le_of_ble_eq_true rfl) (Nat.le_of_ble_eq_true rfl) dX14_mark_12
set_option maxHeartbeats 4000000 in
theorem mX14_mark_X5 (l : Launch) (D : va_G) (d : Nat → ClassId) (cs : Nat → Nat) (wi : va_W) (ln : Nat → Option Int32) (lf : Nat → Nat → Option Nat) (dk : Nat → Option Nat) (dn : Nat → Int32) (him : ImF d wi ln lf dk dn) (ha : Nat → Nat) (tra : Nat) (tba : Nat) (tn : Nat) (hv : HV) (tm : Int32) (TB : Nat → Int32) (a : Nat) (hk : dk a = some 1) (res : Int32 × Int32 × (Nat → Int32)) (hf : fX14_mark_X5 dn tn tm TB a = some res) : MetI l yX14_mark (ws_ yX14_mark cX14_mark 3 (some .int)) { frames := 1, cells := 0, slots := 0, locals := 21 } [.ref a, .ref tra, .ref (ha 0)] (XI D cs wi) D d [oH ha (Hfl hv) (Hro hv) (Hrp hv) (Hca hv) (Hwy hv) (Hla hv) (Hmi hv) (Htf hv) (Htk hv), aV d ha 1 (HHO hv), aV d ha 2 (HAT hv), aV d ha 3 (HTO hv), aV d ha 4 (HWE hv), aV d ha 5 (HHE hv), aV d ha 6 (HRA hv), (tra, .inr (4, [.ref tba, .int tm])), (tba, .inl (d 0, tn, .inl TB))] (fun r (_ : Unit) => r = res.1) (fun _ => [oH ha (Hfl hv) (Hro hv) (Hrp hv) (Hca hv) (Hwy hv) (Hla hv) (Hmi hv) (Htf hv) (Htk hv), aV d ha 1 (HHO hv), aV d ha 2 (HAT hv), aV d ha 3 (HTO hv), aV d ha 4 (HWE hv), aV d ha 5 (HHE hv), aV d ha 6 (HRA hv), (tra, .inr (4, [.ref tba, .int res.2.1])), (tba, .inl (d 0, tn, .inl res.2.2))]) := by
  have hX := XI.ok (D := D) (cs := cs) (wi := wi)
  refine MetI.of (by decide +kernel) (Nat.le_of_ble_eq_true rfl) ?_
  intro p e s m below meth c A cx hw ls hl
  have cx : Cx p s m _ meth c (XI D cs wi) D d A "DishLift$Marked" cX14_mark 3 (some .int) "mark" := cx
  have cx' := cx
  obtain ⟨hx, hb, hr, hlk, hml, hown, hts, hK, hA, hXs, hnm⟩ := cx'
  have hl : lv_has ls 3 [(0, .ref a), (1, .ref tra), (2, .ref (ha 0))] := hl
  generalize hlo : ([] : List Loc) = locs at hw ⊢
  unfold fX14_mark_X5 at hf
  refine lv_aload_n hx hb dX14_mark_0 rfl (lv_at hl 1 rfl) ?_
  refine lv_bipush (v := 20) hx hb dX14_mark_1 (by decide) ?_
  obtain ⟨q1, hcq1, hf⟩ := op_e hf
  refine x_VV (wr := [oH ha (Hfl hv) (Hro hv) (Hrp hv) (Hca hv) (Hwy hv) (Hla hv) (Hmi hv) (Htf hv) (Htk hv), aV d ha 1 (HHO hv), aV d ha 2 (HAT hv), aV d ha 3 (HTO hv), aV d ha 4 (HWE hv), aV d ha 5 (HHE hv), aV d ha 6 (HRA hv)]) (rest := []) [.int 20] hX cx hw hl.1 (mX2_begins l  D d cs wi ln lf dk dn him tra tba tn tm TB 20  q1 hcq1) (lw_V q1180 q1155 q1156 q87 q1157) hd_X2_begins ⟨(Nat.le_of_ble_eq_true rfl), (Nat.le_of_ble_eq_true rfl)⟩ (va_recv hK hw.1 (ci := 4) (q0 := 7) rfl rfl) rfl rfl (Nat.le_of_ble_eq_true rfl) dX14_mark_3 [7, 8] [0, 1, 2, 3, 4, 5, 6] rfl rfl rfl rfl (by decide) ⟨(Nat.le_of_ble_eq_true rfl), (Nat.le_of_ble_eq_true rfl)⟩ (fun u H locs hp hw => ?_)
  have hw : Wd D A s [oH ha (Hfl hv) (Hro hv) (Hrp hv) (Hca hv) (Hwy hv) (Hla hv) (Hmi hv) (Htf hv) (Htk hv), aV d ha 1 (HHO hv), aV d ha 2 (HAT hv), aV d ha 3 (HTO hv), aV d ha 4 (HWE hv), aV d ha 5 (HHE hv), aV d ha 6 (HRA hv), (tra, .inr (4, [.ref tba, .int q1.1])), (tba, .inl (d 0, tn, .inl q1.2))] H locs := hw
  refine lv_aload_n hx hb dX14_mark_6 rfl (lv_at hl 0 rfl) ?_
  refine x_FI0 (n := 0) (x := ⟨"DishLift$Marked", "number", "()I"⟩) (rest := []) (C := "DishLift$Soup") [] hX cx hw hl.1 (hK.1 6 _ rfl).2 (mX3_number l D d cs wi ln lf dk dn him a 1 hk) (lw_F q1182 q1199 q1136 q88 q1143) (Tb.Fw (by decide) q1184 q1183 q1188 q1200 q1198 hXs.1) ⟨by decide, by decide, by decide +kernel⟩ ⟨(Nat.le_of_ble_eq_true rfl), (Nat.le_of_ble_eq_true rfl)⟩ (dish_recv hXs hK hw (him.2 a 1 hk).2 rfl) rfl rfl (Nat.le_of_ble_eq_true rfl) dX14_mark_7 ⟨(Nat.le_of_ble_eq_true rfl), (Nat.le_of_ble_eq_true rfl)⟩ (fun r u H locs hp hw => ?_)
  have hw : Wd D A s [oH ha (Hfl hv) (Hro hv) (Hrp hv) (Hca hv) (Hwy hv) (Hla hv) (Hmi hv) (Htf hv) (Htk hv), aV d ha 1 (HHO hv), aV d ha 2 (HAT hv), aV d ha 3 (HTO hv), aV d ha 4 (HWE hv), aV d ha 5 (HHE hv), aV d ha 6 (HRA hv), (tra, .inr (4, [.ref tba, .int q1.1])), (tba, .inl (d 0, tn, .inl q1.2))] H locs := hw
  subst hp
  have hf := sm_e hf
  subst hf
  exact x_retI cx hw rfl () rfl [0, 1, 2, 3, 4, 5, 6, 7, 8] rfl rfl (Nat.le_of_ble_eq_true rfl) (Nat.le_of_ble_eq_true rfl) dX14_mark_12
set_option maxHeartbeats 4000000 in
theorem mX14_mark_X6 (l : Launch) (D : va_G) (d : Nat → ClassId) (cs : Nat → Nat) (wi : va_W) (ln : Nat → Option Int32) (lf : Nat → Nat → Option Nat) (dk : Nat → Option Nat) (dn : Nat → Int32) (him : ImF d wi ln lf dk dn) (ha : Nat → Nat) (tra : Nat) (tba : Nat) (tn : Nat) (hv : HV) (tm : Int32) (TB : Nat → Int32) (a : Nat) (hk : dk a = some 2) (res : Int32 × Int32 × (Nat → Int32)) (hf : fX14_mark_X6 dn tn tm TB a = some res) : MetI l yX14_mark (ws_ yX14_mark cX14_mark 3 (some .int)) { frames := 1, cells := 0, slots := 0, locals := 21 } [.ref a, .ref tra, .ref (ha 0)] (XI D cs wi) D d [oH ha (Hfl hv) (Hro hv) (Hrp hv) (Hca hv) (Hwy hv) (Hla hv) (Hmi hv) (Htf hv) (Htk hv), aV d ha 1 (HHO hv), aV d ha 2 (HAT hv), aV d ha 3 (HTO hv), aV d ha 4 (HWE hv), aV d ha 5 (HHE hv), aV d ha 6 (HRA hv), (tra, .inr (4, [.ref tba, .int tm])), (tba, .inl (d 0, tn, .inl TB))] (fun r (_ : Unit) => r = res.1) (fun _ => [oH ha (Hfl hv) (Hro hv) (Hrp hv) (Hca hv) (Hwy hv) (Hla hv) (Hmi hv) (Htf hv) (Htk hv), aV d ha 1 (HHO hv), aV d ha 2 (HAT hv), aV d ha 3 (HTO hv), aV d ha 4 (HWE hv), aV d ha 5 (HHE hv), aV d ha 6 (HRA hv), (tra, .inr (4, [.ref tba, .int res.2.1])), (tba, .inl (d 0, tn, .inl res.2.2))]) := by
  have hX := XI.ok (D := D) (cs := cs) (wi := wi)
  refine MetI.of (by decide +kernel) (Nat.le_of_ble_eq_true rfl) ?_
  intro p e s m below meth c A cx hw ls hl
  have cx : Cx p s m _ meth c (XI D cs wi) D d A "DishLift$Marked" cX14_mark 3 (some .int) "mark" := cx
  have cx' := cx
  obtain ⟨hx, hb, hr, hlk, hml, hown, hts, hK, hA, hXs, hnm⟩ := cx'
  have hl : lv_has ls 3 [(0, .ref a), (1, .ref tra), (2, .ref (ha 0))] := hl
  generalize hlo : ([] : List Loc) = locs at hw ⊢
  unfold fX14_mark_X6 at hf
  refine lv_aload_n hx hb dX14_mark_0 rfl (lv_at hl 1 rfl) ?_
  refine lv_bipush (v := 20) hx hb dX14_mark_1 (by decide) ?_
  obtain ⟨q1, hcq1, hf⟩ := op_e hf
  refine x_VV (wr := [oH ha (Hfl hv) (Hro hv) (Hrp hv) (Hca hv) (Hwy hv) (Hla hv) (Hmi hv) (Htf hv) (Htk hv), aV d ha 1 (HHO hv), aV d ha 2 (HAT hv), aV d ha 3 (HTO hv), aV d ha 4 (HWE hv), aV d ha 5 (HHE hv), aV d ha 6 (HRA hv)]) (rest := []) [.int 20] hX cx hw hl.1 (mX2_begins l  D d cs wi ln lf dk dn him tra tba tn tm TB 20  q1 hcq1) (lw_V q1180 q1155 q1156 q87 q1157) hd_X2_begins ⟨(Nat.le_of_ble_eq_true rfl), (Nat.le_of_ble_eq_true rfl)⟩ (va_recv hK hw.1 (ci := 4) (q0 := 7) rfl rfl) rfl rfl (Nat.le_of_ble_eq_true rfl) dX14_mark_3 [7, 8] [0, 1, 2, 3, 4, 5, 6] rfl rfl rfl rfl (by decide) ⟨(Nat.le_of_ble_eq_true rfl), (Nat.le_of_ble_eq_true rfl)⟩ (fun u H locs hp hw => ?_)
  have hw : Wd D A s [oH ha (Hfl hv) (Hro hv) (Hrp hv) (Hca hv) (Hwy hv) (Hla hv) (Hmi hv) (Htf hv) (Htk hv), aV d ha 1 (HHO hv), aV d ha 2 (HAT hv), aV d ha 3 (HTO hv), aV d ha 4 (HWE hv), aV d ha 5 (HHE hv), aV d ha 6 (HRA hv), (tra, .inr (4, [.ref tba, .int q1.1])), (tba, .inl (d 0, tn, .inl q1.2))] H locs := hw
  refine lv_aload_n hx hb dX14_mark_6 rfl (lv_at hl 0 rfl) ?_
  refine x_FI0 (n := 0) (x := ⟨"DishLift$Marked", "number", "()I"⟩) (rest := []) (C := "DishLift$Roast") [] hX cx hw hl.1 (hK.1 7 _ rfl).2 (mX3_number l D d cs wi ln lf dk dn him a 2 hk) (lw_F q1182 q1196 q1136 q88 q1143) (Tb.Fw (by decide) q1184 q1183 q1188 q1197 q1195 hXs.1) ⟨by decide, by decide, by decide +kernel⟩ ⟨(Nat.le_of_ble_eq_true rfl), (Nat.le_of_ble_eq_true rfl)⟩ (dish_recv hXs hK hw (him.2 a 2 hk).2 rfl) rfl rfl (Nat.le_of_ble_eq_true rfl) dX14_mark_7 ⟨(Nat.le_of_ble_eq_true rfl), (Nat.le_of_ble_eq_true rfl)⟩ (fun r u H locs hp hw => ?_)
  have hw : Wd D A s [oH ha (Hfl hv) (Hro hv) (Hrp hv) (Hca hv) (Hwy hv) (Hla hv) (Hmi hv) (Htf hv) (Htk hv), aV d ha 1 (HHO hv), aV d ha 2 (HAT hv), aV d ha 3 (HTO hv), aV d ha 4 (HWE hv), aV d ha 5 (HHE hv), aV d ha 6 (HRA hv), (tra, .inr (4, [.ref tba, .int q1.1])), (tba, .inl (d 0, tn, .inl q1.2))] H locs := hw
  subst hp
  have hf := sm_e hf
  subst hf
  exact x_retI cx hw rfl () rfl [0, 1, 2, 3, 4, 5, 6, 7, 8] rfl rfl (Nat.le_of_ble_eq_true rfl) (Nat.le_of_ble_eq_true rfl) dX14_mark_12
set_option maxHeartbeats 4000000 in
theorem mX14_mark_X7 (l : Launch) (D : va_G) (d : Nat → ClassId) (cs : Nat → Nat) (wi : va_W) (ln : Nat → Option Int32) (lf : Nat → Nat → Option Nat) (dk : Nat → Option Nat) (dn : Nat → Int32) (him : ImF d wi ln lf dk dn) (ha : Nat → Nat) (tra : Nat) (tba : Nat) (tn : Nat) (hv : HV) (tm : Int32) (TB : Nat → Int32) (a : Nat) (hk : dk a = some 3) (res : Int32 × Int32 × (Nat → Int32)) (hf : fX14_mark_X7 dn tn tm TB a = some res) : MetI l yX14_mark (ws_ yX14_mark cX14_mark 3 (some .int)) { frames := 1, cells := 0, slots := 0, locals := 21 } [.ref a, .ref tra, .ref (ha 0)] (XI D cs wi) D d [oH ha (Hfl hv) (Hro hv) (Hrp hv) (Hca hv) (Hwy hv) (Hla hv) (Hmi hv) (Htf hv) (Htk hv), aV d ha 1 (HHO hv), aV d ha 2 (HAT hv), aV d ha 3 (HTO hv), aV d ha 4 (HWE hv), aV d ha 5 (HHE hv), aV d ha 6 (HRA hv), (tra, .inr (4, [.ref tba, .int tm])), (tba, .inl (d 0, tn, .inl TB))] (fun r (_ : Unit) => r = res.1) (fun _ => [oH ha (Hfl hv) (Hro hv) (Hrp hv) (Hca hv) (Hwy hv) (Hla hv) (Hmi hv) (Htf hv) (Htk hv), aV d ha 1 (HHO hv), aV d ha 2 (HAT hv), aV d ha 3 (HTO hv), aV d ha 4 (HWE hv), aV d ha 5 (HHE hv), aV d ha 6 (HRA hv), (tra, .inr (4, [.ref tba, .int res.2.1])), (tba, .inl (d 0, tn, .inl res.2.2))]) := by
  have hX := XI.ok (D := D) (cs := cs) (wi := wi)
  refine MetI.of (by decide +kernel) (Nat.le_of_ble_eq_true rfl) ?_
  intro p e s m below meth c A cx hw ls hl
  have cx : Cx p s m _ meth c (XI D cs wi) D d A "DishLift$Marked" cX14_mark 3 (some .int) "mark" := cx
  have cx' := cx
  obtain ⟨hx, hb, hr, hlk, hml, hown, hts, hK, hA, hXs, hnm⟩ := cx'
  have hl : lv_has ls 3 [(0, .ref a), (1, .ref tra), (2, .ref (ha 0))] := hl
  generalize hlo : ([] : List Loc) = locs at hw ⊢
  unfold fX14_mark_X7 at hf
  refine lv_aload_n hx hb dX14_mark_0 rfl (lv_at hl 1 rfl) ?_
  refine lv_bipush (v := 20) hx hb dX14_mark_1 (by decide) ?_
  obtain ⟨q1, hcq1, hf⟩ := op_e hf
  refine x_VV (wr := [oH ha (Hfl hv) (Hro hv) (Hrp hv) (Hca hv) (Hwy hv) (Hla hv) (Hmi hv) (Htf hv) (Htk hv), aV d ha 1 (HHO hv), aV d ha 2 (HAT hv), aV d ha 3 (HTO hv), aV d ha 4 (HWE hv), aV d ha 5 (HHE hv), aV d ha 6 (HRA hv)]) (rest := []) [.int 20] hX cx hw hl.1 (mX2_begins l  D d cs wi ln lf dk dn him tra tba tn tm TB 20  q1 hcq1) (lw_V q1180 q1155 q1156 q87 q1157) hd_X2_begins ⟨(Nat.le_of_ble_eq_true rfl), (Nat.le_of_ble_eq_true rfl)⟩ (va_recv hK hw.1 (ci := 4) (q0 := 7) rfl rfl) rfl rfl (Nat.le_of_ble_eq_true rfl) dX14_mark_3 [7, 8] [0, 1, 2, 3, 4, 5, 6] rfl rfl rfl rfl (by decide) ⟨(Nat.le_of_ble_eq_true rfl), (Nat.le_of_ble_eq_true rfl)⟩ (fun u H locs hp hw => ?_)
  have hw : Wd D A s [oH ha (Hfl hv) (Hro hv) (Hrp hv) (Hca hv) (Hwy hv) (Hla hv) (Hmi hv) (Htf hv) (Htk hv), aV d ha 1 (HHO hv), aV d ha 2 (HAT hv), aV d ha 3 (HTO hv), aV d ha 4 (HWE hv), aV d ha 5 (HHE hv), aV d ha 6 (HRA hv), (tra, .inr (4, [.ref tba, .int q1.1])), (tba, .inl (d 0, tn, .inl q1.2))] H locs := hw
  refine lv_aload_n hx hb dX14_mark_6 rfl (lv_at hl 0 rfl) ?_
  refine x_FI0 (n := 0) (x := ⟨"DishLift$Marked", "number", "()I"⟩) (rest := []) (C := "DishLift$Cold") [] hX cx hw hl.1 (hK.1 8 _ rfl).2 (mX3_number l D d cs wi ln lf dk dn him a 3 hk) (lw_F q1182 q1186 q1136 q88 q1143) (Tb.Fw (by decide) q1184 q1183 q1188 q1187 q1185 hXs.1) ⟨by decide, by decide, by decide +kernel⟩ ⟨(Nat.le_of_ble_eq_true rfl), (Nat.le_of_ble_eq_true rfl)⟩ (dish_recv hXs hK hw (him.2 a 3 hk).2 rfl) rfl rfl (Nat.le_of_ble_eq_true rfl) dX14_mark_7 ⟨(Nat.le_of_ble_eq_true rfl), (Nat.le_of_ble_eq_true rfl)⟩ (fun r u H locs hp hw => ?_)
  have hw : Wd D A s [oH ha (Hfl hv) (Hro hv) (Hrp hv) (Hca hv) (Hwy hv) (Hla hv) (Hmi hv) (Htf hv) (Htk hv), aV d ha 1 (HHO hv), aV d ha 2 (HAT hv), aV d ha 3 (HTO hv), aV d ha 4 (HWE hv), aV d ha 5 (HHE hv), aV d ha 6 (HRA hv), (tra, .inr (4, [.ref tba, .int q1.1])), (tba, .inl (d 0, tn, .inl q1.2))] H locs := hw
  subst hp
  have hf := sm_e hf
  subst hf
  exact x_retI cx hw rfl () rfl [0, 1, 2, 3, 4, 5, 6, 7, 8] rfl rfl (Nat.le_of_ble_eq_true rfl) (Nat.le_of_ble_eq_true rfl) dX14_mark_12
set_option maxHeartbeats 4000000 in
theorem mX14_mark_X8 (l : Launch) (D : va_G) (d : Nat → ClassId) (cs : Nat → Nat) (wi : va_W) (ln : Nat → Option Int32) (lf : Nat → Nat → Option Nat) (dk : Nat → Option Nat) (dn : Nat → Int32) (him : ImF d wi ln lf dk dn) (ha : Nat → Nat) (tra : Nat) (tba : Nat) (tn : Nat) (hv : HV) (tm : Int32) (TB : Nat → Int32) (a : Nat) (hk : dk a = some 4) (res : Int32 × Int32 × (Nat → Int32)) (hf : fX14_mark_X8 dn tn tm TB a = some res) : MetI l yX14_mark (ws_ yX14_mark cX14_mark 3 (some .int)) { frames := 1, cells := 0, slots := 0, locals := 21 } [.ref a, .ref tra, .ref (ha 0)] (XI D cs wi) D d [oH ha (Hfl hv) (Hro hv) (Hrp hv) (Hca hv) (Hwy hv) (Hla hv) (Hmi hv) (Htf hv) (Htk hv), aV d ha 1 (HHO hv), aV d ha 2 (HAT hv), aV d ha 3 (HTO hv), aV d ha 4 (HWE hv), aV d ha 5 (HHE hv), aV d ha 6 (HRA hv), (tra, .inr (4, [.ref tba, .int tm])), (tba, .inl (d 0, tn, .inl TB))] (fun r (_ : Unit) => r = res.1) (fun _ => [oH ha (Hfl hv) (Hro hv) (Hrp hv) (Hca hv) (Hwy hv) (Hla hv) (Hmi hv) (Htf hv) (Htk hv), aV d ha 1 (HHO hv), aV d ha 2 (HAT hv), aV d ha 3 (HTO hv), aV d ha 4 (HWE hv), aV d ha 5 (HHE hv), aV d ha 6 (HRA hv), (tra, .inr (4, [.ref tba, .int res.2.1])), (tba, .inl (d 0, tn, .inl res.2.2))]) := by
  have hX := XI.ok (D := D) (cs := cs) (wi := wi)
  refine MetI.of (by decide +kernel) (Nat.le_of_ble_eq_true rfl) ?_
  intro p e s m below meth c A cx hw ls hl
  have cx : Cx p s m _ meth c (XI D cs wi) D d A "DishLift$Marked" cX14_mark 3 (some .int) "mark" := cx
  have cx' := cx
  obtain ⟨hx, hb, hr, hlk, hml, hown, hts, hK, hA, hXs, hnm⟩ := cx'
  have hl : lv_has ls 3 [(0, .ref a), (1, .ref tra), (2, .ref (ha 0))] := hl
  generalize hlo : ([] : List Loc) = locs at hw ⊢
  unfold fX14_mark_X8 at hf
  refine lv_aload_n hx hb dX14_mark_0 rfl (lv_at hl 1 rfl) ?_
  refine lv_bipush (v := 20) hx hb dX14_mark_1 (by decide) ?_
  obtain ⟨q1, hcq1, hf⟩ := op_e hf
  refine x_VV (wr := [oH ha (Hfl hv) (Hro hv) (Hrp hv) (Hca hv) (Hwy hv) (Hla hv) (Hmi hv) (Htf hv) (Htk hv), aV d ha 1 (HHO hv), aV d ha 2 (HAT hv), aV d ha 3 (HTO hv), aV d ha 4 (HWE hv), aV d ha 5 (HHE hv), aV d ha 6 (HRA hv)]) (rest := []) [.int 20] hX cx hw hl.1 (mX2_begins l  D d cs wi ln lf dk dn him tra tba tn tm TB 20  q1 hcq1) (lw_V q1180 q1155 q1156 q87 q1157) hd_X2_begins ⟨(Nat.le_of_ble_eq_true rfl), (Nat.le_of_ble_eq_true rfl)⟩ (va_recv hK hw.1 (ci := 4) (q0 := 7) rfl rfl) rfl rfl (Nat.le_of_ble_eq_true rfl) dX14_mark_3 [7, 8] [0, 1, 2, 3, 4, 5, 6] rfl rfl rfl rfl (by decide) ⟨(Nat.le_of_ble_eq_true rfl), (Nat.le_of_ble_eq_true rfl)⟩ (fun u H locs hp hw => ?_)
  have hw : Wd D A s [oH ha (Hfl hv) (Hro hv) (Hrp hv) (Hca hv) (Hwy hv) (Hla hv) (Hmi hv) (Htf hv) (Htk hv), aV d ha 1 (HHO hv), aV d ha 2 (HAT hv), aV d ha 3 (HTO hv), aV d ha 4 (HWE hv), aV d ha 5 (HHE hv), aV d ha 6 (HRA hv), (tra, .inr (4, [.ref tba, .int q1.1])), (tba, .inl (d 0, tn, .inl q1.2))] H locs := hw
  refine lv_aload_n hx hb dX14_mark_6 rfl (lv_at hl 0 rfl) ?_
  refine x_FI0 (n := 0) (x := ⟨"DishLift$Marked", "number", "()I"⟩) (rest := []) (C := "DishLift$Ice") [] hX cx hw hl.1 (hK.1 9 _ rfl).2 (mX3_number l D d cs wi ln lf dk dn him a 4 hk) (lw_F q1182 q1193 q1136 q88 q1143) (Tb.Fw (by decide) q1184 q1183 q1188 q1194 q1192 hXs.1) ⟨by decide, by decide, by decide +kernel⟩ ⟨(Nat.le_of_ble_eq_true rfl), (Nat.le_of_ble_eq_true rfl)⟩ (dish_recv hXs hK hw (him.2 a 4 hk).2 rfl) rfl rfl (Nat.le_of_ble_eq_true rfl) dX14_mark_7 ⟨(Nat.le_of_ble_eq_true rfl), (Nat.le_of_ble_eq_true rfl)⟩ (fun r u H locs hp hw => ?_)
  have hw : Wd D A s [oH ha (Hfl hv) (Hro hv) (Hrp hv) (Hca hv) (Hwy hv) (Hla hv) (Hmi hv) (Htf hv) (Htk hv), aV d ha 1 (HHO hv), aV d ha 2 (HAT hv), aV d ha 3 (HTO hv), aV d ha 4 (HWE hv), aV d ha 5 (HHE hv), aV d ha 6 (HRA hv), (tra, .inr (4, [.ref tba, .int q1.1])), (tba, .inl (d 0, tn, .inl q1.2))] H locs := hw
  subst hp
  have hf := sm_e hf
  subst hf
  exact x_retI cx hw rfl () rfl [0, 1, 2, 3, 4, 5, 6, 7, 8] rfl rfl (Nat.le_of_ble_eq_true rfl) (Nat.le_of_ble_eq_true rfl) dX14_mark_12
theorem hd_X4_mark : yX4_mark.cls = "DishLift$Hot" ∧ yX4_mark.cls ≠ "java/lang/invoke/MethodHandle" ∧ yX4_mark.cls ≠ "java/lang/invoke/VarHandle" ∧ (parseMethodDescriptor yX4_mark.desc).map (fun d => d.parameters.length) = some 2 := by decide +kernel
set_option maxHeartbeats 4000000 in
theorem mX4_mark_X4 (l : Launch) (D : va_G) (d : Nat → ClassId) (cs : Nat → Nat) (wi : va_W) (ln : Nat → Option Int32) (lf : Nat → Nat → Option Nat) (dk : Nat → Option Nat) (dn : Nat → Int32) (him : ImF d wi ln lf dk dn) (ha : Nat → Nat) (tra : Nat) (tba : Nat) (tn : Nat) (hv : HV) (tm : Int32) (TB : Nat → Int32) (a : Nat) (hk : dk a = some 0) (res : Int32 × Int32 × (Nat → Int32)) (hf : fX4_mark_X4 dn tn hv tm TB a = some res) : MetI l yX4_mark (ws_ yX4_mark cX4_mark 3 (some .int)) { frames := 2, cells := 0, slots := 0, locals := 43 } [.ref a, .ref tra, .ref (ha 0)] (XI D cs wi) D d [oH ha (Hfl hv) (Hro hv) (Hrp hv) (Hca hv) (Hwy hv) (Hla hv) (Hmi hv) (Htf hv) (Htk hv), aV d ha 1 (HHO hv), aV d ha 2 (HAT hv), aV d ha 3 (HTO hv), aV d ha 4 (HWE hv), aV d ha 5 (HHE hv), aV d ha 6 (HRA hv), (tra, .inr (4, [.ref tba, .int tm])), (tba, .inl (d 0, tn, .inl TB))] (fun r (_ : Unit) => r = res.1) (fun _ => [oH ha (Hfl hv) (Hro hv) (Hrp hv) (Hca hv) (Hwy hv) (Hla hv) (Hmi hv) (Htf hv) (Htk hv), aV d ha 1 (HHO hv), aV d ha 2 (HAT hv), aV d ha 3 (HTO hv), aV d ha 4 (HWE hv), aV d ha 5 (HHE hv), aV d ha 6 (HRA hv), (tra, .inr (4, [.ref tba, .int res.2.1])), (tba, .inl (d 0, tn, .inl res.2.2))]) := by
  have hX := XI.ok (D := D) (cs := cs) (wi := wi)
  refine MetI.of (by decide +kernel) (Nat.le_of_ble_eq_true rfl) ?_
  intro p e s m below meth c A cx hw ls hl
  have cx : Cx p s m _ meth c (XI D cs wi) D d A "DishLift$Hot" cX4_mark 3 (some .int) "mark" := cx
  have cx' := cx
  obtain ⟨hx, hb, hr, hlk, hml, hown, hts, hK, hA, hXs, hnm⟩ := cx'
  have hl : lv_has ls 3 [(0, .ref a), (1, .ref tra), (2, .ref (ha 0))] := hl
  generalize hlo : ([] : List Loc) = locs at hw ⊢
  unfold fX4_mark_X4 at hf
  refine lv_aload_n hx hb dX4_mark_0 rfl (lv_at hl 1 rfl) ?_
  refine lv_bipush (v := 21) hx hb dX4_mark_1 (by decide) ?_
  obtain ⟨q1, hcq1, hf⟩ := op_e hf
  refine x_VV (wr := [oH ha (Hfl hv) (Hro hv) (Hrp hv) (Hca hv) (Hwy hv) (Hla hv) (Hmi hv) (Htf hv) (Htk hv), aV d ha 1 (HHO hv), aV d ha 2 (HAT hv), aV d ha 3 (HTO hv), aV d ha 4 (HWE hv), aV d ha 5 (HHE hv), aV d ha 6 (HRA hv)]) (rest := []) [.int 21] hX cx hw hl.1 (mX2_begins l  D d cs wi ln lf dk dn him tra tba tn tm TB 21  q1 hcq1) (lw_V q1164 q1155 q1156 q87 q1157) hd_X2_begins ⟨(Nat.le_of_ble_eq_true rfl), (Nat.le_of_ble_eq_true rfl)⟩ (va_recv hK hw.1 (ci := 4) (q0 := 7) rfl rfl) rfl rfl (Nat.le_of_ble_eq_true rfl) dX4_mark_3 [7, 8] [0, 1, 2, 3, 4, 5, 6] rfl rfl rfl rfl (by decide) ⟨(Nat.le_of_ble_eq_true rfl), (Nat.le_of_ble_eq_true rfl)⟩ (fun u H locs hp hw => ?_)
  have hw : Wd D A s [oH ha (Hfl hv) (Hro hv) (Hrp hv) (Hca hv) (Hwy hv) (Hla hv) (Hmi hv) (Htf hv) (Htk hv), aV d ha 1 (HHO hv), aV d ha 2 (HAT hv), aV d ha 3 (HTO hv), aV d ha 4 (HWE hv), aV d ha 5 (HHE hv), aV d ha 6 (HRA hv), (tra, .inr (4, [.ref tba, .int q1.1])), (tba, .inl (d 0, tn, .inl q1.2))] H locs := hw
  refine lv_aload_n hx hb dX4_mark_6 rfl (lv_at hl 0 rfl) ?_
  refine lv_aload_n hx hb dX4_mark_7 rfl (lv_at hl 1 rfl) ?_
  refine lv_aload_n hx hb dX4_mark_8 rfl (lv_at hl 2 rfl) ?_
  obtain ⟨q2, hcq2, hf⟩ := op_e hf
  refine x_DIW (n := 2) (x := ⟨"DishLift$Dish", "mark", "(LDishLift$Trail;LDishLift$House;)I"⟩) (C := "DishLift$Hot") (wr := []) (rest := []) [.ref tra, .ref (ha 0)] hX cx hw hl.1 (mX14_mark_X4 l D d cs wi ln lf dk dn him ha tra tba tn hv q1.1 q1.2 a hk q2 hcq2) q1179 q1690 q1178 q261 (Tb.dfl hXs.1).1 (Tb.dfl hXs.1).2.2.2.1 (Tb.dfl hXs.1).2.2.2.2 rfl rfl (by decide) (by decide +kernel) ⟨(Nat.le_of_ble_eq_true rfl), (Nat.le_of_ble_eq_true rfl)⟩ (dish_recv hXs hK hw (him.2 a 0 hk).2 rfl) rfl rfl (Nat.le_of_ble_eq_true rfl) dX4_mark_9 [0, 1, 2, 3, 4, 5, 6, 7, 8] [] rfl rfl rfl rfl (by decide) ⟨(Nat.le_of_ble_eq_true rfl), (Nat.le_of_ble_eq_true rfl)⟩ (fun r u H locs hp hw => ?_)
  have hw : Wd D A s [oH ha (Hfl hv) (Hro hv) (Hrp hv) (Hca hv) (Hwy hv) (Hla hv) (Hmi hv) (Htf hv) (Htk hv), aV d ha 1 (HHO hv), aV d ha 2 (HAT hv), aV d ha 3 (HTO hv), aV d ha 4 (HWE hv), aV d ha 5 (HHE hv), aV d ha 6 (HRA hv), (tra, .inr (4, [.ref tba, .int q2.2.1])), (tba, .inl (d 0, tn, .inl q2.2.2))] H locs := hw
  subst r
  refine lv_aload_n hx hb dX4_mark_12 rfl (lv_at hl 2 rfl) ?_
  refine va_get (ci := 2) (C := RX1) (T := TX1) (N := 15) hx hb hts in_X1 hown hK hw.1 0 rfl rfl 10 (by decide) (hts _ q188) (fun _ h9 => h9) rfl dX4_mark_13 ?_
  refine lv_aload_n hx hb dX4_mark_16 rfl (lv_at hl 0 rfl) ?_
  refine x_UI0 (n := 0) (x := ⟨"DishLift$Hot", "number", "()I"⟩) (owner := "DishLift$Dish") (C := "DishLift$Hot") (rest := [.ref (ha 5), .int q2.1]) [] hX cx hw hl.1 (mX3_number l D d cs wi ln lf dk dn him a 0 hk) (va_cwU 0 hts (lw_U q1201 q1202 q1204 q1136 q88 q1143) rfl rfl rfl rfl ⟨by decide, by decide, by decide +kernel⟩ ⟨(Nat.le_of_ble_eq_true rfl), (Nat.le_of_ble_eq_true rfl)⟩) (dish_recv hXs hK hw (him.2 a 0 hk).2 rfl) rfl rfl (Nat.le_of_ble_eq_true rfl) dX4_mark_17 ⟨(Nat.le_of_ble_eq_true rfl), (Nat.le_of_ble_eq_true rfl)⟩ (fun r u H locs hp hw => ?_)
  have hw : Wd D A s [oH ha (Hfl hv) (Hro hv) (Hrp hv) (Hca hv) (Hwy hv) (Hla hv) (Hmi hv) (Htf hv) (Htk hv), aV d ha 1 (HHO hv), aV d ha 2 (HAT hv), aV d ha 3 (HTO hv), aV d ha 4 (HWE hv), aV d ha 5 (HHE hv), aV d ha 6 (HRA hv), (tra, .inr (4, [.ref tba, .int q2.2.1])), (tba, .inl (d 0, tn, .inl q2.2.2))] H locs := hw
  subst hp
  obtain ⟨v3, hrd, hf⟩ := op_e hf
  refine x_iald (q0 := 5) cx hw rfl hrd dX4_mark_20 ?_
  refine lv_iadd hx hb dX4_mark_21 ?_
  have hf := sm_e hf
  subst hf
  exact x_retI cx hw rfl () rfl [0, 1, 2, 3, 4, 5, 6, 7, 8] rfl rfl (Nat.le_of_ble_eq_true rfl) (Nat.le_of_ble_eq_true rfl) dX4_mark_22
set_option maxHeartbeats 4000000 in
theorem mX4_mark_X5 (l : Launch) (D : va_G) (d : Nat → ClassId) (cs : Nat → Nat) (wi : va_W) (ln : Nat → Option Int32) (lf : Nat → Nat → Option Nat) (dk : Nat → Option Nat) (dn : Nat → Int32) (him : ImF d wi ln lf dk dn) (ha : Nat → Nat) (tra : Nat) (tba : Nat) (tn : Nat) (hv : HV) (tm : Int32) (TB : Nat → Int32) (a : Nat) (hk : dk a = some 1) (res : Int32 × Int32 × (Nat → Int32)) (hf : fX4_mark_X5 dn tn hv tm TB a = some res) : MetI l yX4_mark (ws_ yX4_mark cX4_mark 3 (some .int)) { frames := 2, cells := 0, slots := 0, locals := 43 } [.ref a, .ref tra, .ref (ha 0)] (XI D cs wi) D d [oH ha (Hfl hv) (Hro hv) (Hrp hv) (Hca hv) (Hwy hv) (Hla hv) (Hmi hv) (Htf hv) (Htk hv), aV d ha 1 (HHO hv), aV d ha 2 (HAT hv), aV d ha 3 (HTO hv), aV d ha 4 (HWE hv), aV d ha 5 (HHE hv), aV d ha 6 (HRA hv), (tra, .inr (4, [.ref tba, .int tm])), (tba, .inl (d 0, tn, .inl TB))] (fun r (_ : Unit) => r = res.1) (fun _ => [oH ha (Hfl hv) (Hro hv) (Hrp hv) (Hca hv) (Hwy hv) (Hla hv) (Hmi hv) (Htf hv) (Htk hv), aV d ha 1 (HHO hv), aV d ha 2 (HAT hv), aV d ha 3 (HTO hv), aV d ha 4 (HWE hv), aV d ha 5 (HHE hv), aV d ha 6 (HRA hv), (tra, .inr (4, [.ref tba, .int res.2.1])), (tba, .inl (d 0, tn, .inl res.2.2))]) := by
  have hX := XI.ok (D := D) (cs := cs) (wi := wi)
  refine MetI.of (by decide +kernel) (Nat.le_of_ble_eq_true rfl) ?_
  intro p e s m below meth c A cx hw ls hl
  have cx : Cx p s m _ meth c (XI D cs wi) D d A "DishLift$Hot" cX4_mark 3 (some .int) "mark" := cx
  have cx' := cx
  obtain ⟨hx, hb, hr, hlk, hml, hown, hts, hK, hA, hXs, hnm⟩ := cx'
  have hl : lv_has ls 3 [(0, .ref a), (1, .ref tra), (2, .ref (ha 0))] := hl
  generalize hlo : ([] : List Loc) = locs at hw ⊢
  unfold fX4_mark_X5 at hf
  refine lv_aload_n hx hb dX4_mark_0 rfl (lv_at hl 1 rfl) ?_
  refine lv_bipush (v := 21) hx hb dX4_mark_1 (by decide) ?_
  obtain ⟨q1, hcq1, hf⟩ := op_e hf
  refine x_VV (wr := [oH ha (Hfl hv) (Hro hv) (Hrp hv) (Hca hv) (Hwy hv) (Hla hv) (Hmi hv) (Htf hv) (Htk hv), aV d ha 1 (HHO hv), aV d ha 2 (HAT hv), aV d ha 3 (HTO hv), aV d ha 4 (HWE hv), aV d ha 5 (HHE hv), aV d ha 6 (HRA hv)]) (rest := []) [.int 21] hX cx hw hl.1 (mX2_begins l  D d cs wi ln lf dk dn him tra tba tn tm TB 21  q1 hcq1) (lw_V q1164 q1155 q1156 q87 q1157) hd_X2_begins ⟨(Nat.le_of_ble_eq_true rfl), (Nat.le_of_ble_eq_true rfl)⟩ (va_recv hK hw.1 (ci := 4) (q0 := 7) rfl rfl) rfl rfl (Nat.le_of_ble_eq_true rfl) dX4_mark_3 [7, 8] [0, 1, 2, 3, 4, 5, 6] rfl rfl rfl rfl (by decide) ⟨(Nat.le_of_ble_eq_true rfl), (Nat.le_of_ble_eq_true rfl)⟩ (fun u H locs hp hw => ?_)
  have hw : Wd D A s [oH ha (Hfl hv) (Hro hv) (Hrp hv) (Hca hv) (Hwy hv) (Hla hv) (Hmi hv) (Htf hv) (Htk hv), aV d ha 1 (HHO hv), aV d ha 2 (HAT hv), aV d ha 3 (HTO hv), aV d ha 4 (HWE hv), aV d ha 5 (HHE hv), aV d ha 6 (HRA hv), (tra, .inr (4, [.ref tba, .int q1.1])), (tba, .inl (d 0, tn, .inl q1.2))] H locs := hw
  refine lv_aload_n hx hb dX4_mark_6 rfl (lv_at hl 0 rfl) ?_
  refine lv_aload_n hx hb dX4_mark_7 rfl (lv_at hl 1 rfl) ?_
  refine lv_aload_n hx hb dX4_mark_8 rfl (lv_at hl 2 rfl) ?_
  obtain ⟨q2, hcq2, hf⟩ := op_e hf
  refine x_DIW (n := 2) (x := ⟨"DishLift$Dish", "mark", "(LDishLift$Trail;LDishLift$House;)I"⟩) (C := "DishLift$Soup") (wr := []) (rest := []) [.ref tra, .ref (ha 0)] hX cx hw hl.1 (mX14_mark_X5 l D d cs wi ln lf dk dn him ha tra tba tn hv q1.1 q1.2 a hk q2 hcq2) q1179 q1690 q1178 q261 (Tb.dfl hXs.1).1 (Tb.dfl hXs.1).2.2.2.1 (Tb.dfl hXs.1).2.2.2.2 rfl rfl (by decide) (by decide +kernel) ⟨(Nat.le_of_ble_eq_true rfl), (Nat.le_of_ble_eq_true rfl)⟩ (dish_recv hXs hK hw (him.2 a 1 hk).2 rfl) rfl rfl (Nat.le_of_ble_eq_true rfl) dX4_mark_9 [0, 1, 2, 3, 4, 5, 6, 7, 8] [] rfl rfl rfl rfl (by decide) ⟨(Nat.le_of_ble_eq_true rfl), (Nat.le_of_ble_eq_true rfl)⟩ (fun r u H locs hp hw => ?_)
  have hw : Wd D A s [oH ha (Hfl hv) (Hro hv) (Hrp hv) (Hca hv) (Hwy hv) (Hla hv) (Hmi hv) (Htf hv) (Htk hv), aV d ha 1 (HHO hv), aV d ha 2 (HAT hv), aV d ha 3 (HTO hv), aV d ha 4 (HWE hv), aV d ha 5 (HHE hv), aV d ha 6 (HRA hv), (tra, .inr (4, [.ref tba, .int q2.2.1])), (tba, .inl (d 0, tn, .inl q2.2.2))] H locs := hw
  subst r
  refine lv_aload_n hx hb dX4_mark_12 rfl (lv_at hl 2 rfl) ?_
  refine va_get (ci := 2) (C := RX1) (T := TX1) (N := 15) hx hb hts in_X1 hown hK hw.1 0 rfl rfl 10 (by decide) (hts _ q188) (fun _ h9 => h9) rfl dX4_mark_13 ?_
  refine lv_aload_n hx hb dX4_mark_16 rfl (lv_at hl 0 rfl) ?_
  refine x_UI0 (n := 0) (x := ⟨"DishLift$Hot", "number", "()I"⟩) (owner := "DishLift$Dish") (C := "DishLift$Soup") (rest := [.ref (ha 5), .int q2.1]) [] hX cx hw hl.1 (mX3_number l D d cs wi ln lf dk dn him a 1 hk) (va_cwU 0 hts (lw_U q1201 q1202 q1206 q1136 q88 q1143) rfl rfl rfl rfl ⟨by decide, by decide, by decide +kernel⟩ ⟨(Nat.le_of_ble_eq_true rfl), (Nat.le_of_ble_eq_true rfl)⟩) (dish_recv hXs hK hw (him.2 a 1 hk).2 rfl) rfl rfl (Nat.le_of_ble_eq_true rfl) dX4_mark_17 ⟨(Nat.le_of_ble_eq_true rfl), (Nat.le_of_ble_eq_true rfl)⟩ (fun r u H locs hp hw => ?_)
  have hw : Wd D A s [oH ha (Hfl hv) (Hro hv) (Hrp hv) (Hca hv) (Hwy hv) (Hla hv) (Hmi hv) (Htf hv) (Htk hv), aV d ha 1 (HHO hv), aV d ha 2 (HAT hv), aV d ha 3 (HTO hv), aV d ha 4 (HWE hv), aV d ha 5 (HHE hv), aV d ha 6 (HRA hv), (tra, .inr (4, [.ref tba, .int q2.2.1])), (tba, .inl (d 0, tn, .inl q2.2.2))] H locs := hw
  subst hp
  obtain ⟨v3, hrd, hf⟩ := op_e hf
  refine x_iald (q0 := 5) cx hw rfl hrd dX4_mark_20 ?_
  refine lv_iadd hx hb dX4_mark_21 ?_
  have hf := sm_e hf
  subst hf
  exact x_retI cx hw rfl () rfl [0, 1, 2, 3, 4, 5, 6, 7, 8] rfl rfl (Nat.le_of_ble_eq_true rfl) (Nat.le_of_ble_eq_true rfl) dX4_mark_22
set_option maxHeartbeats 4000000 in
theorem mX4_mark_X6 (l : Launch) (D : va_G) (d : Nat → ClassId) (cs : Nat → Nat) (wi : va_W) (ln : Nat → Option Int32) (lf : Nat → Nat → Option Nat) (dk : Nat → Option Nat) (dn : Nat → Int32) (him : ImF d wi ln lf dk dn) (ha : Nat → Nat) (tra : Nat) (tba : Nat) (tn : Nat) (hv : HV) (tm : Int32) (TB : Nat → Int32) (a : Nat) (hk : dk a = some 2) (res : Int32 × Int32 × (Nat → Int32)) (hf : fX4_mark_X6 dn tn hv tm TB a = some res) : MetI l yX4_mark (ws_ yX4_mark cX4_mark 3 (some .int)) { frames := 2, cells := 0, slots := 0, locals := 43 } [.ref a, .ref tra, .ref (ha 0)] (XI D cs wi) D d [oH ha (Hfl hv) (Hro hv) (Hrp hv) (Hca hv) (Hwy hv) (Hla hv) (Hmi hv) (Htf hv) (Htk hv), aV d ha 1 (HHO hv), aV d ha 2 (HAT hv), aV d ha 3 (HTO hv), aV d ha 4 (HWE hv), aV d ha 5 (HHE hv), aV d ha 6 (HRA hv), (tra, .inr (4, [.ref tba, .int tm])), (tba, .inl (d 0, tn, .inl TB))] (fun r (_ : Unit) => r = res.1) (fun _ => [oH ha (Hfl hv) (Hro hv) (Hrp hv) (Hca hv) (Hwy hv) (Hla hv) (Hmi hv) (Htf hv) (Htk hv), aV d ha 1 (HHO hv), aV d ha 2 (HAT hv), aV d ha 3 (HTO hv), aV d ha 4 (HWE hv), aV d ha 5 (HHE hv), aV d ha 6 (HRA hv), (tra, .inr (4, [.ref tba, .int res.2.1])), (tba, .inl (d 0, tn, .inl res.2.2))]) := by
  have hX := XI.ok (D := D) (cs := cs) (wi := wi)
  refine MetI.of (by decide +kernel) (Nat.le_of_ble_eq_true rfl) ?_
  intro p e s m below meth c A cx hw ls hl
  have cx : Cx p s m _ meth c (XI D cs wi) D d A "DishLift$Hot" cX4_mark 3 (some .int) "mark" := cx
  have cx' := cx
  obtain ⟨hx, hb, hr, hlk, hml, hown, hts, hK, hA, hXs, hnm⟩ := cx'
  have hl : lv_has ls 3 [(0, .ref a), (1, .ref tra), (2, .ref (ha 0))] := hl
  generalize hlo : ([] : List Loc) = locs at hw ⊢
  unfold fX4_mark_X6 at hf
  refine lv_aload_n hx hb dX4_mark_0 rfl (lv_at hl 1 rfl) ?_
  refine lv_bipush (v := 21) hx hb dX4_mark_1 (by decide) ?_
  obtain ⟨q1, hcq1, hf⟩ := op_e hf
  refine x_VV (wr := [oH ha (Hfl hv) (Hro hv) (Hrp hv) (Hca hv) (Hwy hv) (Hla hv) (Hmi hv) (Htf hv) (Htk hv), aV d ha 1 (HHO hv), aV d ha 2 (HAT hv), aV d ha 3 (HTO hv), aV d ha 4 (HWE hv), aV d ha 5 (HHE hv), aV d ha 6 (HRA hv)]) (rest := []) [.int 21] hX cx hw hl.1 (mX2_begins l  D d cs wi ln lf dk dn him tra tba tn tm TB 21  q1 hcq1) (lw_V q1164 q1155 q1156 q87 q1157) hd_X2_begins ⟨(Nat.le_of_ble_eq_true rfl), (Nat.le_of_ble_eq_true rfl)⟩ (va_recv hK hw.1 (ci := 4) (q0 := 7) rfl rfl) rfl rfl (Nat.le_of_ble_eq_true rfl) dX4_mark_3 [7, 8] [0, 1, 2, 3, 4, 5, 6] rfl rfl rfl rfl (by decide) ⟨(Nat.le_of_ble_eq_true rfl), (Nat.le_of_ble_eq_true rfl)⟩ (fun u H locs hp hw => ?_)
  have hw : Wd D A s [oH ha (Hfl hv) (Hro hv) (Hrp hv) (Hca hv) (Hwy hv) (Hla hv) (Hmi hv) (Htf hv) (Htk hv), aV d ha 1 (HHO hv), aV d ha 2 (HAT hv), aV d ha 3 (HTO hv), aV d ha 4 (HWE hv), aV d ha 5 (HHE hv), aV d ha 6 (HRA hv), (tra, .inr (4, [.ref tba, .int q1.1])), (tba, .inl (d 0, tn, .inl q1.2))] H locs := hw
  refine lv_aload_n hx hb dX4_mark_6 rfl (lv_at hl 0 rfl) ?_
  refine lv_aload_n hx hb dX4_mark_7 rfl (lv_at hl 1 rfl) ?_
  refine lv_aload_n hx hb dX4_mark_8 rfl (lv_at hl 2 rfl) ?_
  obtain ⟨q2, hcq2, hf⟩ := op_e hf
  refine x_DIW (n := 2) (x := ⟨"DishLift$Dish", "mark", "(LDishLift$Trail;LDishLift$House;)I"⟩) (C := "DishLift$Roast") (wr := []) (rest := []) [.ref tra, .ref (ha 0)] hX cx hw hl.1 (mX14_mark_X6 l D d cs wi ln lf dk dn him ha tra tba tn hv q1.1 q1.2 a hk q2 hcq2) q1179 q1690 q1178 q261 (Tb.dfl hXs.1).1 (Tb.dfl hXs.1).2.2.2.1 (Tb.dfl hXs.1).2.2.2.2 rfl rfl (by decide) (by decide +kernel) ⟨(Nat.le_of_ble_eq_true rfl), (Nat.le_of_ble_eq_true rfl)⟩ (dish_recv hXs hK hw (him.2 a 2 hk).2 rfl) rfl rfl (Nat.le_of_ble_eq_true rfl) dX4_mark_9 [0, 1, 2, 3, 4, 5, 6, 7, 8] [] rfl rfl rfl rfl (by decide) ⟨(Nat.le_of_ble_eq_true rfl), (Nat.le_of_ble_eq_true rfl)⟩ (fun r u H locs hp hw => ?_)
  have hw : Wd D A s [oH ha (Hfl hv) (Hro hv) (Hrp hv) (Hca hv) (Hwy hv) (Hla hv) (Hmi hv) (Htf hv) (Htk hv), aV d ha 1 (HHO hv), aV d ha 2 (HAT hv), aV d ha 3 (HTO hv), aV d ha 4 (HWE hv), aV d ha 5 (HHE hv), aV d ha 6 (HRA hv), (tra, .inr (4, [.ref tba, .int q2.2.1])), (tba, .inl (d 0, tn, .inl q2.2.2))] H locs := hw
  subst r
  refine lv_aload_n hx hb dX4_mark_12 rfl (lv_at hl 2 rfl) ?_
  refine va_get (ci := 2) (C := RX1) (T := TX1) (N := 15) hx hb hts in_X1 hown hK hw.1 0 rfl rfl 10 (by decide) (hts _ q188) (fun _ h9 => h9) rfl dX4_mark_13 ?_
  refine lv_aload_n hx hb dX4_mark_16 rfl (lv_at hl 0 rfl) ?_
  refine x_UI0 (n := 0) (x := ⟨"DishLift$Hot", "number", "()I"⟩) (owner := "DishLift$Dish") (C := "DishLift$Roast") (rest := [.ref (ha 5), .int q2.1]) [] hX cx hw hl.1 (mX3_number l D d cs wi ln lf dk dn him a 2 hk) (va_cwU 0 hts (lw_U q1201 q1202 q1205 q1136 q88 q1143) rfl rfl rfl rfl ⟨by decide, by decide, by decide +kernel⟩ ⟨(Nat.le_of_ble_eq_true rfl), (Nat.le_of_ble_eq_true rfl)⟩) (dish_recv hXs hK hw (him.2 a 2 hk).2 rfl) rfl rfl (Nat.le_of_ble_eq_true rfl) dX4_mark_17 ⟨(Nat.le_of_ble_eq_true rfl), (Nat.le_of_ble_eq_true rfl)⟩ (fun r u H locs hp hw => ?_)
  have hw : Wd D A s [oH ha (Hfl hv) (Hro hv) (Hrp hv) (Hca hv) (Hwy hv) (Hla hv) (Hmi hv) (Htf hv) (Htk hv), aV d ha 1 (HHO hv), aV d ha 2 (HAT hv), aV d ha 3 (HTO hv), aV d ha 4 (HWE hv), aV d ha 5 (HHE hv), aV d ha 6 (HRA hv), (tra, .inr (4, [.ref tba, .int q2.2.1])), (tba, .inl (d 0, tn, .inl q2.2.2))] H locs := hw
  subst hp
  obtain ⟨v3, hrd, hf⟩ := op_e hf
  refine x_iald (q0 := 5) cx hw rfl hrd dX4_mark_20 ?_
  refine lv_iadd hx hb dX4_mark_21 ?_
  have hf := sm_e hf
  subst hf
  exact x_retI cx hw rfl () rfl [0, 1, 2, 3, 4, 5, 6, 7, 8] rfl rfl (Nat.le_of_ble_eq_true rfl) (Nat.le_of_ble_eq_true rfl) dX4_mark_22
theorem hd_X5_mark : yX5_mark.cls = "DishLift$Soup" ∧ yX5_mark.cls ≠ "java/lang/invoke/MethodHandle" ∧ yX5_mark.cls ≠ "java/lang/invoke/VarHandle" ∧ (parseMethodDescriptor yX5_mark.desc).map (fun d => d.parameters.length) = some 2 := by decide +kernel
set_option maxHeartbeats 4000000 in
theorem mX5_mark_X5 (l : Launch) (D : va_G) (d : Nat → ClassId) (cs : Nat → Nat) (wi : va_W) (ln : Nat → Option Int32) (lf : Nat → Nat → Option Nat) (dk : Nat → Option Nat) (dn : Nat → Int32) (him : ImF d wi ln lf dk dn) (ha : Nat → Nat) (tra : Nat) (tba : Nat) (tn : Nat) (hv : HV) (tm : Int32) (TB : Nat → Int32) (a : Nat) (hk : dk a = some 1) (res : Int32 × Int32 × (Nat → Int32)) (hf : fX5_mark_X5 dn tn hv tm TB a = some res) : MetI l yX5_mark (ws_ yX5_mark cX5_mark 3 (some .int)) { frames := 3, cells := 0, slots := 0, locals := 65 } [.ref a, .ref tra, .ref (ha 0)] (XI D cs wi) D d [oH ha (Hfl hv) (Hro hv) (Hrp hv) (Hca hv) (Hwy hv) (Hla hv) (Hmi hv) (Htf hv) (Htk hv), aV d ha 1 (HHO hv), aV d ha 2 (HAT hv), aV d ha 3 (HTO hv), aV d ha 4 (HWE hv), aV d ha 5 (HHE hv), aV d ha 6 (HRA hv), (tra, .inr (4, [.ref tba, .int tm])), (tba, .inl (d 0, tn, .inl TB))] (fun r (_ : Unit) => r = res.1) (fun _ => [oH ha (Hfl hv) (Hro hv) (Hrp hv) (Hca hv) (Hwy hv) (Hla hv) (Hmi hv) (Htf hv) (Htk hv), aV d ha 1 (HHO hv), aV d ha 2 (HAT hv), aV d ha 3 (HTO hv), aV d ha 4 (HWE hv), aV d ha 5 (HHE hv), aV d ha 6 (HRA hv), (tra, .inr (4, [.ref tba, .int res.2.1])), (tba, .inl (d 0, tn, .inl res.2.2))]) := by
  have hX := XI.ok (D := D) (cs := cs) (wi := wi)
  refine MetI.of (by decide +kernel) (Nat.le_of_ble_eq_true rfl) ?_
  intro p e s m below meth c A cx hw ls hl
  have cx : Cx p s m _ meth c (XI D cs wi) D d A "DishLift$Soup" cX5_mark 3 (some .int) "mark" := cx
  have cx' := cx
  obtain ⟨hx, hb, hr, hlk, hml, hown, hts, hK, hA, hXs, hnm⟩ := cx'
  have hl : lv_has ls 3 [(0, .ref a), (1, .ref tra), (2, .ref (ha 0))] := hl
  generalize hlo : ([] : List Loc) = locs at hw ⊢
  unfold fX5_mark_X5 at hf
  refine lv_aload_n hx hb dX5_mark_0 rfl (lv_at hl 1 rfl) ?_
  refine lv_bipush (v := 24) hx hb dX5_mark_1 (by decide) ?_
  obtain ⟨q1, hcq1, hf⟩ := op_e hf
  refine x_VV (wr := [oH ha (Hfl hv) (Hro hv) (Hrp hv) (Hca hv) (Hwy hv) (Hla hv) (Hmi hv) (Htf hv) (Htk hv), aV d ha 1 (HHO hv), aV d ha 2 (HAT hv), aV d ha 3 (HTO hv), aV d ha 4 (HWE hv), aV d ha 5 (HHE hv), aV d ha 6 (HRA hv)]) (rest := []) [.int 24] hX cx hw hl.1 (mX2_begins l  D d cs wi ln lf dk dn him tra tba tn tm TB 24  q1 hcq1) (lw_V q1210 q1155 q1156 q87 q1157) hd_X2_begins ⟨(Nat.le_of_ble_eq_true rfl), (Nat.le_of_ble_eq_true rfl)⟩ (va_recv hK hw.1 (ci := 4) (q0 := 7) rfl rfl) rfl rfl (Nat.le_of_ble_eq_true rfl) dX5_mark_3 [7, 8] [0, 1, 2, 3, 4, 5, 6] rfl rfl rfl rfl (by decide) ⟨(Nat.le_of_ble_eq_true rfl), (Nat.le_of_ble_eq_true rfl)⟩ (fun u H locs hp hw => ?_)
  have hw : Wd D A s [oH ha (Hfl hv) (Hro hv) (Hrp hv) (Hca hv) (Hwy hv) (Hla hv) (Hmi hv) (Htf hv) (Htk hv), aV d ha 1 (HHO hv), aV d ha 2 (HAT hv), aV d ha 3 (HTO hv), aV d ha 4 (HWE hv), aV d ha 5 (HHE hv), aV d ha 6 (HRA hv), (tra, .inr (4, [.ref tba, .int q1.1])), (tba, .inl (d 0, tn, .inl q1.2))] H locs := hw
  refine lv_iconst (v := 2) hx hb dX5_mark_6 (by decide) ?_
  refine lv_aload_n hx hb dX5_mark_7 rfl (lv_at hl 0 rfl) ?_
  refine lv_aload_n hx hb dX5_mark_8 rfl (lv_at hl 1 rfl) ?_
  refine lv_aload_n hx hb dX5_mark_9 rfl (lv_at hl 2 rfl) ?_
  obtain ⟨q2, hcq2, hf⟩ := op_e hf
  refine x_PIW (n := 2) (wr := []) (rest := [.int 2]) (C := "DishLift$Soup") [.ref tra, .ref (ha 0)] hX cx hw hl.1 (hK.1 6 _ rfl).2 (mX4_mark_X5 l D d cs wi ln lf dk dn him ha tra tba tn hv q1.1 q1.2 a hk q2 hcq2) (lw_SU q1211 q1169 q269 q1167 q89 q1175) ⟨by decide +kernel, by decide +kernel⟩ ⟨(Nat.le_of_ble_eq_true rfl), (Nat.le_of_ble_eq_true rfl)⟩ (dish_recv hXs hK hw (him.2 a 1 hk).2 rfl) rfl rfl (Nat.le_of_ble_eq_true rfl) dX5_mark_10 [0, 1, 2, 3, 4, 5, 6, 7, 8] [] rfl rfl rfl rfl (by decide) ⟨(Nat.le_of_ble_eq_true rfl), (Nat.le_of_ble_eq_true rfl)⟩ (fun r u H locs hp hw => ?_)
  have hw : Wd D A s [oH ha (Hfl hv) (Hro hv) (Hrp hv) (Hca hv) (Hwy hv) (Hla hv) (Hmi hv) (Htf hv) (Htk hv), aV d ha 1 (HHO hv), aV d ha 2 (HAT hv), aV d ha 3 (HTO hv), aV d ha 4 (HWE hv), aV d ha 5 (HHE hv), aV d ha 6 (HRA hv), (tra, .inr (4, [.ref tba, .int q2.2.1])), (tba, .inl (d 0, tn, .inl q2.2.2))] H locs := hw
  subst r
  refine lv_imul hx hb dX5_mark_13 ?_
  have hf := sm_e hf
  subst hf
  exact x_retI cx hw rfl () rfl [0, 1, 2, 3, 4, 5, 6, 7, 8] rfl rfl (Nat.le_of_ble_eq_true rfl) (Nat.le_of_ble_eq_true rfl) dX5_mark_14
theorem hd_X6_mark : yX6_mark.cls = "DishLift$Roast" ∧ yX6_mark.cls ≠ "java/lang/invoke/MethodHandle" ∧ yX6_mark.cls ≠ "java/lang/invoke/VarHandle" ∧ (parseMethodDescriptor yX6_mark.desc).map (fun d => d.parameters.length) = some 2 := by decide +kernel
set_option maxHeartbeats 4000000 in
theorem mX6_mark_X6 (l : Launch) (D : va_G) (d : Nat → ClassId) (cs : Nat → Nat) (wi : va_W) (ln : Nat → Option Int32) (lf : Nat → Nat → Option Nat) (dk : Nat → Option Nat) (dn : Nat → Int32) (him : ImF d wi ln lf dk dn) (ha : Nat → Nat) (tra : Nat) (tba : Nat) (tn : Nat) (hv : HV) (tm : Int32) (TB : Nat → Int32) (a : Nat) (hk : dk a = some 2) (res : Int32 × Int32 × (Nat → Int32)) (hf : fX6_mark_X6 dn tn hv tm TB a = some res) : MetI l yX6_mark (ws_ yX6_mark cX6_mark 3 (some .int)) { frames := 3, cells := 0, slots := 0, locals := 65 } [.ref a, .ref tra, .ref (ha 0)] (XI D cs wi) D d [oH ha (Hfl hv) (Hro hv) (Hrp hv) (Hca hv) (Hwy hv) (Hla hv) (Hmi hv) (Htf hv) (Htk hv), aV d ha 1 (HHO hv), aV d ha 2 (HAT hv), aV d ha 3 (HTO hv), aV d ha 4 (HWE hv), aV d ha 5 (HHE hv), aV d ha 6 (HRA hv), (tra, .inr (4, [.ref tba, .int tm])), (tba, .inl (d 0, tn, .inl TB))] (fun r (_ : Unit) => r = res.1) (fun _ => [oH ha (Hfl hv) (Hro hv) (Hrp hv) (Hca hv) (Hwy hv) (Hla hv) (Hmi hv) (Htf hv) (Htk hv), aV d ha 1 (HHO hv), aV d ha 2 (HAT hv), aV d ha 3 (HTO hv), aV d ha 4 (HWE hv), aV d ha 5 (HHE hv), aV d ha 6 (HRA hv), (tra, .inr (4, [.ref tba, .int res.2.1])), (tba, .inl (d 0, tn, .inl res.2.2))]) := by
  have hX := XI.ok (D := D) (cs := cs) (wi := wi)
  refine MetI.of (by decide +kernel) (Nat.le_of_ble_eq_true rfl) ?_
  intro p e s m below meth c A cx hw ls hl
  have cx : Cx p s m _ meth c (XI D cs wi) D d A "DishLift$Roast" cX6_mark 3 (some .int) "mark" := cx
  have cx' := cx
  obtain ⟨hx, hb, hr, hlk, hml, hown, hts, hK, hA, hXs, hnm⟩ := cx'
  have hl : lv_has ls 3 [(0, .ref a), (1, .ref tra), (2, .ref (ha 0))] := hl
  generalize hlo : ([] : List Loc) = locs at hw ⊢
  unfold fX6_mark_X6 at hf
  refine lv_aload_n hx hb dX6_mark_0 rfl (lv_at hl 1 rfl) ?_
  refine lv_bipush (v := 22) hx hb dX6_mark_1 (by decide) ?_
  obtain ⟨q1, hcq1, hf⟩ := op_e hf
  refine x_VV (wr := [oH ha (Hfl hv) (Hro hv) (Hrp hv) (Hca hv) (Hwy hv) (Hla hv) (Hmi hv) (Htf hv) (Htk hv), aV d ha 1 (HHO hv), aV d ha 2 (HAT hv), aV d ha 3 (HTO hv), aV d ha 4 (HWE hv), aV d ha 5 (HHE hv), aV d ha 6 (HRA hv)]) (rest := []) [.int 22] hX cx hw hl.1 (mX2_begins l  D d cs wi ln lf dk dn him tra tba tn tm TB 22  q1 hcq1) (lw_V q1173 q1155 q1156 q87 q1157) hd_X2_begins ⟨(Nat.le_of_ble_eq_true rfl), (Nat.le_of_ble_eq_true rfl)⟩ (va_recv hK hw.1 (ci := 4) (q0 := 7) rfl rfl) rfl rfl (Nat.le_of_ble_eq_true rfl) dX6_mark_3 [7, 8] [0, 1, 2, 3, 4, 5, 6] rfl rfl rfl rfl (by decide) ⟨(Nat.le_of_ble_eq_true rfl), (Nat.le_of_ble_eq_true rfl)⟩ (fun u H locs hp hw => ?_)
  have hw : Wd D A s [oH ha (Hfl hv) (Hro hv) (Hrp hv) (Hca hv) (Hwy hv) (Hla hv) (Hmi hv) (Htf hv) (Htk hv), aV d ha 1 (HHO hv), aV d ha 2 (HAT hv), aV d ha 3 (HTO hv), aV d ha 4 (HWE hv), aV d ha 5 (HHE hv), aV d ha 6 (HRA hv), (tra, .inr (4, [.ref tba, .int q1.1])), (tba, .inl (d 0, tn, .inl q1.2))] H locs := hw
  refine lv_aload_n hx hb dX6_mark_6 rfl (lv_at hl 0 rfl) ?_
  refine lv_aload_n hx hb dX6_mark_7 rfl (lv_at hl 1 rfl) ?_
  refine lv_aload_n hx hb dX6_mark_8 rfl (lv_at hl 2 rfl) ?_
  obtain ⟨q2, hcq2, hf⟩ := op_e hf
  refine x_PIW (n := 2) (wr := []) (rest := []) (C := "DishLift$Roast") [.ref tra, .ref (ha 0)] hX cx hw hl.1 (hK.1 7 _ rfl).2 (mX4_mark_X6 l D d cs wi ln lf dk dn him ha tra tba tn hv q1.1 q1.2 a hk q2 hcq2) (lw_SU q1174 q1169 q277 q1167 q89 q1175) ⟨by decide +kernel, by decide +kernel⟩ ⟨(Nat.le_of_ble_eq_true rfl), (Nat.le_of_ble_eq_true rfl)⟩ (dish_recv hXs hK hw (him.2 a 2 hk).2 rfl) rfl rfl (Nat.le_of_ble_eq_true rfl) dX6_mark_9 [0, 1, 2, 3, 4, 5, 6, 7, 8] [] rfl rfl rfl rfl (by decide) ⟨(Nat.le_of_ble_eq_true rfl), (Nat.le_of_ble_eq_true rfl)⟩ (fun r u H locs hp hw => ?_)
  have hw : Wd D A s [oH ha (Hfl hv) (Hro hv) (Hrp hv) (Hca hv) (Hwy hv) (Hla hv) (Hmi hv) (Htf hv) (Htk hv), aV d ha 1 (HHO hv), aV d ha 2 (HAT hv), aV d ha 3 (HTO hv), aV d ha 4 (HWE hv), aV d ha 5 (HHE hv), aV d ha 6 (HRA hv), (tra, .inr (4, [.ref tba, .int q2.2.1])), (tba, .inl (d 0, tn, .inl q2.2.2))] H locs := hw
  subst r
  refine lv_sipush (v := 1000) hx hb dX6_mark_12 (by decide) ?_
  refine lv_isub hx hb dX6_mark_15 ?_
  have hf := sm_e hf
  subst hf
  exact x_retI cx hw rfl () rfl [0, 1, 2, 3, 4, 5, 6, 7, 8] rfl rfl (Nat.le_of_ble_eq_true rfl) (Nat.le_of_ble_eq_true rfl) dX6_mark_16
theorem hd_X7_mark : yX7_mark.cls = "DishLift$Cold" ∧ yX7_mark.cls ≠ "java/lang/invoke/MethodHandle" ∧ yX7_mark.cls ≠ "java/lang/invoke/VarHandle" ∧ (parseMethodDescriptor yX7_mark.desc).map (fun d => d.parameters.length) = some 2 := by decide +kernel
set_option maxHeartbeats 4000000 in
theorem mX7_mark_X7 (l : Launch) (D : va_G) (d : Nat → ClassId) (cs : Nat → Nat) (wi : va_W) (ln : Nat → Option Int32) (lf : Nat → Nat → Option Nat) (dk : Nat → Option Nat) (dn : Nat → Int32) (him : ImF d wi ln lf dk dn) (ha : Nat → Nat) (tra : Nat) (tba : Nat) (tn : Nat) (hv : HV) (tm : Int32) (TB : Nat → Int32) (a : Nat) (hk : dk a = some 3) (res : Int32 × Int32 × (Nat → Int32)) (hf : fX7_mark_X7 dn tn hv tm TB a = some res) : MetI l yX7_mark (ws_ yX7_mark cX7_mark 3 (some .int)) { frames := 3, cells := 0, slots := 0, locals := 65 } [.ref a, .ref tra, .ref (ha 0)] (XI D cs wi) D d [oH ha (Hfl hv) (Hro hv) (Hrp hv) (Hca hv) (Hwy hv) (Hla hv) (Hmi hv) (Htf hv) (Htk hv), aV d ha 1 (HHO hv), aV d ha 2 (HAT hv), aV d ha 3 (HTO hv), aV d ha 4 (HWE hv), aV d ha 5 (HHE hv), aV d ha 6 (HRA hv), (tra, .inr (4, [.ref tba, .int tm])), (tba, .inl (d 0, tn, .inl TB))] (fun r (_ : Unit) => r = res.1) (fun _ => [oH ha (Hfl hv) (Hro hv) (Hrp hv) (Hca hv) (Hwy hv) (Hla hv) (Hmi hv) (Htf hv) (Htk hv), aV d ha 1 (HHO hv), aV d ha 2 (HAT hv), aV d ha 3 (HTO hv), aV d ha 4 (HWE hv), aV d ha 5 (HHE hv), aV d ha 6 (HRA hv), (tra, .inr (4, [.ref tba, .int res.2.1])), (tba, .inl (d 0, tn, .inl res.2.2))]) := by
  have hX := XI.ok (D := D) (cs := cs) (wi := wi)
  refine MetI.of (by decide +kernel) (Nat.le_of_ble_eq_true rfl) ?_
  intro p e s m below meth c A cx hw ls hl
  have cx : Cx p s m _ meth c (XI D cs wi) D d A "DishLift$Cold" cX7_mark 3 (some .int) "mark" := cx
  have cx' := cx
  obtain ⟨hx, hb, hr, hlk, hml, hown, hts, hK, hA, hXs, hnm⟩ := cx'
  have hl : lv_has ls 3 [(0, .ref a), (1, .ref tra), (2, .ref (ha 0))] := hl
  generalize hlo : ([] : List Loc) = locs at hw ⊢
  unfold fX7_mark_X7 at hf
  refine lv_aload_n hx hb dX7_mark_0 rfl (lv_at hl 1 rfl) ?_
  refine lv_bipush (v := 23) hx hb dX7_mark_1 (by decide) ?_
  obtain ⟨q1, hcq1, hf⟩ := op_e hf
  refine x_VV (wr := [oH ha (Hfl hv) (Hro hv) (Hrp hv) (Hca hv) (Hwy hv) (Hla hv) (Hmi hv) (Htf hv) (Htk hv), aV d ha 1 (HHO hv), aV d ha 2 (HAT hv), aV d ha 3 (HTO hv), aV d ha 4 (HWE hv), aV d ha 5 (HHE hv), aV d ha 6 (HRA hv)]) (rest := []) [.int 23] hX cx hw hl.1 (mX2_begins l  D d cs wi ln lf dk dn him tra tba tn tm TB 23  q1 hcq1) (lw_V q1154 q1155 q1156 q87 q1157) hd_X2_begins ⟨(Nat.le_of_ble_eq_true rfl), (Nat.le_of_ble_eq_true rfl)⟩ (va_recv hK hw.1 (ci := 4) (q0 := 7) rfl rfl) rfl rfl (Nat.le_of_ble_eq_true rfl) dX7_mark_3 [7, 8] [0, 1, 2, 3, 4, 5, 6] rfl rfl rfl rfl (by decide) ⟨(Nat.le_of_ble_eq_true rfl), (Nat.le_of_ble_eq_true rfl)⟩ (fun u H locs hp hw => ?_)
  have hw : Wd D A s [oH ha (Hfl hv) (Hro hv) (Hrp hv) (Hca hv) (Hwy hv) (Hla hv) (Hmi hv) (Htf hv) (Htk hv), aV d ha 1 (HHO hv), aV d ha 2 (HAT hv), aV d ha 3 (HTO hv), aV d ha 4 (HWE hv), aV d ha 5 (HHE hv), aV d ha 6 (HRA hv), (tra, .inr (4, [.ref tba, .int q1.1])), (tba, .inl (d 0, tn, .inl q1.2))] H locs := hw
  refine lv_aload_n hx hb dX7_mark_6 rfl (lv_at hl 0 rfl) ?_
  refine lv_aload_n hx hb dX7_mark_7 rfl (lv_at hl 1 rfl) ?_
  refine lv_aload_n hx hb dX7_mark_8 rfl (lv_at hl 2 rfl) ?_
  obtain ⟨q2, hcq2, hf⟩ := op_e hf
  refine x_DIW (n := 2) (x := ⟨"DishLift$Dish", "mark", "(LDishLift$Trail;LDishLift$House;)I"⟩) (C := "DishLift$Cold") (wr := []) (rest := []) [.ref tra, .ref (ha 0)] hX cx hw hl.1 (mX14_mark_X7 l D d cs wi ln lf dk dn him ha tra tba tn hv q1.1 q1.2 a hk q2 hcq2) q1179 q1690 q1178 q285 (Tb.dfl hXs.1).2.2.1 (Tb.dfl hXs.1).2.2.2.1 (Tb.dfl hXs.1).2.2.2.2 rfl rfl (by decide) (by decide +kernel) ⟨(Nat.le_of_ble_eq_true rfl), (Nat.le_of_ble_eq_true rfl)⟩ (dish_recv hXs hK hw (him.2 a 3 hk).2 rfl) rfl rfl (Nat.le_of_ble_eq_true rfl) dX7_mark_9 [0, 1, 2, 3, 4, 5, 6, 7, 8] [] rfl rfl rfl rfl (by decide) ⟨(Nat.le_of_ble_eq_true rfl), (Nat.le_of_ble_eq_true rfl)⟩ (fun r u H locs hp hw => ?_)
  have hw : Wd D A s [oH ha (Hfl hv) (Hro hv) (Hrp hv) (Hca hv) (Hwy hv) (Hla hv) (Hmi hv) (Htf hv) (Htk hv), aV d ha 1 (HHO hv), aV d ha 2 (HAT hv), aV d ha 3 (HTO hv), aV d ha 4 (HWE hv), aV d ha 5 (HHE hv), aV d ha 6 (HRA hv), (tra, .inr (4, [.ref tba, .int q2.2.1])), (tba, .inl (d 0, tn, .inl q2.2.2))] H locs := hw
  subst r
  refine lv_aload_n hx hb dX7_mark_12 rfl (lv_at hl 0 rfl) ?_
  refine lv_aload_n hx hb dX7_mark_13 rfl (lv_at hl 1 rfl) ?_
  refine lv_aload_n hx hb dX7_mark_14 rfl (lv_at hl 2 rfl) ?_
  obtain ⟨q3, hcq3, hf⟩ := op_e hf
  refine x_UIW (n := 2) (x := ⟨"DishLift$Cold", "size", "(LDishLift$Trail;LDishLift$House;)I"⟩) (owner := "DishLift$Cold") (C := "DishLift$Cold") (wr := []) (rest := [.int q2.1]) [.ref tra, .ref (ha 0)] hX cx hw hl.1 (mX7_size_X7 l D d cs wi ln lf dk dn him ha tra tba tn hv q2.2.1 q2.2.2 a hk q3 hcq3) (va_cwU 2 hts (lw_U q1225 q1685 q1687 q1152 q92 q1153) rfl rfl rfl rfl ⟨by decide, by decide, by decide +kernel⟩ ⟨(Nat.le_of_ble_eq_true rfl), (Nat.le_of_ble_eq_true rfl)⟩) (dish_recv hXs hK hw (him.2 a 3 hk).2 rfl) rfl rfl (Nat.le_of_ble_eq_true rfl) dX7_mark_15 [0, 1, 2, 3, 4, 5, 6, 7, 8] [] rfl rfl rfl rfl (by decide) ⟨(Nat.le_of_ble_eq_true rfl), (Nat.le_of_ble_eq_true rfl)⟩ (fun r u H locs hp hw => ?_)
  have hw : Wd D A s [oH ha (Hfl hv) (Hro hv) (Hrp hv) (Hca hv) (Hwy hv) (Hla hv) (Hmi hv) (Htf hv) (Htk hv), aV d ha 1 (HHO hv), aV d ha 2 (HAT hv), aV d ha 3 (HTO hv), aV d ha 4 (HWE hv), aV d ha 5 (HHE hv), aV d ha 6 (HRA hv), (tra, .inr (4, [.ref tba, .int q3.2.1])), (tba, .inl (d 0, tn, .inl q3.2.2))] H locs := hw
  subst r
  refine lv_isub hx hb dX7_mark_18 ?_
  have hf := sm_e hf
  subst hf
  exact x_retI cx hw rfl () rfl [0, 1, 2, 3, 4, 5, 6, 7, 8] rfl rfl (Nat.le_of_ble_eq_true rfl) (Nat.le_of_ble_eq_true rfl) dX7_mark_19
set_option maxHeartbeats 4000000 in
theorem mX7_mark_X8 (l : Launch) (D : va_G) (d : Nat → ClassId) (cs : Nat → Nat) (wi : va_W) (ln : Nat → Option Int32) (lf : Nat → Nat → Option Nat) (dk : Nat → Option Nat) (dn : Nat → Int32) (him : ImF d wi ln lf dk dn) (ha : Nat → Nat) (tra : Nat) (tba : Nat) (tn : Nat) (hv : HV) (tm : Int32) (TB : Nat → Int32) (a : Nat) (hk : dk a = some 4) (res : Int32 × Int32 × (Nat → Int32)) (hf : fX7_mark_X8 dn tn hv tm TB a = some res) : MetI l yX7_mark (ws_ yX7_mark cX7_mark 3 (some .int)) { frames := 4, cells := 0, slots := 0, locals := 87 } [.ref a, .ref tra, .ref (ha 0)] (XI D cs wi) D d [oH ha (Hfl hv) (Hro hv) (Hrp hv) (Hca hv) (Hwy hv) (Hla hv) (Hmi hv) (Htf hv) (Htk hv), aV d ha 1 (HHO hv), aV d ha 2 (HAT hv), aV d ha 3 (HTO hv), aV d ha 4 (HWE hv), aV d ha 5 (HHE hv), aV d ha 6 (HRA hv), (tra, .inr (4, [.ref tba, .int tm])), (tba, .inl (d 0, tn, .inl TB))] (fun r (_ : Unit) => r = res.1) (fun _ => [oH ha (Hfl hv) (Hro hv) (Hrp hv) (Hca hv) (Hwy hv) (Hla hv) (Hmi hv) (Htf hv) (Htk hv), aV d ha 1 (HHO hv), aV d ha 2 (HAT hv), aV d ha 3 (HTO hv), aV d ha 4 (HWE hv), aV d ha 5 (HHE hv), aV d ha 6 (HRA hv), (tra, .inr (4, [.ref tba, .int res.2.1])), (tba, .inl (d 0, tn, .inl res.2.2))]) := by
  have hX := XI.ok (D := D) (cs := cs) (wi := wi)
  refine MetI.of (by decide +kernel) (Nat.le_of_ble_eq_true rfl) ?_
  intro p e s m below meth c A cx hw ls hl
  have cx : Cx p s m _ meth c (XI D cs wi) D d A "DishLift$Cold" cX7_mark 3 (some .int) "mark" := cx
  have cx' := cx
  obtain ⟨hx, hb, hr, hlk, hml, hown, hts, hK, hA, hXs, hnm⟩ := cx'
  have hl : lv_has ls 3 [(0, .ref a), (1, .ref tra), (2, .ref (ha 0))] := hl
  generalize hlo : ([] : List Loc) = locs at hw ⊢
  unfold fX7_mark_X8 at hf
  refine lv_aload_n hx hb dX7_mark_0 rfl (lv_at hl 1 rfl) ?_
  refine lv_bipush (v := 23) hx hb dX7_mark_1 (by decide) ?_
  obtain ⟨q1, hcq1, hf⟩ := op_e hf
  refine x_VV (wr := [oH ha (Hfl hv) (Hro hv) (Hrp hv) (Hca hv) (Hwy hv) (Hla hv) (Hmi hv) (Htf hv) (Htk hv), aV d ha 1 (HHO hv), aV d ha 2 (HAT hv), aV d ha 3 (HTO hv), aV d ha 4 (HWE hv), aV d ha 5 (HHE hv), aV d ha 6 (HRA hv)]) (rest := []) [.int 23] hX cx hw hl.1 (mX2_begins l  D d cs wi ln lf dk dn him tra tba tn tm TB 23  q1 hcq1) (lw_V q1154 q1155 q1156 q87 q1157) hd_X2_begins ⟨(Nat.le_of_ble_eq_true rfl), (Nat.le_of_ble_eq_true rfl)⟩ (va_recv hK hw.1 (ci := 4) (q0 := 7) rfl rfl) rfl rfl (Nat.le_of_ble_eq_true rfl) dX7_mark_3 [7, 8] [0, 1, 2, 3, 4, 5, 6] rfl rfl rfl rfl (by decide) ⟨(Nat.le_of_ble_eq_true rfl), (Nat.le_of_ble_eq_true rfl)⟩ (fun u H locs hp hw => ?_)
  have hw : Wd D A s [oH ha (Hfl hv) (Hro hv) (Hrp hv) (Hca hv) (Hwy hv) (Hla hv) (Hmi hv) (Htf hv) (Htk hv), aV d ha 1 (HHO hv), aV d ha 2 (HAT hv), aV d ha 3 (HTO hv), aV d ha 4 (HWE hv), aV d ha 5 (HHE hv), aV d ha 6 (HRA hv), (tra, .inr (4, [.ref tba, .int q1.1])), (tba, .inl (d 0, tn, .inl q1.2))] H locs := hw
  refine lv_aload_n hx hb dX7_mark_6 rfl (lv_at hl 0 rfl) ?_
  refine lv_aload_n hx hb dX7_mark_7 rfl (lv_at hl 1 rfl) ?_
  refine lv_aload_n hx hb dX7_mark_8 rfl (lv_at hl 2 rfl) ?_
  obtain ⟨q2, hcq2, hf⟩ := op_e hf
  refine x_DIW (n := 2) (x := ⟨"DishLift$Dish", "mark", "(LDishLift$Trail;LDishLift$House;)I"⟩) (C := "DishLift$Ice") (wr := []) (rest := []) [.ref tra, .ref (ha 0)] hX cx hw hl.1 (mX14_mark_X8 l D d cs wi ln lf dk dn him ha tra tba tn hv q1.1 q1.2 a hk q2 hcq2) q1179 q1690 q1178 q285 (Tb.dfl hXs.1).2.2.1 (Tb.dfl hXs.1).2.2.2.1 (Tb.dfl hXs.1).2.2.2.2 rfl rfl (by decide) (by decide +kernel) ⟨(Nat.le_of_ble_eq_true rfl), (Nat.le_of_ble_eq_true rfl)⟩ (dish_recv hXs hK hw (him.2 a 4 hk).2 rfl) rfl rfl (Nat.le_of_ble_eq_true rfl) dX7_mark_9 [0, 1, 2, 3, 4, 5, 6, 7, 8] [] rfl rfl rfl rfl (by decide) ⟨(Nat.le_of_ble_eq_true rfl), (Nat.le_of_ble_eq_true rfl)⟩ (fun r u H locs hp hw => ?_)
  have hw : Wd D A s [oH ha (Hfl hv) (Hro hv) (Hrp hv) (Hca hv) (Hwy hv) (Hla hv) (Hmi hv) (Htf hv) (Htk hv), aV d ha 1 (HHO hv), aV d ha 2 (HAT hv), aV d ha 3 (HTO hv), aV d ha 4 (HWE hv), aV d ha 5 (HHE hv), aV d ha 6 (HRA hv), (tra, .inr (4, [.ref tba, .int q2.2.1])), (tba, .inl (d 0, tn, .inl q2.2.2))] H locs := hw
  subst r
  refine lv_aload_n hx hb dX7_mark_12 rfl (lv_at hl 0 rfl) ?_
  refine lv_aload_n hx hb dX7_mark_13 rfl (lv_at hl 1 rfl) ?_
  refine lv_aload_n hx hb dX7_mark_14 rfl (lv_at hl 2 rfl) ?_
  obtain ⟨q3, hcq3, hf⟩ := op_e hf
  refine x_UIW (n := 2) (x := ⟨"DishLift$Cold", "size", "(LDishLift$Trail;LDishLift$House;)I"⟩) (owner := "DishLift$Cold") (C := "DishLift$Ice") (wr := []) (rest := [.int q2.1]) [.ref tra, .ref (ha 0)] hX cx hw hl.1 (mX8_size_X8 l D d cs wi ln lf dk dn him ha tra tba tn hv q2.2.1 q2.2.2 a hk q3 hcq3) (va_cwO 2 hts (lw_O q1225 q1685 q1152 q1688 q1213 q93 q1214) rfl rfl rfl q1153 ⟨by decide, by decide, by decide +kernel⟩ ⟨(Nat.le_of_ble_eq_true rfl), (Nat.le_of_ble_eq_true rfl)⟩) (dish_recv hXs hK hw (him.2 a 4 hk).2 rfl) rfl rfl (Nat.le_of_ble_eq_true rfl) dX7_mark_15 [0, 1, 2, 3, 4, 5, 6, 7, 8] [] rfl rfl rfl rfl (by decide) ⟨(Nat.le_of_ble_eq_true rfl), (Nat.le_of_ble_eq_true rfl)⟩ (fun r u H locs hp hw => ?_)
  have hw : Wd D A s [oH ha (Hfl hv) (Hro hv) (Hrp hv) (Hca hv) (Hwy hv) (Hla hv) (Hmi hv) (Htf hv) (Htk hv), aV d ha 1 (HHO hv), aV d ha 2 (HAT hv), aV d ha 3 (HTO hv), aV d ha 4 (HWE hv), aV d ha 5 (HHE hv), aV d ha 6 (HRA hv), (tra, .inr (4, [.ref tba, .int q3.2.1])), (tba, .inl (d 0, tn, .inl q3.2.2))] H locs := hw
  subst r
  refine lv_isub hx hb dX7_mark_18 ?_
  have hf := sm_e hf
  subst hf
  exact x_retI cx hw rfl () rfl [0, 1, 2, 3, 4, 5, 6, 7, 8] rfl rfl (Nat.le_of_ble_eq_true rfl) (Nat.le_of_ble_eq_true rfl) dX7_mark_19
theorem hd_X4_size : yX4_size.cls = "DishLift$Hot" ∧ yX4_size.cls ≠ "java/lang/invoke/MethodHandle" ∧ yX4_size.cls ≠ "java/lang/invoke/VarHandle" ∧ (parseMethodDescriptor yX4_size.desc).map (fun d => d.parameters.length) = some 2 := by decide +kernel
set_option maxHeartbeats 4000000 in
theorem mX4_size_X4 (l : Launch) (D : va_G) (d : Nat → ClassId) (cs : Nat → Nat) (wi : va_W) (ln : Nat → Option Int32) (lf : Nat → Nat → Option Nat) (dk : Nat → Option Nat) (dn : Nat → Int32) (him : ImF d wi ln lf dk dn) (ha : Nat → Nat) (tra : Nat) (tba : Nat) (tn : Nat) (hv : HV) (tm : Int32) (TB : Nat → Int32) (a : Nat) (hk : dk a = some 0) (res : Int32 × Int32 × (Nat → Int32)) (hf : fX4_size_X4 dn tn hv tm TB a = some res) : MetI l yX4_size (ws_ yX4_size cX4_size 3 (some .int)) { frames := 3, cells := 0, slots := 0, locals := 65 } [.ref a, .ref tra, .ref (ha 0)] (XI D cs wi) D d [oH ha (Hfl hv) (Hro hv) (Hrp hv) (Hca hv) (Hwy hv) (Hla hv) (Hmi hv) (Htf hv) (Htk hv), aV d ha 1 (HHO hv), aV d ha 2 (HAT hv), aV d ha 3 (HTO hv), aV d ha 4 (HWE hv), aV d ha 5 (HHE hv), aV d ha 6 (HRA hv), (tra, .inr (4, [.ref tba, .int tm])), (tba, .inl (d 0, tn, .inl TB))] (fun r (_ : Unit) => r = res.1) (fun _ => [oH ha (Hfl hv) (Hro hv) (Hrp hv) (Hca hv) (Hwy hv) (Hla hv) (Hmi hv) (Htf hv) (Htk hv), aV d ha 1 (HHO hv), aV d ha 2 (HAT hv), aV d ha 3 (HTO hv), aV d ha 4 (HWE hv), aV d ha 5 (HHE hv), aV d ha 6 (HRA hv), (tra, .inr (4, [.ref tba, .int res.2.1])), (tba, .inl (d 0, tn, .inl res.2.2))]) := by
  have hX := XI.ok (D := D) (cs := cs) (wi := wi)
  refine MetI.of (by decide +kernel) (Nat.le_of_ble_eq_true rfl) ?_
  intro p e s m below meth c A cx hw ls hl
  have cx : Cx p s m _ meth c (XI D cs wi) D d A "DishLift$Hot" cX4_size 3 (some .int) "size" := cx
  have cx' := cx
  obtain ⟨hx, hb, hr, hlk, hml, hown, hts, hK, hA, hXs, hnm⟩ := cx'
  have hl : lv_has ls 3 [(0, .ref a), (1, .ref tra), (2, .ref (ha 0))] := hl
  generalize hlo : ([] : List Loc) = locs at hw ⊢
  unfold fX4_size_X4 at hf
  refine lv_aload_n hx hb dX4_size_0 rfl (lv_at hl 1 rfl) ?_
  refine lv_bipush (v := 11) hx hb dX4_size_1 (by decide) ?_
  obtain ⟨q1, hcq1, hf⟩ := op_e hf
  refine x_VV (wr := [oH ha (Hfl hv) (Hro hv) (Hrp hv) (Hca hv) (Hwy hv) (Hla hv) (Hmi hv) (Htf hv) (Htk hv), aV d ha 1 (HHO hv), aV d ha 2 (HAT hv), aV d ha 3 (HTO hv), aV d ha 4 (HWE hv), aV d ha 5 (HHE hv), aV d ha 6 (HRA hv)]) (rest := []) [.int 11] hX cx hw hl.1 (mX2_begins l  D d cs wi ln lf dk dn him tra tba tn tm TB 11  q1 hcq1) (lw_V q1164 q1155 q1156 q87 q1157) hd_X2_begins ⟨(Nat.le_of_ble_eq_true rfl), (Nat.le_of_ble_eq_true rfl)⟩ (va_recv hK hw.1 (ci := 4) (q0 := 7) rfl rfl) rfl rfl (Nat.le_of_ble_eq_true rfl) dX4_size_3 [7, 8] [0, 1, 2, 3, 4, 5, 6] rfl rfl rfl rfl (by decide) ⟨(Nat.le_of_ble_eq_true rfl), (Nat.le_of_ble_eq_true rfl)⟩ (fun u H locs hp hw => ?_)
  have hw : Wd D A s [oH ha (Hfl hv) (Hro hv) (Hrp hv) (Hca hv) (Hwy hv) (Hla hv) (Hmi hv) (Htf hv) (Htk hv), aV d ha 1 (HHO hv), aV d ha 2 (HAT hv), aV d ha 3 (HTO hv), aV d ha 4 (HWE hv), aV d ha 5 (HHE hv), aV d ha 6 (HRA hv), (tra, .inr (4, [.ref tba, .int q1.1])), (tba, .inl (d 0, tn, .inl q1.2))] H locs := hw
  refine lv_aload_n hx hb dX4_size_6 rfl (lv_at hl 0 rfl) ?_
  refine lv_aload_n hx hb dX4_size_7 rfl (lv_at hl 1 rfl) ?_
  refine lv_aload_n hx hb dX4_size_8 rfl (lv_at hl 2 rfl) ?_
  obtain ⟨q2, hcq2, hf⟩ := op_e hf
  refine x_PIW (n := 2) (wr := []) (rest := []) (C := "DishLift$Hot") [.ref tra, .ref (ha 0)] hX cx hw hl.1 (hK.1 5 _ rfl).2 (mX3_size_X4 l D d cs wi ln lf dk dn him ha tra tba tn hv q1.1 q1.2 a hk q2 hcq2) (lw_SU q1165 q1150 q261 q1149 q88 q1159) ⟨by decide +kernel, by decide +kernel⟩ ⟨(Nat.le_of_ble_eq_true rfl), (Nat.le_of_ble_eq_true rfl)⟩ (dish_recv hXs hK hw (him.2 a 0 hk).2 rfl) rfl rfl (Nat.le_of_ble_eq_true rfl) dX4_size_9 [0, 1, 2, 3, 4, 5, 6, 7, 8] [] rfl rfl rfl rfl (by decide) ⟨(Nat.le_of_ble_eq_true rfl), (Nat.le_of_ble_eq_true rfl)⟩ (fun r u H locs hp hw => ?_)
  have hw : Wd D A s [oH ha (Hfl hv) (Hro hv) (Hrp hv) (Hca hv) (Hwy hv) (Hla hv) (Hmi hv) (Htf hv) (Htk hv), aV d ha 1 (HHO hv), aV d ha 2 (HAT hv), aV d ha 3 (HTO hv), aV d ha 4 (HWE hv), aV d ha 5 (HHE hv), aV d ha 6 (HRA hv), (tra, .inr (4, [.ref tba, .int q2.2.1])), (tba, .inl (d 0, tn, .inl q2.2.2))] H locs := hw
  subst r
  refine lv_aload_n hx hb dX4_size_12 rfl (lv_at hl 0 rfl) ?_
  refine lv_aload_n hx hb dX4_size_13 rfl (lv_at hl 1 rfl) ?_
  refine lv_aload_n hx hb dX4_size_14 rfl (lv_at hl 2 rfl) ?_
  obtain ⟨q3, hcq3, hf⟩ := op_e hf
  refine x_UIW (n := 2) (x := ⟨"DishLift$Hot", "mark", "(LDishLift$Trail;LDishLift$House;)I"⟩) (owner := "DishLift$Hot") (C := "DishLift$Hot") (wr := []) (rest := [.int q2.1]) [.ref tra, .ref (ha 0)] hX cx hw hl.1 (mX4_mark_X4 l D d cs wi ln lf dk dn him ha tra tba tn hv q2.2.1 q2.2.2 a hk q3 hcq3) (va_cwU 2 hts (lw_U q1166 q1169 q1168 q1167 q89 q1175) rfl rfl rfl rfl ⟨by decide, by decide, by decide +kernel⟩ ⟨(Nat.le_of_ble_eq_true rfl), (Nat.le_of_ble_eq_true rfl)⟩) (dish_recv hXs hK hw (him.2 a 0 hk).2 rfl) rfl rfl (Nat.le_of_ble_eq_true rfl) dX4_size_15 [0, 1, 2, 3, 4, 5, 6, 7, 8] [] rfl rfl rfl rfl (by decide) ⟨(Nat.le_of_ble_eq_true rfl), (Nat.le_of_ble_eq_true rfl)⟩ (fun r u H locs hp hw => ?_)
  have hw : Wd D A s [oH ha (Hfl hv) (Hro hv) (Hrp hv) (Hca hv) (Hwy hv) (Hla hv) (Hmi hv) (Htf hv) (Htk hv), aV d ha 1 (HHO hv), aV d ha 2 (HAT hv), aV d ha 3 (HTO hv), aV d ha 4 (HWE hv), aV d ha 5 (HHE hv), aV d ha 6 (HRA hv), (tra, .inr (4, [.ref tba, .int q3.2.1])), (tba, .inl (d 0, tn, .inl q3.2.2))] H locs := hw
  subst r
  refine lv_iadd hx hb dX4_size_18 ?_
  have hf := sm_e hf
  subst hf
  exact x_retI cx hw rfl () rfl [0, 1, 2, 3, 4, 5, 6, 7, 8] rfl rfl (Nat.le_of_ble_eq_true rfl) (Nat.le_of_ble_eq_true rfl) dX4_size_19
set_option maxHeartbeats 4000000 in
theorem mX4_size_X5 (l : Launch) (D : va_G) (d : Nat → ClassId) (cs : Nat → Nat) (wi : va_W) (ln : Nat → Option Int32) (lf : Nat → Nat → Option Nat) (dk : Nat → Option Nat) (dn : Nat → Int32) (him : ImF d wi ln lf dk dn) (ha : Nat → Nat) (tra : Nat) (tba : Nat) (tn : Nat) (hv : HV) (tm : Int32) (TB : Nat → Int32) (a : Nat) (hk : dk a = some 1) (res : Int32 × Int32 × (Nat → Int32)) (hf : fX4_size_X5 dn tn hv tm TB a = some res) : MetI l yX4_size (ws_ yX4_size cX4_size 3 (some .int)) { frames := 4, cells := 0, slots := 0, locals := 87 } [.ref a, .ref tra, .ref (ha 0)] (XI D cs wi) D d [oH ha (Hfl hv) (Hro hv) (Hrp hv) (Hca hv) (Hwy hv) (Hla hv) (Hmi hv) (Htf hv) (Htk hv), aV d ha 1 (HHO hv), aV d ha 2 (HAT hv), aV d ha 3 (HTO hv), aV d ha 4 (HWE hv), aV d ha 5 (HHE hv), aV d ha 6 (HRA hv), (tra, .inr (4, [.ref tba, .int tm])), (tba, .inl (d 0, tn, .inl TB))] (fun r (_ : Unit) => r = res.1) (fun _ => [oH ha (Hfl hv) (Hro hv) (Hrp hv) (Hca hv) (Hwy hv) (Hla hv) (Hmi hv) (Htf hv) (Htk hv), aV d ha 1 (HHO hv), aV d ha 2 (HAT hv), aV d ha 3 (HTO hv), aV d ha 4 (HWE hv), aV d ha 5 (HHE hv), aV d ha 6 (HRA hv), (tra, .inr (4, [.ref tba, .int res.2.1])), (tba, .inl (d 0, tn, .inl res.2.2))]) := by
  have hX := XI.ok (D := D) (cs := cs) (wi := wi)
  refine MetI.of (by decide +kernel) (Nat.le_of_ble_eq_true rfl) ?_
  intro p e s m below meth c A cx hw ls hl
  have cx : Cx p s m _ meth c (XI D cs wi) D d A "DishLift$Hot" cX4_size 3 (some .int) "size" := cx
  have cx' := cx
  obtain ⟨hx, hb, hr, hlk, hml, hown, hts, hK, hA, hXs, hnm⟩ := cx'
  have hl : lv_has ls 3 [(0, .ref a), (1, .ref tra), (2, .ref (ha 0))] := hl
  generalize hlo : ([] : List Loc) = locs at hw ⊢
  unfold fX4_size_X5 at hf
  refine lv_aload_n hx hb dX4_size_0 rfl (lv_at hl 1 rfl) ?_
  refine lv_bipush (v := 11) hx hb dX4_size_1 (by decide) ?_
  obtain ⟨q1, hcq1, hf⟩ := op_e hf
  refine x_VV (wr := [oH ha (Hfl hv) (Hro hv) (Hrp hv) (Hca hv) (Hwy hv) (Hla hv) (Hmi hv) (Htf hv) (Htk hv), aV d ha 1 (HHO hv), aV d ha 2 (HAT hv), aV d ha 3 (HTO hv), aV d ha 4 (HWE hv), aV d ha 5 (HHE hv), aV d ha 6 (HRA hv)]) (rest := []) [.int 11] hX cx hw hl.1 (mX2_begins l  D d cs wi ln lf dk dn him tra tba tn tm TB 11  q1 hcq1) (lw_V q1164 q1155 q1156 q87 q1157) hd_X2_begins ⟨(Nat.le_of_ble_eq_true rfl), (Nat.le_of_ble_eq_true rfl)⟩ (va_recv hK hw.1 (ci := 4) (q0 := 7) rfl rfl) rfl rfl (Nat.le_of_ble_eq_true rfl) dX4_size_3 [7, 8] [0, 1, 2, 3, 4, 5, 6] rfl rfl rfl rfl (by decide) ⟨(Nat.le_of_ble_eq_true rfl), (Nat.le_of_ble_eq_true rfl)⟩ (fun u H locs hp hw => ?_)
  have hw : Wd D A s [oH ha (Hfl hv) (Hro hv) (Hrp hv) (Hca hv) (Hwy hv) (Hla hv) (Hmi hv) (Htf hv) (Htk hv), aV d ha 1 (HHO hv), aV d ha 2 (HAT hv), aV d ha 3 (HTO hv), aV d ha 4 (HWE hv), aV d ha 5 (HHE hv), aV d ha 6 (HRA hv), (tra, .inr (4, [.ref tba, .int q1.1])), (tba, .inl (d 0, tn, .inl q1.2))] H locs := hw
  refine lv_aload_n hx hb dX4_size_6 rfl (lv_at hl 0 rfl) ?_
  refine lv_aload_n hx hb dX4_size_7 rfl (lv_at hl 1 rfl) ?_
  refine lv_aload_n hx hb dX4_size_8 rfl (lv_at hl 2 rfl) ?_
  obtain ⟨q2, hcq2, hf⟩ := op_e hf
  refine x_PIW (n := 2) (wr := []) (rest := []) (C := "DishLift$Soup") [.ref tra, .ref (ha 0)] hX cx hw hl.1 (hK.1 6 _ rfl).2 (mX3_size_X5 l D d cs wi ln lf dk dn him ha tra tba tn hv q1.1 q1.2 a hk q2 hcq2) (lw_SU q1165 q1150 q261 q1149 q88 q1159) ⟨by decide +kernel, by decide +kernel⟩ ⟨(Nat.le_of_ble_eq_true rfl), (Nat.le_of_ble_eq_true rfl)⟩ (dish_recv hXs hK hw (him.2 a 1 hk).2 rfl) rfl rfl (Nat.le_of_ble_eq_true rfl) dX4_size_9 [0, 1, 2, 3, 4, 5, 6, 7, 8] [] rfl rfl rfl rfl (by decide) ⟨(Nat.le_of_ble_eq_true rfl), (Nat.le_of_ble_eq_true rfl)⟩ (fun r u H locs hp hw => ?_)
  have hw : Wd D A s [oH ha (Hfl hv) (Hro hv) (Hrp hv) (Hca hv) (Hwy hv) (Hla hv) (Hmi hv) (Htf hv) (Htk hv), aV d ha 1 (HHO hv), aV d ha 2 (HAT hv), aV d ha 3 (HTO hv), aV d ha 4 (HWE hv), aV d ha 5 (HHE hv), aV d ha 6 (HRA hv), (tra, .inr (4, [.ref tba, .int q2.2.1])), (tba, .inl (d 0, tn, .inl q2.2.2))] H locs := hw
  subst r
  refine lv_aload_n hx hb dX4_size_12 rfl (lv_at hl 0 rfl) ?_
  refine lv_aload_n hx hb dX4_size_13 rfl (lv_at hl 1 rfl) ?_
  refine lv_aload_n hx hb dX4_size_14 rfl (lv_at hl 2 rfl) ?_
  obtain ⟨q3, hcq3, hf⟩ := op_e hf
  refine x_UIW (n := 2) (x := ⟨"DishLift$Hot", "mark", "(LDishLift$Trail;LDishLift$House;)I"⟩) (owner := "DishLift$Hot") (C := "DishLift$Soup") (wr := []) (rest := [.int q2.1]) [.ref tra, .ref (ha 0)] hX cx hw hl.1 (mX5_mark_X5 l D d cs wi ln lf dk dn him ha tra tba tn hv q2.2.1 q2.2.2 a hk q3 hcq3) (va_cwO 2 hts (lw_O q1166 q1169 q1167 q1207 q1208 q90 q1209) rfl rfl rfl q1175 ⟨by decide, by decide, by decide +kernel⟩ ⟨(Nat.le_of_ble_eq_true rfl), (Nat.le_of_ble_eq_true rfl)⟩) (dish_recv hXs hK hw (him.2 a 1 hk).2 rfl) rfl rfl (Nat.le_of_ble_eq_true rfl) dX4_size_15 [0, 1, 2, 3, 4, 5, 6, 7, 8] [] rfl rfl rfl rfl (by decide) ⟨(Nat.le_of_ble_eq_true rfl), (Nat.le_of_ble_eq_true rfl)⟩ (fun r u H locs hp hw => ?_)
  have hw : Wd D A s [oH ha (Hfl hv) (Hro hv) (Hrp hv) (Hca hv) (Hwy hv) (Hla hv) (Hmi hv) (Htf hv) (Htk hv), aV d ha 1 (HHO hv), aV d ha 2 (HAT hv), aV d ha 3 (HTO hv), aV d ha 4 (HWE hv), aV d ha 5 (HHE hv), aV d ha 6 (HRA hv), (tra, .inr (4, [.ref tba, .int q3.2.1])), (tba, .inl (d 0, tn, .inl q3.2.2))] H locs := hw
  subst r
  refine lv_iadd hx hb dX4_size_18 ?_
  have hf := sm_e hf
  subst hf
  exact x_retI cx hw rfl () rfl [0, 1, 2, 3, 4, 5, 6, 7, 8] rfl rfl (Nat.le_of_ble_eq_true rfl) (Nat.le_of_ble_eq_true rfl) dX4_size_19
set_option maxHeartbeats 4000000 in
theorem mX4_size_X6 (l : Launch) (D : va_G) (d : Nat → ClassId) (cs : Nat → Nat) (wi : va_W) (ln : Nat → Option Int32) (lf : Nat → Nat → Option Nat) (dk : Nat → Option Nat) (dn : Nat → Int32) (him : ImF d wi ln lf dk dn) (ha : Nat → Nat) (tra : Nat) (tba : Nat) (tn : Nat) (hv : HV) (tm : Int32) (TB : Nat → Int32) (a : Nat) (hk : dk a = some 2) (res : Int32 × Int32 × (Nat → Int32)) (hf : fX4_size_X6 dn tn hv tm TB a = some res) : MetI l yX4_size (ws_ yX4_size cX4_size 3 (some .int)) { frames := 4, cells := 0, slots := 0, locals := 87 } [.ref a, .ref tra, .ref (ha 0)] (XI D cs wi) D d [oH ha (Hfl hv) (Hro hv) (Hrp hv) (Hca hv) (Hwy hv) (Hla hv) (Hmi hv) (Htf hv) (Htk hv), aV d ha 1 (HHO hv), aV d ha 2 (HAT hv), aV d ha 3 (HTO hv), aV d ha 4 (HWE hv), aV d ha 5 (HHE hv), aV d ha 6 (HRA hv), (tra, .inr (4, [.ref tba, .int tm])), (tba, .inl (d 0, tn, .inl TB))] (fun r (_ : Unit) => r = res.1) (fun _ => [oH ha (Hfl hv) (Hro hv) (Hrp hv) (Hca hv) (Hwy hv) (Hla hv) (Hmi hv) (Htf hv) (Htk hv), aV d ha 1 (HHO hv), aV d ha 2 (HAT hv), aV d ha 3 (HTO hv), aV d ha 4 (HWE hv), aV d ha 5 (HHE hv), aV d ha 6 (HRA hv), (tra, .inr (4, [.ref tba, .int res.2.1])), (tba, .inl (d 0, tn, .inl res.2.2))]) := by
  have hX := XI.ok (D := D) (cs := cs) (wi := wi)
  refine MetI.of (by decide +kernel) (Nat.le_of_ble_eq_true rfl) ?_
  intro p e s m below meth c A cx hw ls hl
  have cx : Cx p s m _ meth c (XI D cs wi) D d A "DishLift$Hot" cX4_size 3 (some .int) "size" := cx
  have cx' := cx
  obtain ⟨hx, hb, hr, hlk, hml, hown, hts, hK, hA, hXs, hnm⟩ := cx'
  have hl : lv_has ls 3 [(0, .ref a), (1, .ref tra), (2, .ref (ha 0))] := hl
  generalize hlo : ([] : List Loc) = locs at hw ⊢
  unfold fX4_size_X6 at hf
  refine lv_aload_n hx hb dX4_size_0 rfl (lv_at hl 1 rfl) ?_
  refine lv_bipush (v := 11) hx hb dX4_size_1 (by decide) ?_
  obtain ⟨q1, hcq1, hf⟩ := op_e hf
  refine x_VV (wr := [oH ha (Hfl hv) (Hro hv) (Hrp hv) (Hca hv) (Hwy hv) (Hla hv) (Hmi hv) (Htf hv) (Htk hv), aV d ha 1 (HHO hv), aV d ha 2 (HAT hv), aV d ha 3 (HTO hv), aV d ha 4 (HWE hv), aV d ha 5 (HHE hv), aV d ha 6 (HRA hv)]) (rest := []) [.int 11] hX cx hw hl.1 (mX2_begins l  D d cs wi ln lf dk dn him tra tba tn tm TB 11  q1 hcq1) (lw_V q1164 q1155 q1156 q87 q1157) hd_X2_begins ⟨(Nat.le_of_ble_eq_true rfl), (Nat.le_of_ble_eq_true rfl)⟩ (va_recv hK hw.1 (ci := 4) (q0 := 7) rfl rfl) rfl rfl (Nat.le_of_ble_eq_true rfl) dX4_size_3 [7, 8] [0, 1, 2, 3, 4, 5, 6] rfl rfl rfl rfl (by decide) ⟨(Nat.le_of_ble_eq_true rfl), (Nat.le_of_ble_eq_true rfl)⟩ (fun u H locs hp hw => ?_)
  have hw : Wd D A s [oH ha (Hfl hv) (Hro hv) (Hrp hv) (Hca hv) (Hwy hv) (Hla hv) (Hmi hv) (Htf hv) (Htk hv), aV d ha 1 (HHO hv), aV d ha 2 (HAT hv), aV d ha 3 (HTO hv), aV d ha 4 (HWE hv), aV d ha 5 (HHE hv), aV d ha 6 (HRA hv), (tra, .inr (4, [.ref tba, .int q1.1])), (tba, .inl (d 0, tn, .inl q1.2))] H locs := hw
  refine lv_aload_n hx hb dX4_size_6 rfl (lv_at hl 0 rfl) ?_
  refine lv_aload_n hx hb dX4_size_7 rfl (lv_at hl 1 rfl) ?_
  refine lv_aload_n hx hb dX4_size_8 rfl (lv_at hl 2 rfl) ?_
  obtain ⟨q2, hcq2, hf⟩ := op_e hf
  refine x_PIW (n := 2) (wr := []) (rest := []) (C := "DishLift$Roast") [.ref tra, .ref (ha 0)] hX cx hw hl.1 (hK.1 7 _ rfl).2 (mX3_size_X6 l D d cs wi ln lf dk dn him ha tra tba tn hv q1.1 q1.2 a hk q2 hcq2) (lw_SU q1165 q1150 q261 q1149 q88 q1159) ⟨by decide +kernel, by decide +kernel⟩ ⟨(Nat.le_of_ble_eq_true rfl), (Nat.le_of_ble_eq_true rfl)⟩ (dish_recv hXs hK hw (him.2 a 2 hk).2 rfl) rfl rfl (Nat.le_of_ble_eq_true rfl) dX4_size_9 [0, 1, 2, 3, 4, 5, 6, 7, 8] [] rfl rfl rfl rfl (by decide) ⟨(Nat.le_of_ble_eq_true rfl), (Nat.le_of_ble_eq_true rfl)⟩ (fun r u H locs hp hw => ?_)
  have hw : Wd D A s [oH ha (Hfl hv) (Hro hv) (Hrp hv) (Hca hv) (Hwy hv) (Hla hv) (Hmi hv) (Htf hv) (Htk hv), aV d ha 1 (HHO hv), aV d ha 2 (HAT hv), aV d ha 3 (HTO hv), aV d ha 4 (HWE hv), aV d ha 5 (HHE hv), aV d ha 6 (HRA hv), (tra, .inr (4, [.ref tba, .int q2.2.1])), (tba, .inl (d 0, tn, .inl q2.2.2))] H locs := hw
  subst r
  refine lv_aload_n hx hb dX4_size_12 rfl (lv_at hl 0 rfl) ?_
  refine lv_aload_n hx hb dX4_size_13 rfl (lv_at hl 1 rfl) ?_
  refine lv_aload_n hx hb dX4_size_14 rfl (lv_at hl 2 rfl) ?_
  obtain ⟨q3, hcq3, hf⟩ := op_e hf
  refine x_UIW (n := 2) (x := ⟨"DishLift$Hot", "mark", "(LDishLift$Trail;LDishLift$House;)I"⟩) (owner := "DishLift$Hot") (C := "DishLift$Roast") (wr := []) (rest := [.int q2.1]) [.ref tra, .ref (ha 0)] hX cx hw hl.1 (mX6_mark_X6 l D d cs wi ln lf dk dn him ha tra tba tn hv q2.2.1 q2.2.2 a hk q3 hcq3) (va_cwO 2 hts (lw_O q1166 q1169 q1167 q1170 q1171 q91 q1172) rfl rfl rfl q1175 ⟨by decide, by decide, by decide +kernel⟩ ⟨(Nat.le_of_ble_eq_true rfl), (Nat.le_of_ble_eq_true rfl)⟩) (dish_recv hXs hK hw (him.2 a 2 hk).2 rfl) rfl rfl (Nat.le_of_ble_eq_true rfl) dX4_size_15 [0, 1, 2, 3, 4, 5, 6, 7, 8] [] rfl rfl rfl rfl (by decide) ⟨(Nat.le_of_ble_eq_true rfl), (Nat.le_of_ble_eq_true rfl)⟩ (fun r u H locs hp hw => ?_)
  have hw : Wd D A s [oH ha (Hfl hv) (Hro hv) (Hrp hv) (Hca hv) (Hwy hv) (Hla hv) (Hmi hv) (Htf hv) (Htk hv), aV d ha 1 (HHO hv), aV d ha 2 (HAT hv), aV d ha 3 (HTO hv), aV d ha 4 (HWE hv), aV d ha 5 (HHE hv), aV d ha 6 (HRA hv), (tra, .inr (4, [.ref tba, .int q3.2.1])), (tba, .inl (d 0, tn, .inl q3.2.2))] H locs := hw
  subst r
  refine lv_iadd hx hb dX4_size_18 ?_
  have hf := sm_e hf
  subst hf
  exact x_retI cx hw rfl () rfl [0, 1, 2, 3, 4, 5, 6, 7, 8] rfl rfl (Nat.le_of_ble_eq_true rfl) (Nat.le_of_ble_eq_true rfl) dX4_size_19
theorem hd_X5_size : yX5_size.cls = "DishLift$Soup" ∧ yX5_size.cls ≠ "java/lang/invoke/MethodHandle" ∧ yX5_size.cls ≠ "java/lang/invoke/VarHandle" ∧ (parseMethodDescriptor yX5_size.desc).map (fun d => d.parameters.length) = some 2 := by decide +kernel
set_option maxHeartbeats 4000000 in
theorem mX5_size_X5 (l : Launch) (D : va_G) (d : Nat → ClassId) (cs : Nat → Nat) (wi : va_W) (ln : Nat → Option Int32) (lf : Nat → Nat → Option Nat) (dk : Nat → Option Nat) (dn : Nat → Int32) (him : ImF d wi ln lf dk dn) (ha : Nat → Nat) (tra : Nat) (tba : Nat) (tn : Nat) (hv : HV) (tm : Int32) (TB : Nat → Int32) (a : Nat) (hk : dk a = some 1) (res : Int32 × Int32 × (Nat → Int32)) (hf : fX5_size_X5 dn tn hv tm TB a = some res) : MetI l yX5_size (ws_ yX5_size cX5_size 3 (some .int)) { frames := 5, cells := 0, slots := 0, locals := 109 } [.ref a, .ref tra, .ref (ha 0)] (XI D cs wi) D d [oH ha (Hfl hv) (Hro hv) (Hrp hv) (Hca hv) (Hwy hv) (Hla hv) (Hmi hv) (Htf hv) (Htk hv), aV d ha 1 (HHO hv), aV d ha 2 (HAT hv), aV d ha 3 (HTO hv), aV d ha 4 (HWE hv), aV d ha 5 (HHE hv), aV d ha 6 (HRA hv), (tra, .inr (4, [.ref tba, .int tm])), (tba, .inl (d 0, tn, .inl TB))] (fun r (_ : Unit) => r = res.1) (fun _ => [oH ha (Hfl hv) (Hro hv) (Hrp hv) (Hca hv) (Hwy hv) (Hla hv) (Hmi hv) (Htf hv) (Htk hv), aV d ha 1 (HHO hv), aV d ha 2 (HAT hv), aV d ha 3 (HTO hv), aV d ha 4 (HWE hv), aV d ha 5 (HHE hv), aV d ha 6 (HRA hv), (tra, .inr (4, [.ref tba, .int res.2.1])), (tba, .inl (d 0, tn, .inl res.2.2))]) := by
  have hX := XI.ok (D := D) (cs := cs) (wi := wi)
  refine MetI.of (by decide +kernel) (Nat.le_of_ble_eq_true rfl) ?_
  intro p e s m below meth c A cx hw ls hl
  have cx : Cx p s m _ meth c (XI D cs wi) D d A "DishLift$Soup" cX5_size 3 (some .int) "size" := cx
  have cx' := cx
  obtain ⟨hx, hb, hr, hlk, hml, hown, hts, hK, hA, hXs, hnm⟩ := cx'
  have hl : lv_has ls 3 [(0, .ref a), (1, .ref tra), (2, .ref (ha 0))] := hl
  generalize hlo : ([] : List Loc) = locs at hw ⊢
  unfold fX5_size_X5 at hf
  refine lv_aload_n hx hb dX5_size_0 rfl (lv_at hl 1 rfl) ?_
  refine lv_bipush (v := 12) hx hb dX5_size_1 (by decide) ?_
  obtain ⟨q1, hcq1, hf⟩ := op_e hf
  refine x_VV (wr := [oH ha (Hfl hv) (Hro hv) (Hrp hv) (Hca hv) (Hwy hv) (Hla hv) (Hmi hv) (Htf hv) (Htk hv), aV d ha 1 (HHO hv), aV d ha 2 (HAT hv), aV d ha 3 (HTO hv), aV d ha 4 (HWE hv), aV d ha 5 (HHE hv), aV d ha 6 (HRA hv)]) (rest := []) [.int 12] hX cx hw hl.1 (mX2_begins l  D d cs wi ln lf dk dn him tra tba tn tm TB 12  q1 hcq1) (lw_V q1210 q1155 q1156 q87 q1157) hd_X2_begins ⟨(Nat.le_of_ble_eq_true rfl), (Nat.le_of_ble_eq_true rfl)⟩ (va_recv hK hw.1 (ci := 4) (q0 := 7) rfl rfl) rfl rfl (Nat.le_of_ble_eq_true rfl) dX5_size_3 [7, 8] [0, 1, 2, 3, 4, 5, 6] rfl rfl rfl rfl (by decide) ⟨(Nat.le_of_ble_eq_true rfl), (Nat.le_of_ble_eq_true rfl)⟩ (fun u H locs hp hw => ?_)
  have hw : Wd D A s [oH ha (Hfl hv) (Hro hv) (Hrp hv) (Hca hv) (Hwy hv) (Hla hv) (Hmi hv) (Htf hv) (Htk hv), aV d ha 1 (HHO hv), aV d ha 2 (HAT hv), aV d ha 3 (HTO hv), aV d ha 4 (HWE hv), aV d ha 5 (HHE hv), aV d ha 6 (HRA hv), (tra, .inr (4, [.ref tba, .int q1.1])), (tba, .inl (d 0, tn, .inl q1.2))] H locs := hw
  refine lv_aload_n hx hb dX5_size_6 rfl (lv_at hl 0 rfl) ?_
  refine lv_aload_n hx hb dX5_size_7 rfl (lv_at hl 1 rfl) ?_
  refine lv_aload_n hx hb dX5_size_8 rfl (lv_at hl 2 rfl) ?_
  obtain ⟨q2, hcq2, hf⟩ := op_e hf
  refine x_PIW (n := 2) (wr := []) (rest := []) (C := "DishLift$Soup") [.ref tra, .ref (ha 0)] hX cx hw hl.1 (hK.1 6 _ rfl).2 (mX4_size_X5 l D d cs wi ln lf dk dn him ha tra tba tn hv q1.1 q1.2 a hk q2 hcq2) (lw_SU q1221 q1686 q269 q1162 q89 q1163) ⟨by decide +kernel, by decide +kernel⟩ ⟨(Nat.le_of_ble_eq_true rfl), (Nat.le_of_ble_eq_true rfl)⟩ (dish_recv hXs hK hw (him.2 a 1 hk).2 rfl) rfl rfl (Nat.le_of_ble_eq_true rfl) dX5_size_9 [0, 1, 2, 3, 4, 5, 6, 7, 8] [] rfl rfl rfl rfl (by decide) ⟨(Nat.le_of_ble_eq_true rfl), (Nat.le_of_ble_eq_true rfl)⟩ (fun r u H locs hp hw => ?_)
  have hw : Wd D A s [oH ha (Hfl hv) (Hro hv) (Hrp hv) (Hca hv) (Hwy hv) (Hla hv) (Hmi hv) (Htf hv) (Htk hv), aV d ha 1 (HHO hv), aV d ha 2 (HAT hv), aV d ha 3 (HTO hv), aV d ha 4 (HWE hv), aV d ha 5 (HHE hv), aV d ha 6 (HRA hv), (tra, .inr (4, [.ref tba, .int q2.2.1])), (tba, .inl (d 0, tn, .inl q2.2.2))] H locs := hw
  subst r
  refine lv_ineg hx hb dX5_size_12 ?_
  have hf := sm_e hf
  subst hf
  exact x_retI cx hw rfl () rfl [0, 1, 2, 3, 4, 5, 6, 7, 8] rfl rfl (Nat.le_of_ble_eq_true rfl) (Nat.le_of_ble_eq_true rfl) dX5_size_13
