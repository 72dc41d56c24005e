set_option maxRecDepth 100000
def fX3_size_X4 (dn : Nat → Int32) (tn : Nat) (hv : HV) (tm : Int32) (TB : Nat → Int32) (a : Nat) : Option (Int32 × Int32 × (Nat → Int32)) :=
  (fX2_begins tn tm TB 10).bind fun q1 =>
  (rd (HWE hv) 6 (dn a)).bind fun v2 =>
  some (v2, q1.1, q1.2)
def fX3_size_X5 (dn : Nat → Int32) (tn : Nat) (hv : HV) (tm : Int32) (TB : Nat → Int32) (a : Nat) : Option (Int32 × Int32 × (Nat → Int32)) :=
  (fX2_begins tn tm TB 10).bind fun q1 =>
  (rd (HWE hv) 6 (dn a)).bind fun v2 =>
  some (v2, q1.1, q1.2)
def fX3_size_X6 (dn : Nat → Int32) (tn : Nat) (hv : HV) (tm : Int32) (TB : Nat → Int32) (a : Nat) : Option (Int32 × Int32 × (Nat → Int32)) :=
  (fX2_begins tn tm TB 10).bind fun q1 =>
  (rd (HWE hv) 6 (dn a)).bind fun v2 =>
  some (v2, q1.1, q1.2)
def fX3_size_X7 (dn : Nat → Int32) (tn : Nat) (hv : HV) (tm : Int32) (TB : Nat → Int32) (a : Nat) : Option (Int32 × Int32 × (Nat → Int32)) :=
  (fX2_begins tn tm TB 10).bind fun q1 =>
  (rd (HWE hv) 6 (dn a)).bind fun v2 =>
  some (v2, q1.1, q1.2)
def fX3_size_X8 (dn : Nat → Int32) (tn : Nat) (hv : HV) (tm : Int32) (TB : Nat → Int32) (a : Nat) : Option (Int32 × Int32 × (Nat → Int32)) :=
  (fX2_begins tn tm TB 10).bind fun q1 =>
  (rd (HWE hv) 6 (dn a)).bind fun v2 =>
  some (v2, q1.1, q1.2)
def fX7_size_X7 (dn : Nat → Int32) (tn : Nat) (hv : HV) (tm : Int32) (TB : Nat → Int32) (a : Nat) : Option (Int32 × Int32 × (Nat → Int32)) :=
  (fX2_begins tn tm TB 13).bind fun q1 =>
  (fX3_size_X7 dn tn hv q1.1 q1.2 a).bind fun q2 =>
  some ((q2.1 - 100), q2.2.1, q2.2.2)
def fX7_size_X8 (dn : Nat → Int32) (tn : Nat) (hv : HV) (tm : Int32) (TB : Nat → Int32) (a : Nat) : Option (Int32 × Int32 × (Nat → Int32)) :=
  (fX2_begins tn tm TB 13).bind fun q1 =>
  (fX3_size_X8 dn tn hv q1.1 q1.2 a).bind fun q2 =>
  some ((q2.1 - 100), q2.2.1, q2.2.2)
def fX8_size_X8 (dn : Nat → Int32) (tn : Nat) (hv : HV) (tm : Int32) (TB : Nat → Int32) (a : Nat) : Option (Int32 × Int32 × (Nat → Int32)) :=
  (fX2_begins tn tm TB 14).bind fun q1 =>
  (fX7_size_X8 dn tn hv q1.1 q1.2 a).bind fun q2 =>
  some ((2 * q2.1), q2.2.1, q2.2.2)
theorem hd_X3_size : yX3_size.cls = "DishLift$Dish" ∧ yX3_size.cls ≠ "java/lang/invoke/MethodHandle" ∧ yX3_size.cls ≠ "java/lang/invoke/VarHandle" ∧ (parseMethodDescriptor yX3_size.desc).map (fun d => d.parameters.length) = some 2 := by decide +kernel
set_option maxHeartbeats 4000000 in
theorem mX3_size_X4 (l : Launch) (D : va_G) (d : Nat → ClassId) (cs : Nat → Nat) (wi : va_W) (ln : Nat → Option Int32) (lf : Nat → Nat → Option Nat) (dk : Nat → Option Nat) (dn : Nat → Int32) (him : ImF d wi ln lf dk dn) (ha : Nat → Nat) (tra : Nat) (tba : Nat) (tn : Nat) (hv : HV) (tm : Int32) (TB : Nat → Int32) (a : Nat) (hk : dk a = some 0) (res : Int32 × Int32 × (Nat → Int32)) (hf : fX3_size_X4 dn tn hv tm TB a = some res) : MetI l yX3_size (ws_ yX3_size cX3_size 3 (some .int)) { frames := 1, cells := 0, slots := 0, locals := 21 } [.ref a, .ref tra, .ref (ha 0)] (XI D cs wi) D d [oH ha (Hfl hv) (Hro hv) (Hrp hv) (Hca hv) (Hwy hv) (Hla hv) (Hmi hv) (Htf hv) (Htk hv), aV d ha 1 (HHO hv), aV d ha 2 (HAT hv), aV d ha 3 (HTO hv), aV d ha 4 (HWE hv), aV d ha 5 (HHE hv), aV d ha 6 (HRA hv), (tra, .inr (4, [.ref tba, .int tm])), (tba, .inl (d 0, tn, .inl TB))] (fun r (_ : Unit) => r = res.1) (fun _ => [oH ha (Hfl hv) (Hro hv) (Hrp hv) (Hca hv) (Hwy hv) (Hla hv) (Hmi hv) (Htf hv) (Htk hv), aV d ha 1 (HHO hv), aV d ha 2 (HAT hv), aV d ha 3 (HTO hv), aV d ha 4 (HWE hv), aV d ha 5 (HHE hv), aV d ha 6 (HRA hv), (tra, .inr (4, [.ref tba, .int res.2.1])), (tba, .inl (d 0, tn, .inl res.2.2))]) := by
  have hX := XI.ok (D := D) (cs := cs) (wi := wi)
  refine MetI.of (by decide +kernel) (Nat.le_of_ble_eq_true rfl) ?_
  intro p e s m below meth c A cx hw ls hl
  have cx : Cx p s m _ meth c (XI D cs wi) D d A "DishLift$Dish" cX3_size 3 (some .int) "size" := cx
  have cx' := cx
  obtain ⟨hx, hb, hr, hlk, hml, hown, hts, hK, hA, hXs, hnm⟩ := cx'
  have hl : lv_has ls 3 [(0, .ref a), (1, .ref tra), (2, .ref (ha 0))] := hl
  generalize hlo : ([] : List Loc) = locs at hw ⊢
  unfold fX3_size_X4 at hf
  refine lv_aload_n hx hb dX3_size_0 rfl (lv_at hl 1 rfl) ?_
  refine lv_bipush (v := 10) hx hb dX3_size_1 (by decide) ?_
  obtain ⟨q1, hcq1, hf⟩ := op_e hf
  refine x_VV (wr := [oH ha (Hfl hv) (Hro hv) (Hrp hv) (Hca hv) (Hwy hv) (Hla hv) (Hmi hv) (Htf hv) (Htk hv), aV d ha 1 (HHO hv), aV d ha 2 (HAT hv), aV d ha 3 (HTO hv), aV d ha 4 (HWE hv), aV d ha 5 (HHE hv), aV d ha 6 (HRA hv)]) (rest := []) [.int 10] hX cx hw hl.1 (mX2_begins l  D d cs wi ln lf dk dn him tra tba tn tm TB 10  q1 hcq1) (lw_V q1160 q1155 q1156 q87 q1157) hd_X2_begins ⟨(Nat.le_of_ble_eq_true rfl), (Nat.le_of_ble_eq_true rfl)⟩ (va_recv hK hw.1 (ci := 4) (q0 := 7) rfl rfl) rfl rfl (Nat.le_of_ble_eq_true rfl) dX3_size_3 [7, 8] [0, 1, 2, 3, 4, 5, 6] rfl rfl rfl rfl (by decide) ⟨(Nat.le_of_ble_eq_true rfl), (Nat.le_of_ble_eq_true rfl)⟩ (fun u H locs hp hw => ?_)
  have hw : Wd D A s [oH ha (Hfl hv) (Hro hv) (Hrp hv) (Hca hv) (Hwy hv) (Hla hv) (Hmi hv) (Htf hv) (Htk hv), aV d ha 1 (HHO hv), aV d ha 2 (HAT hv), aV d ha 3 (HTO hv), aV d ha 4 (HWE hv), aV d ha 5 (HHE hv), aV d ha 6 (HRA hv), (tra, .inr (4, [.ref tba, .int q1.1])), (tba, .inl (d 0, tn, .inl q1.2))] H locs := hw
  refine lv_aload_n hx hb dX3_size_6 rfl (lv_at hl 2 rfl) ?_
  refine va_get (ci := 2) (C := RX1) (T := TX1) (N := 15) hx hb hts in_X1 hown hK hw.1 0 rfl rfl 9 (by decide) (hts _ q184) (fun _ h9 => h9) rfl dX3_size_7 ?_
  refine lv_aload_n hx hb dX3_size_10 rfl (lv_at hl 0 rfl) ?_
  have hPi := XI.at hXs hw
  obtain ⟨k11, hk11⟩ := List.getElem?_of_mem (him.2 a 0 hk).2
  refine va_get (ci := 5) (C := RX4) (T := TX4) (N := 1) hx hb hts in_X4 hown hK hPi k11 hk11 rfl 0 (by decide) (hts _ q258) (fun _ h9 => h9) rfl dX3_size_11 ?_
  obtain ⟨v2, hrd, hf⟩ := op_e hf
  refine x_iald (q0 := 4) cx hw rfl hrd dX3_size_14 ?_
  have hf := sm_e hf
  subst hf
  exact x_retI cx hw rfl () rfl [0, 1, 2, 3, 4, 5, 6, 7, 8] rfl rfl (Nat.le_of_ble_eq_true rfl) (Nat.le_of_ble_eq_true rfl) dX3_size_15
set_option maxHeartbeats 4000000 in
theorem mX3_size_X5 (l : Launch) (D : va_G) (d : Nat → ClassId) (cs : Nat → Nat) (wi : va_W) (ln : Nat → Option Int32) (lf : Nat → Nat → Option Nat) (dk : Nat → Option Nat) (dn : Nat → Int32) (him : ImF d wi ln lf dk dn) (ha : Nat → Nat) (tra : Nat) (tba : Nat) (tn : Nat) (hv : HV) (tm : Int32) (TB : Nat → Int32) (a : Nat) (hk : dk a = some 1) (res : Int32 × Int32 × (Nat → Int32)) (hf : fX3_size_X5 dn tn hv tm TB a = some res) : MetI l yX3_size (ws_ yX3_size cX3_size 3 (some .int)) { frames := 1, cells := 0, slots := 0, locals := 21 } [.ref a, .ref tra, .ref (ha 0)] (XI D cs wi) D d [oH ha (Hfl hv) (Hro hv) (Hrp hv) (Hca hv) (Hwy hv) (Hla hv) (Hmi hv) (Htf hv) (Htk hv), aV d ha 1 (HHO hv), aV d ha 2 (HAT hv), aV d ha 3 (HTO hv), aV d ha 4 (HWE hv), aV d ha 5 (HHE hv), aV d ha 6 (HRA hv), (tra, .inr (4, [.ref tba, .int tm])), (tba, .inl (d 0, tn, .inl TB))] (fun r (_ : Unit) => r = res.1) (fun _ => [oH ha (Hfl hv) (Hro hv) (Hrp hv) (Hca hv) (Hwy hv) (Hla hv) (Hmi hv) (Htf hv) (Htk hv), aV d ha 1 (HHO hv), aV d ha 2 (HAT hv), aV d ha 3 (HTO hv), aV d ha 4 (HWE hv), aV d ha 5 (HHE hv), aV d ha 6 (HRA hv), (tra, .inr (4, [.ref tba, .int res.2.1])), (tba, .inl (d 0, tn, .inl res.2.2))]) := by
  have hX := XI.ok (D := D) (cs := cs) (wi := wi)
  refine MetI.of (by decide +kernel) (Nat.le_of_ble_eq_true rfl) ?_
  intro p e s m below meth c A cx hw ls hl
  have cx : Cx p s m _ meth c (XI D cs wi) D d A "DishLift$Dish" cX3_size 3 (some .int) "size" := cx
  have cx' := cx
  obtain ⟨hx, hb, hr, hlk, hml, hown, hts, hK, hA, hXs, hnm⟩ := cx'
  have hl : lv_has ls 3 [(0, .ref a), (1, .ref tra), (2, .ref (ha 0))] := hl
  generalize hlo : ([] : List Loc) = locs at hw ⊢
  unfold fX3_size_X5 at hf
  refine lv_aload_n hx hb dX3_size_0 rfl (lv_at hl 1 rfl) ?_
  refine lv_bipush (v := 10) hx hb dX3_size_1 (by decide) ?_
  obtain ⟨q1, hcq1, hf⟩ := op_e hf
  refine x_VV (wr := [oH ha (Hfl hv) (Hro hv) (Hrp hv) (Hca hv) (Hwy hv) (Hla hv) (Hmi hv) (Htf hv) (Htk hv), aV d ha 1 (HHO hv), aV d ha 2 (HAT hv), aV d ha 3 (HTO hv), aV d ha 4 (HWE hv), aV d ha 5 (HHE hv), aV d ha 6 (HRA hv)]) (rest := []) [.int 10] hX cx hw hl.1 (mX2_begins l  D d cs wi ln lf dk dn him tra tba tn tm TB 10  q1 hcq1) (lw_V q1160 q1155 q1156 q87 q1157) hd_X2_begins ⟨(Nat.le_of_ble_eq_true rfl), (Nat.le_of_ble_eq_true rfl)⟩ (va_recv hK hw.1 (ci := 4) (q0 := 7) rfl rfl) rfl rfl (Nat.le_of_ble_eq_true rfl) dX3_size_3 [7, 8] [0, 1, 2, 3, 4, 5, 6] rfl rfl rfl rfl (by decide) ⟨(Nat.le_of_ble_eq_true rfl), (Nat.le_of_ble_eq_true rfl)⟩ (fun u H locs hp hw => ?_)
  have hw : Wd D A s [oH ha (Hfl hv) (Hro hv) (Hrp hv) (Hca hv) (Hwy hv) (Hla hv) (Hmi hv) (Htf hv) (Htk hv), aV d ha 1 (HHO hv), aV d ha 2 (HAT hv), aV d ha 3 (HTO hv), aV d ha 4 (HWE hv), aV d ha 5 (HHE hv), aV d ha 6 (HRA hv), (tra, .inr (4, [.ref tba, .int q1.1])), (tba, .inl (d 0, tn, .inl q1.2))] H locs := hw
  refine lv_aload_n hx hb dX3_size_6 rfl (lv_at hl 2 rfl) ?_
  refine va_get (ci := 2) (C := RX1) (T := TX1) (N := 15) hx hb hts in_X1 hown hK hw.1 0 rfl rfl 9 (by decide) (hts _ q184) (fun _ h9 => h9) rfl dX3_size_7 ?_
  refine lv_aload_n hx hb dX3_size_10 rfl (lv_at hl 0 rfl) ?_
  have hPi := XI.at hXs hw
  obtain ⟨k11, hk11⟩ := List.getElem?_of_mem (him.2 a 1 hk).2
  refine va_get (ci := 6) (C := RX5) (T := TX5) (N := 1) hx hb hts in_X5 hown hK hPi k11 hk11 rfl 0 (by decide) (hts _ q258) (fun _ h9 => h9) rfl dX3_size_11 ?_
  obtain ⟨v2, hrd, hf⟩ := op_e hf
  refine x_iald (q0 := 4) cx hw rfl hrd dX3_size_14 ?_
  have hf := sm_e hf
  subst hf
  exact x_retI cx hw rfl () rfl [0, 1, 2, 3, 4, 5, 6, 7, 8] rfl rfl (Nat.le_of_ble_eq_true rfl) (Nat.le_of_ble_eq_true rfl) dX3_size_15
set_option maxHeartbeats 4000000 in
theorem mX3_size_X6 (l : Launch) (D : va_G) (d : Nat → ClassId) (cs : Nat → Nat) (wi : va_W) (ln : Nat → Option Int32) (lf : Nat → Nat → Option Nat) (dk : Nat → Option Nat) (dn : Nat → Int32) (him : ImF d wi ln lf dk dn) (ha : Nat → Nat) (tra : Nat) (tba : Nat) (tn : Nat) (hv : HV) (tm : Int32) (TB : Nat → Int32) (a : Nat) (hk : dk a = some 2) (res : Int32 × Int32 × (Nat → Int32)) (hf : fX3_size_X6 dn tn hv tm TB a = some res) : MetI l yX3_size (ws_ yX3_size cX3_size 3 (some .int)) { frames := 1, cells := 0, slots := 0, locals := 21 } [.ref a, .ref tra, .ref (ha 0)] (XI D cs wi) D d [oH ha (Hfl hv) (Hro hv) (Hrp hv) (Hca hv) (Hwy hv) (Hla hv) (Hmi hv) (Htf hv) (Htk hv), aV d ha 1 (HHO hv), aV d ha 2 (HAT hv), aV d ha 3 (HTO hv), aV d ha 4 (HWE hv), aV d ha 5 (HHE hv), aV d ha 6 (HRA hv), (tra, .inr (4, [.ref tba, .int tm])), (tba, .inl (d 0, tn, .inl TB))] (fun r (_ : Unit) => r = res.1) (fun _ => [oH ha (Hfl hv) (Hro hv) (Hrp hv) (Hca hv) (Hwy hv) (Hla hv) (Hmi hv) (Htf hv) (Htk hv), aV d ha 1 (HHO hv), aV d ha 2 (HAT hv), aV d ha 3 (HTO hv), aV d ha 4 (HWE hv), aV d ha 5 (HHE hv), aV d ha 6 (HRA hv), (tra, .inr (4, [.ref tba, .int res.2.1])), (tba, .inl (d 0, tn, .inl res.2.2))]) := by
  have hX := XI.ok (D := D) (cs := cs) (wi := wi)
  refine MetI.of (by decide +kernel) (Nat.le_of_ble_eq_true rfl) ?_
  intro p e s m below meth c A cx hw ls hl
  have cx : Cx p s m _ meth c (XI D cs wi) D d A "DishLift$Dish" cX3_size 3 (some .int) "size" := cx
  have cx' := cx
  obtain ⟨hx, hb, hr, hlk, hml, hown, hts, hK, hA, hXs, hnm⟩ := cx'
  have hl : lv_has ls 3 [(0, .ref a), (1, .ref tra), (2, .ref (ha 0))] := hl
  generalize hlo : ([] : List Loc) = locs at hw ⊢
  unfold fX3_size_X6 at hf
  refine lv_aload_n hx hb dX3_size_0 rfl (lv_at hl 1 rfl) ?_
  refine lv_bipush (v := 10) hx hb dX3_size_1 (by decide) ?_
  obtain ⟨q1, hcq1, hf⟩ := op_e hf
  refine x_VV (wr := [oH ha (Hfl hv) (Hro hv) (Hrp hv) (Hca hv) (Hwy hv) (Hla hv) (Hmi hv) (Htf hv) (Htk hv), aV d ha 1 (HHO hv), aV d ha 2 (HAT hv), aV d ha 3 (HTO hv), aV d ha 4 (HWE hv), aV d ha 5 (HHE hv), aV d ha 6 (HRA hv)]) (rest := []) [.int 10] hX cx hw hl.1 (mX2_begins l  D d cs wi ln lf dk dn him tra tba tn tm TB 10  q1 hcq1) (lw_V q1160 q1155 q1156 q87 q1157) hd_X2_begins ⟨(Nat.le_of_ble_eq_true rfl), (Nat.le_of_ble_eq_true rfl)⟩ (va_recv hK hw.1 (ci := 4) (q0 := 7) rfl rfl) rfl rfl (Nat.le_of_ble_eq_true rfl) dX3_size_3 [7, 8] [0, 1, 2, 3, 4, 5, 6] rfl rfl rfl rfl (by decide) ⟨(Nat.le_of_ble_eq_true rfl), (Nat.le_of_ble_eq_true rfl)⟩ (fun u H locs hp hw => ?_)
  have hw : Wd D A s [oH ha (Hfl hv) (Hro hv) (Hrp hv) (Hca hv) (Hwy hv) (Hla hv) (Hmi hv) (Htf hv) (Htk hv), aV d ha 1 (HHO hv), aV d ha 2 (HAT hv), aV d ha 3 (HTO hv), aV d ha 4 (HWE hv), aV d ha 5 (HHE hv), aV d ha 6 (HRA hv), (tra, .inr (4, [.ref tba, .int q1.1])), (tba, .inl (d 0, tn, .inl q1.2))] H locs := hw
  refine lv_aload_n hx hb dX3_size_6 rfl (lv_at hl 2 rfl) ?_
  refine va_get (ci := 2) (C := RX1) (T := TX1) (N := 15) hx hb hts in_X1 hown hK hw.1 0 rfl rfl 9 (by decide) (hts _ q184) (fun _ h9 => h9) rfl dX3_size_7 ?_
  refine lv_aload_n hx hb dX3_size_10 rfl (lv_at hl 0 rfl) ?_
  have hPi := XI.at hXs hw
  obtain ⟨k11, hk11⟩ := List.getElem?_of_mem (him.2 a 2 hk).2
  refine va_get (ci := 7) (C := RX6) (T := TX6) (N := 1) hx hb hts in_X6 hown hK hPi k11 hk11 rfl 0 (by decide) (hts _ q258) (fun _ h9 => h9) rfl dX3_size_11 ?_
  obtain ⟨v2, hrd, hf⟩ := op_e hf
  refine x_iald (q0 := 4) cx hw rfl hrd dX3_size_14 ?_
  have hf := sm_e hf
  subst hf
  exact x_retI cx hw rfl () rfl [0, 1, 2, 3, 4, 5, 6, 7, 8] rfl rfl (Nat.le_of_ble_eq_true rfl) (Nat.le_of_ble_eq_true rfl) dX3_size_15
set_option maxHeartbeats 4000000 in
theorem mX3_size_X7 (l : Launch) (D : va_G) (d : Nat → ClassId) (cs : Nat → Nat) (wi : va_W) (ln : Nat → Option Int32) (lf : Nat → Nat → Option Nat) (dk : Nat → Option Nat) (dn : Nat → Int32) (him : ImF d wi ln lf dk dn) (ha : Nat → Nat) (tra : Nat) (tba : Nat) (tn : Nat) (hv : HV) (tm : Int32) (TB : Nat → Int32) (a : Nat) (hk : dk a = some 3) (res : Int32 × Int32 × (Nat → Int32)) (hf : fX3_size_X7 dn tn hv tm TB a = some res) : MetI l yX3_size (ws_ yX3_size cX3_size 3 (some .int)) { frames := 1, cells := 0, slots := 0, locals := 21 } [.ref a, .ref tra, .ref (ha 0)] (XI D cs wi) D d [oH ha (Hfl hv) (Hro hv) (Hrp hv) (Hca hv) (Hwy hv) (Hla hv) (Hmi hv) (Htf hv) (Htk hv), aV d ha 1 (HHO hv), aV d ha 2 (HAT hv), aV d ha 3 (HTO hv), aV d ha 4 (HWE hv), aV d ha 5 (HHE hv), aV d ha 6 (HRA hv), (tra, .inr (4, [.ref tba, .int tm])), (tba, .inl (d 0, tn, .inl TB))] (fun r (_ : Unit) => r = res.1) (fun _ => [oH ha (Hfl hv) (Hro hv) (Hrp hv) (Hca hv) (Hwy hv) (Hla hv) (Hmi hv) (Htf hv) (Htk hv), aV d ha 1 (HHO hv), aV d ha 2 (HAT hv), aV d ha 3 (HTO hv), aV d ha 4 (HWE hv), aV d ha 5 (HHE hv), aV d ha 6 (HRA hv), (tra, .inr (4, [.ref tba, .int res.2.1])), (tba, .inl (d 0, tn, .inl res.2.2))]) := by
  have hX := XI.ok (D := D) (cs := cs) (wi := wi)
  refine MetI.of (by decide +kernel) (Nat.le_of_ble_eq_true rfl) ?_
  intro p e s m below meth c A cx hw ls hl
  have cx : Cx p s m _ meth c (XI D cs wi) D d A "DishLift$Dish" cX3_size 3 (some .int) "size" := cx
  have cx' := cx
  obtain ⟨hx, hb, hr, hlk, hml, hown, hts, hK, hA, hXs, hnm⟩ := cx'
  have hl : lv_has ls 3 [(0, .ref a), (1, .ref tra), (2, .ref (ha 0))] := hl
  generalize hlo : ([] : List Loc) = locs at hw ⊢
  unfold fX3_size_X7 at hf
  refine lv_aload_n hx hb dX3_size_0 rfl (lv_at hl 1 rfl) ?_
  refine lv_bipush (v := 10) hx hb dX3_size_1 (by decide) ?_
  obtain ⟨q1, hcq1, hf⟩ := op_e hf
  refine x_VV (wr := [oH ha (Hfl hv) (Hro hv) (Hrp hv) (Hca hv) (Hwy hv) (Hla hv) (Hmi hv) (Htf hv) (Htk hv), aV d ha 1 (HHO hv), aV d ha 2 (HAT hv), aV d ha 3 (HTO hv), aV d ha 4 (HWE hv), aV d ha 5 (HHE hv), aV d ha 6 (HRA hv)]) (rest := []) [.int 10] hX cx hw hl.1 (mX2_begins l  D d cs wi ln lf dk dn him tra tba tn tm TB 10  q1 hcq1) (lw_V q1160 q1155 q1156 q87 q1157) hd_X2_begins ⟨(Nat.le_of_ble_eq_true rfl), (Nat.le_of_ble_eq_true rfl)⟩ (va_recv hK hw.1 (ci := 4) (q0 := 7) rfl rfl) rfl rfl (Nat.le_of_ble_eq_true rfl) dX3_size_3 [7, 8] [0, 1, 2, 3, 4, 5, 6] rfl rfl rfl rfl (by decide) ⟨(Nat.le_of_ble_eq_true rfl), (Nat.le_of_ble_eq_true rfl)⟩ (fun u H locs hp hw => ?_)
  have hw : Wd D A s [oH ha (Hfl hv) (Hro hv) (Hrp hv) (Hca hv) (Hwy hv) (Hla hv) (Hmi hv) (Htf hv) (Htk hv), aV d ha 1 (HHO hv), aV d ha 2 (HAT hv), aV d ha 3 (HTO hv), aV d ha 4 (HWE hv), aV d ha 5 (HHE hv), aV d ha 6 (HRA hv), (tra, .inr (4, [.ref tba, .int q1.1])), (tba, .inl (d 0, tn, .inl q1.2))] H locs := hw
  refine lv_aload_n hx hb dX3_size_6 rfl (lv_at hl 2 rfl) ?_
  refine va_get (ci := 2) (C := RX1) (T := TX1) (N := 15) hx hb hts in_X1 hown hK hw.1 0 rfl rfl 9 (by decide) (hts _ q184) (fun _ h9 => h9) rfl dX3_size_7 ?_
  refine lv_aload_n hx hb dX3_size_10 rfl (lv_at hl 0 rfl) ?_
  have hPi := XI.at hXs hw
  obtain ⟨k11, hk11⟩ := List.getElem?_of_mem (him.2 a 3 hk).2
  refine va_get (ci := 8) (C := RX7) (T := TX7) (N := 1) hx hb hts in_X7 hown hK hPi k11 hk11 rfl 0 (by decide) (hts _ q258) (fun _ h9 => h9) rfl dX3_size_11 ?_
  obtain ⟨v2, hrd, hf⟩ := op_e hf
  refine x_iald (q0 := 4) cx hw rfl hrd dX3_size_14 ?_
  have hf := sm_e hf
  subst hf
  exact x_retI cx hw rfl () rfl [0, 1, 2, 3, 4, 5, 6, 7, 8] rfl rfl (Nat.le_of_ble_eq_true rfl) (Nat.le_of_ble_eq_true rfl) dX3_size_15
set_option maxHeartbeats 4000000 in
theorem mX3_size_X8 (l : Launch) (D : va_G) (d : Nat → ClassId) (cs : Nat → Nat) (wi : va_W) (ln : Nat → Option Int32) (lf : Nat → Nat → Option Nat) (dk : Nat → Option Nat) (dn : Nat → Int32) (him : ImF d wi ln lf dk dn) (ha : Nat → Nat) (tra : Nat) (tba : Nat) (tn : Nat) (hv : HV) (tm : Int32) (TB : Nat → Int32) (a : Nat) (hk : dk a = some 4) (res : Int32 × Int32 × (Nat → Int32)) (hf : fX3_size_X8 dn tn hv tm TB a = some res) : MetI l yX3_size (ws_ yX3_size cX3_size 3 (some .int)) { frames := 1, cells := 0, slots := 0, locals := 21 } [.ref a, .ref tra, .ref (ha 0)] (XI D cs wi) D d [oH ha (Hfl hv) (Hro hv) (Hrp hv) (Hca hv) (Hwy hv) (Hla hv) (Hmi hv) (Htf hv) (Htk hv), aV d ha 1 (HHO hv), aV d ha 2 (HAT hv), aV d ha 3 (HTO hv), aV d ha 4 (HWE hv), aV d ha 5 (HHE hv), aV d ha 6 (HRA hv), (tra, .inr (4, [.ref tba, .int tm])), (tba, .inl (d 0, tn, .inl TB))] (fun r (_ : Unit) => r = res.1) (fun _ => [oH ha (Hfl hv) (Hro hv) (Hrp hv) (Hca hv) (Hwy hv) (Hla hv) (Hmi hv) (Htf hv) (Htk hv), aV d ha 1 (HHO hv), aV d ha 2 (HAT hv), aV d ha 3 (HTO hv), aV d ha 4 (HWE hv), aV d ha 5 (HHE hv), aV d ha 6 (HRA hv), (tra, .inr (4, [.ref tba, .int res.2.1])), (tba, .inl (d 0, tn, .inl res.2.2))]) := by
  have hX := XI.ok (D := D) (cs := cs) (wi := wi)
  refine MetI.of (by decide +kernel) (Nat.le_of_ble_eq_true rfl) ?_
  intro p e s m below meth c A cx hw ls hl
  have cx : Cx p s m _ meth c (XI D cs wi) D d A "DishLift$Dish" cX3_size 3 (some .int) "size" := cx
  have cx' := cx
  obtain ⟨hx, hb, hr, hlk, hml, hown, hts, hK, hA, hXs, hnm⟩ := cx'
  have hl : lv_has ls 3 [(0, .ref a), (1, .ref tra), (2, .ref (ha 0))] := hl
  generalize hlo : ([] : List Loc) = locs at hw ⊢
  unfold fX3_size_X8 at hf
  refine lv_aload_n hx hb dX3_size_0 rfl (lv_at hl 1 rfl) ?_
  refine lv_bipush (v := 10) hx hb dX3_size_1 (by decide) ?_
  obtain ⟨q1, hcq1, hf⟩ := op_e hf
  refine x_VV (wr := [oH ha (Hfl hv) (Hro hv) (Hrp hv) (Hca hv) (Hwy hv) (Hla hv) (Hmi hv) (Htf hv) (Htk hv), aV d ha 1 (HHO hv), aV d ha 2 (HAT hv), aV d ha 3 (HTO hv), aV d ha 4 (HWE hv), aV d ha 5 (HHE hv), aV d ha 6 (HRA hv)]) (rest := []) [.int 10] hX cx hw hl.1 (mX2_begins l  D d cs wi ln lf dk dn him tra tba tn tm TB 10  q1 hcq1) (lw_V q1160 q1155 q1156 q87 q1157) hd_X2_begins ⟨(Nat.le_of_ble_eq_true rfl), (Nat.le_of_ble_eq_true rfl)⟩ (va_recv hK hw.1 (ci := 4) (q0 := 7) rfl rfl) rfl rfl (Nat.le_of_ble_eq_true rfl) dX3_size_3 [7, 8] [0, 1, 2, 3, 4, 5, 6] rfl rfl rfl rfl (by decide) ⟨(Nat.le_of_ble_eq_true rfl), (Nat.le_of_ble_eq_true rfl)⟩ (fun u H locs hp hw => ?_)
  have hw : Wd D A s [oH ha (Hfl hv) (Hro hv) (Hrp hv) (Hca hv) (Hwy hv) (Hla hv) (Hmi hv) (Htf hv) (Htk hv), aV d ha 1 (HHO hv), aV d ha 2 (HAT hv), aV d ha 3 (HTO hv), aV d ha 4 (HWE hv), aV d ha 5 (HHE hv), aV d ha 6 (HRA hv), (tra, .inr (4, [.ref tba, .int q1.1])), (tba, .inl (d 0, tn, .inl q1.2))] H locs := hw
  refine lv_aload_n hx hb dX3_size_6 rfl (lv_at hl 2 rfl) ?_
  refine va_get (ci := 2) (C := RX1) (T := TX1) (N := 15) hx hb hts in_X1 hown hK hw.1 0 rfl rfl 9 (by decide) (hts _ q184) (fun _ h9 => h9) rfl dX3_size_7 ?_
  refine lv_aload_n hx hb dX3_size_10 rfl (lv_at hl 0 rfl) ?_
  have hPi := XI.at hXs hw
  obtain ⟨k11, hk11⟩ := List.getElem?_of_mem (him.2 a 4 hk).2
  refine va_get (ci := 9) (C := RX8) (T := TX8) (N := 1) hx hb hts in_X8 hown hK hPi k11 hk11 rfl 0 (by decide) (hts _ q258) (fun _ h9 => h9) rfl dX3_size_11 ?_
  obtain ⟨v2, hrd, hf⟩ := op_e hf
  refine x_iald (q0 := 4) cx hw rfl hrd dX3_size_14 ?_
  have hf := sm_e hf
  subst hf
  exact x_retI cx hw rfl () rfl [0, 1, 2, 3, 4, 5, 6, 7, 8] rfl rfl (Nat.le_of_ble_eq_true rfl) (Nat.le_of_ble_eq_true rfl) dX3_size_15
theorem hd_X7_size : yX7_size.cls = "DishLift$Cold" ∧ yX7_size.cls ≠ "java/lang/invoke/MethodHandle" ∧ yX7_size.cls ≠ "java/lang/invoke/VarHandle" ∧ (parseMethodDescriptor yX7_size.desc).map (fun d => d.parameters.length) = some 2 := by decide +kernel
set_option maxHeartbeats 4000000 in
theorem mX7_size_X7 (l : Launch) (D : va_G) (d : Nat → ClassId) (cs : Nat → Nat) (wi : va_W) (ln : Nat → Option Int32) (lf : Nat → Nat → Option Nat) (dk : Nat → Option Nat) (dn : Nat → Int32) (him : ImF d wi ln lf dk dn) (ha : Nat → Nat) (tra : Nat) (tba : Nat) (tn : Nat) (hv : HV) (tm : Int32) (TB : Nat → Int32) (a : Nat) (hk : dk a = some 3) (res : Int32 × Int32 × (Nat → Int32)) (hf : fX7_size_X7 dn tn hv tm TB a = some res) : MetI l yX7_size (ws_ yX7_size cX7_size 3 (some .int)) { frames := 2, cells := 0, slots := 0, locals := 43 } [.ref a, .ref tra, .ref (ha 0)] (XI D cs wi) D d [oH ha (Hfl hv) (Hro hv) (Hrp hv) (Hca hv) (Hwy hv) (Hla hv) (Hmi hv) (Htf hv) (Htk hv), aV d ha 1 (HHO hv), aV d ha 2 (HAT hv), aV d ha 3 (HTO hv), aV d ha 4 (HWE hv), aV d ha 5 (HHE hv), aV d ha 6 (HRA hv), (tra, .inr (4, [.ref tba, .int tm])), (tba, .inl (d 0, tn, .inl TB))] (fun r (_ : Unit) => r = res.1) (fun _ => [oH ha (Hfl hv) (Hro hv) (Hrp hv) (Hca hv) (Hwy hv) (Hla hv) (Hmi hv) (Htf hv) (Htk hv), aV d ha 1 (HHO hv), aV d ha 2 (HAT hv), aV d ha 3 (HTO hv), aV d ha 4 (HWE hv), aV d ha 5 (HHE hv), aV d ha 6 (HRA hv), (tra, .inr (4, [.ref tba, .int res.2.1])), (tba, .inl (d 0, tn, .inl res.2.2))]) := by
  have hX := XI.ok (D := D) (cs := cs) (wi := wi)
  refine MetI.of (by decide +kernel) (Nat.le_of_ble_eq_true rfl) ?_
  intro p e s m below meth c A cx hw ls hl
  have cx : Cx p s m _ meth c (XI D cs wi) D d A "DishLift$Cold" cX7_size 3 (some .int) "size" := cx
  have cx' := cx
  obtain ⟨hx, hb, hr, hlk, hml, hown, hts, hK, hA, hXs, hnm⟩ := cx'
  have hl : lv_has ls 3 [(0, .ref a), (1, .ref tra), (2, .ref (ha 0))] := hl
  generalize hlo : ([] : List Loc) = locs at hw ⊢
  unfold fX7_size_X7 at hf
  refine lv_aload_n hx hb dX7_size_0 rfl (lv_at hl 1 rfl) ?_
  refine lv_bipush (v := 13) hx hb dX7_size_1 (by decide) ?_
  obtain ⟨q1, hcq1, hf⟩ := op_e hf
  refine x_VV (wr := [oH ha (Hfl hv) (Hro hv) (Hrp hv) (Hca hv) (Hwy hv) (Hla hv) (Hmi hv) (Htf hv) (Htk hv), aV d ha 1 (HHO hv), aV d ha 2 (HAT hv), aV d ha 3 (HTO hv), aV d ha 4 (HWE hv), aV d ha 5 (HHE hv), aV d ha 6 (HRA hv)]) (rest := []) [.int 13] hX cx hw hl.1 (mX2_begins l  D d cs wi ln lf dk dn him tra tba tn tm TB 13  q1 hcq1) (lw_V q1154 q1155 q1156 q87 q1157) hd_X2_begins ⟨(Nat.le_of_ble_eq_true rfl), (Nat.le_of_ble_eq_true rfl)⟩ (va_recv hK hw.1 (ci := 4) (q0 := 7) rfl rfl) rfl rfl (Nat.le_of_ble_eq_true rfl) dX7_size_3 [7, 8] [0, 1, 2, 3, 4, 5, 6] rfl rfl rfl rfl (by decide) ⟨(Nat.le_of_ble_eq_true rfl), (Nat.le_of_ble_eq_true rfl)⟩ (fun u H locs hp hw => ?_)
  have hw : Wd D A s [oH ha (Hfl hv) (Hro hv) (Hrp hv) (Hca hv) (Hwy hv) (Hla hv) (Hmi hv) (Htf hv) (Htk hv), aV d ha 1 (HHO hv), aV d ha 2 (HAT hv), aV d ha 3 (HTO hv), aV d ha 4 (HWE hv), aV d ha 5 (HHE hv), aV d ha 6 (HRA hv), (tra, .inr (4, [.ref tba, .int q1.1])), (tba, .inl (d 0, tn, .inl q1.2))] H locs := hw
  refine lv_aload_n hx hb dX7_size_6 rfl (lv_at hl 0 rfl) ?_
  refine lv_aload_n hx hb dX7_size_7 rfl (lv_at hl 1 rfl) ?_
  refine lv_aload_n hx hb dX7_size_8 rfl (lv_at hl 2 rfl) ?_
  obtain ⟨q2, hcq2, hf⟩ := op_e hf
  refine x_PIW (n := 2) (wr := []) (rest := []) (C := "DishLift$Cold") [.ref tra, .ref (ha 0)] hX cx hw hl.1 (hK.1 8 _ rfl).2 (mX3_size_X7 l D d cs wi ln lf dk dn him ha tra tba tn hv q1.1 q1.2 a hk q2 hcq2) (lw_SU q1158 q1150 q285 q1149 q88 q1159) ⟨by decide +kernel, by decide +kernel⟩ ⟨(Nat.le_of_ble_eq_true rfl), (Nat.le_of_ble_eq_true rfl)⟩ (dish_recv hXs hK hw (him.2 a 3 hk).2 rfl) rfl rfl (Nat.le_of_ble_eq_true rfl) dX7_size_9 [0, 1, 2, 3, 4, 5, 6, 7, 8] [] rfl rfl rfl rfl (by decide) ⟨(Nat.le_of_ble_eq_true rfl), (Nat.le_of_ble_eq_true rfl)⟩ (fun r u H locs hp hw => ?_)
  have hw : Wd D A s [oH ha (Hfl hv) (Hro hv) (Hrp hv) (Hca hv) (Hwy hv) (Hla hv) (Hmi hv) (Htf hv) (Htk hv), aV d ha 1 (HHO hv), aV d ha 2 (HAT hv), aV d ha 3 (HTO hv), aV d ha 4 (HWE hv), aV d ha 5 (HHE hv), aV d ha 6 (HRA hv), (tra, .inr (4, [.ref tba, .int q2.2.1])), (tba, .inl (d 0, tn, .inl q2.2.2))] H locs := hw
  subst r
  refine lv_bipush (v := 100) hx hb dX7_size_12 (by decide) ?_
  refine lv_isub hx hb dX7_size_14 ?_
  have hf := sm_e hf
  subst hf
  exact x_retI cx hw rfl () rfl [0, 1, 2, 3, 4, 5, 6, 7, 8] rfl rfl (Nat.le_of_ble_eq_true rfl) (Nat.le_of_ble_eq_true rfl) dX7_size_15
set_option maxHeartbeats 4000000 in
theorem mX7_size_X8 (l : Launch) (D : va_G) (d : Nat → ClassId) (cs : Nat → Nat) (wi : va_W) (ln : Nat → Option Int32) (lf : Nat → Nat → Option Nat) (dk : Nat → Option Nat) (dn : Nat → Int32) (him : ImF d wi ln lf dk dn) (ha : Nat → Nat) (tra : Nat) (tba : Nat) (tn : Nat) (hv : HV) (tm : Int32) (TB : Nat → Int32) (a : Nat) (hk : dk a = some 4) (res : Int32 × Int32 × (Nat → Int32)) (hf : fX7_size_X8 dn tn hv tm TB a = some res) : MetI l yX7_size (ws_ yX7_size cX7_size 3 (some .int)) { frames := 2, cells := 0, slots := 0, locals := 43 } [.ref a, .ref tra, .ref (ha 0)] (XI D cs wi) D d [oH ha (Hfl hv) (Hro hv) (Hrp hv) (Hca hv) (Hwy hv) (Hla hv) (Hmi hv) (Htf hv) (Htk hv), aV d ha 1 (HHO hv), aV d ha 2 (HAT hv), aV d ha 3 (HTO hv), aV d ha 4 (HWE hv), aV d ha 5 (HHE hv), aV d ha 6 (HRA hv), (tra, .inr (4, [.ref tba, .int tm])), (tba, .inl (d 0, tn, .inl TB))] (fun r (_ : Unit) => r = res.1) (fun _ => [oH ha (Hfl hv) (Hro hv) (Hrp hv) (Hca hv) (Hwy hv) (Hla hv) (Hmi hv) (Htf hv) (Htk hv), aV d ha 1 (HHO hv), aV d ha 2 (HAT hv), aV d ha 3 (HTO hv), aV d ha 4 (HWE hv), aV d ha 5 (HHE hv), aV d ha 6 (HRA hv), (tra, .inr (4, [.ref tba, .int res.2.1])), (tba, .inl (d 0, tn, .inl res.2.2))]) := by
  have hX := XI.ok (D := D) (cs := cs) (wi := wi)
  refine MetI.of (by decide +kernel) (Nat.le_of_ble_eq_true rfl) ?_
  intro p e s m below meth c A cx hw ls hl
  have cx : Cx p s m _ meth c (XI D cs wi) D d A "DishLift$Cold" cX7_size 3 (some .int) "size" := cx
  have cx' := cx
  obtain ⟨hx, hb, hr, hlk, hml, hown, hts, hK, hA, hXs, hnm⟩ := cx'
  have hl : lv_has ls 3 [(0, .ref a), (1, .ref tra), (2, .ref (ha 0))] := hl
  generalize hlo : ([] : List Loc) = locs at hw ⊢
  unfold fX7_size_X8 at hf
  refine lv_aload_n hx hb dX7_size_0 rfl (lv_at hl 1 rfl) ?_
  refine lv_bipush (v := 13) hx hb dX7_size_1 (by decide) ?_
  obtain ⟨q1, hcq1, hf⟩ := op_e hf
  refine x_VV (wr := [oH ha (Hfl hv) (Hro hv) (Hrp hv) (Hca hv) (Hwy hv) (Hla hv) (Hmi hv) (Htf hv) (Htk hv), aV d ha 1 (HHO hv), aV d ha 2 (HAT hv), aV d ha 3 (HTO hv), aV d ha 4 (HWE hv), aV d ha 5 (HHE hv), aV d ha 6 (HRA hv)]) (rest := []) [.int 13] hX cx hw hl.1 (mX2_begins l  D d cs wi ln lf dk dn him tra tba tn tm TB 13  q1 hcq1) (lw_V q1154 q1155 q1156 q87 q1157) hd_X2_begins ⟨(Nat.le_of_ble_eq_true rfl), (Nat.le_of_ble_eq_true rfl)⟩ (va_recv hK hw.1 (ci := 4) (q0 := 7) rfl rfl) rfl rfl (Nat.le_of_ble_eq_true rfl) dX7_size_3 [7, 8] [0, 1, 2, 3, 4, 5, 6] rfl rfl rfl rfl (by decide) ⟨(Nat.le_of_ble_eq_true rfl), (Nat.le_of_ble_eq_true rfl)⟩ (fun u H locs hp hw => ?_)
  have hw : Wd D A s [oH ha (Hfl hv) (Hro hv) (Hrp hv) (Hca hv) (Hwy hv) (Hla hv) (Hmi hv) (Htf hv) (Htk hv), aV d ha 1 (HHO hv), aV d ha 2 (HAT hv), aV d ha 3 (HTO hv), aV d ha 4 (HWE hv), aV d ha 5 (HHE hv), aV d ha 6 (HRA hv), (tra, .inr (4, [.ref tba, .int q1.1])), (tba, .inl (d 0, tn, .inl q1.2))] H locs := hw
  refine lv_aload_n hx hb dX7_size_6 rfl (lv_at hl 0 rfl) ?_
  refine lv_aload_n hx hb dX7_size_7 rfl (lv_at hl 1 rfl) ?_
  refine lv_aload_n hx hb dX7_size_8 rfl (lv_at hl 2 rfl) ?_
  obtain ⟨q2, hcq2, hf⟩ := op_e hf
  refine x_PIW (n := 2) (wr := []) (rest := []) (C := "DishLift$Ice") [.ref tra, .ref (ha 0)] hX cx hw hl.1 (hK.1 9 _ rfl).2 (mX3_size_X8 l D d cs wi ln lf dk dn him ha tra tba tn hv q1.1 q1.2 a hk q2 hcq2) (lw_SU q1158 q1150 q285 q1149 q88 q1159) ⟨by decide +kernel, by decide +kernel⟩ ⟨(Nat.le_of_ble_eq_true rfl), (Nat.le_of_ble_eq_true rfl)⟩ (dish_recv hXs hK hw (him.2 a 4 hk).2 rfl) rfl rfl (Nat.le_of_ble_eq_true rfl) dX7_size_9 [0, 1, 2, 3, 4, 5, 6, 7, 8] [] rfl rfl rfl rfl (by decide) ⟨(Nat.le_of_ble_eq_true rfl), (Nat.le_of_ble_eq_true rfl)⟩ (fun r u H locs hp hw => ?_)
  have hw : Wd D A s [oH ha (Hfl hv) (Hro hv) (Hrp hv) (Hca hv) (Hwy hv) (Hla hv) (Hmi hv) (Htf hv) (Htk hv), aV d ha 1 (HHO hv), aV d ha 2 (HAT hv), aV d ha 3 (HTO hv), aV d ha 4 (HWE hv), aV d ha 5 (HHE hv), aV d ha 6 (HRA hv), (tra, .inr (4, [.ref tba, .int q2.2.1])), (tba, .inl (d 0, tn, .inl q2.2.2))] H locs := hw
  subst r
  refine lv_bipush (v := 100) hx hb dX7_size_12 (by decide) ?_
  refine lv_isub hx hb dX7_size_14 ?_
  have hf := sm_e hf
  subst hf
  exact x_retI cx hw rfl () rfl [0, 1, 2, 3, 4, 5, 6, 7, 8] rfl rfl (Nat.le_of_ble_eq_true rfl) (Nat.le_of_ble_eq_true rfl) dX7_size_15
theorem hd_X8_size : yX8_size.cls = "DishLift$Ice" ∧ yX8_size.cls ≠ "java/lang/invoke/MethodHandle" ∧ yX8_size.cls ≠ "java/lang/invoke/VarHandle" ∧ (parseMethodDescriptor yX8_size.desc).map (fun d => d.parameters.length) = some 2 := by decide +kernel
set_option maxHeartbeats 4000000 in
theorem mX8_size_X8 (l : Launch) (D : va_G) (d : Nat → ClassId) (cs : Nat → Nat) (wi : va_W) (ln : Nat → Option Int32) (lf : Nat → Nat → Option Nat) (dk : Nat → Option Nat) (dn : Nat → Int32) (him : ImF d wi ln lf dk dn) (ha : Nat → Nat) (tra : Nat) (tba : Nat) (tn : Nat) (hv : HV) (tm : Int32) (TB : Nat → Int32) (a : Nat) (hk : dk a = some 4) (res : Int32 × Int32 × (Nat → Int32)) (hf : fX8_size_X8 dn tn hv tm TB a = some res) : MetI l yX8_size (ws_ yX8_size cX8_size 3 (some .int)) { frames := 3, cells := 0, slots := 0, locals := 65 } [.ref a, .ref tra, .ref (ha 0)] (XI D cs wi) D d [oH ha (Hfl hv) (Hro hv) (Hrp hv) (Hca hv) (Hwy hv) (Hla hv) (Hmi hv) (Htf hv) (Htk hv), aV d ha 1 (HHO hv), aV d ha 2 (HAT hv), aV d ha 3 (HTO hv), aV d ha 4 (HWE hv), aV d ha 5 (HHE hv), aV d ha 6 (HRA hv), (tra, .inr (4, [.ref tba, .int tm])), (tba, .inl (d 0, tn, .inl TB))] (fun r (_ : Unit) => r = res.1) (fun _ => [oH ha (Hfl hv) (Hro hv) (Hrp hv) (Hca hv) (Hwy hv) (Hla hv) (Hmi hv) (Htf hv) (Htk hv), aV d ha 1 (HHO hv), aV d ha 2 (HAT hv), aV d ha 3 (HTO hv), aV d ha 4 (HWE hv), aV d ha 5 (HHE hv), aV d ha 6 (HRA hv), (tra, .inr (4, [.ref tba, .int res.2.1])), (tba, .inl (d 0, tn, .inl res.2.2))]) := by
  have hX := XI.ok (D := D) (cs := cs) (wi := wi)
  refine MetI.of (by decide +kernel) (Nat.le_of_ble_eq_true rfl) ?_
  intro p e s m below meth c A cx hw ls hl
  have cx : Cx p s m _ meth c (XI D cs wi) D d A "DishLift$Ice" cX8_size 3 (some .int) "size" := cx
  have cx' := cx
  obtain ⟨hx, hb, hr, hlk, hml, hown, hts, hK, hA, hXs, hnm⟩ := cx'
  have hl : lv_has ls 3 [(0, .ref a), (1, .ref tra), (2, .ref (ha 0))] := hl
  generalize hlo : ([] : List Loc) = locs at hw ⊢
  unfold fX8_size_X8 at hf
  refine lv_aload_n hx hb dX8_size_0 rfl (lv_at hl 1 rfl) ?_
  refine lv_bipush (v := 14) hx hb dX8_size_1 (by decide) ?_
  obtain ⟨q1, hcq1, hf⟩ := op_e hf
  refine x_VV (wr := [oH ha (Hfl hv) (Hro hv) (Hrp hv) (Hca hv) (Hwy hv) (Hla hv) (Hmi hv) (Htf hv) (Htk hv), aV d ha 1 (HHO hv), aV d ha 2 (HAT hv), aV d ha 3 (HTO hv), aV d ha 4 (HWE hv), aV d ha 5 (HHE hv), aV d ha 6 (HRA hv)]) (rest := []) [.int 14] hX cx hw hl.1 (mX2_begins l  D d cs wi ln lf dk dn him tra tba tn tm TB 14  q1 hcq1) (lw_V q1215 q1155 q1156 q87 q1157) hd_X2_begins ⟨(Nat.le_of_ble_eq_true rfl), (Nat.le_of_ble_eq_true rfl)⟩ (va_recv hK hw.1 (ci := 4) (q0 := 7) rfl rfl) rfl rfl (Nat.le_of_ble_eq_true rfl) dX8_size_3 [7, 8] [0, 1, 2, 3, 4, 5, 6] rfl rfl rfl rfl (by decide) ⟨(Nat.le_of_ble_eq_true rfl), (Nat.le_of_ble_eq_true rfl)⟩ (fun u H locs hp hw => ?_)
  have hw : Wd D A s [oH ha (Hfl hv) (Hro hv) (Hrp hv) (Hca hv) (Hwy hv) (Hla hv) (Hmi hv) (Htf hv) (Htk hv), aV d ha 1 (HHO hv), aV d ha 2 (HAT hv), aV d ha 3 (HTO hv), aV d ha 4 (HWE hv), aV d ha 5 (HHE hv), aV d ha 6 (HRA hv), (tra, .inr (4, [.ref tba, .int q1.1])), (tba, .inl (d 0, tn, .inl q1.2))] H locs := hw
  refine lv_iconst (v := 2) hx hb dX8_size_6 (by decide) ?_
  refine lv_aload_n hx hb dX8_size_7 rfl (lv_at hl 0 rfl) ?_
  refine lv_aload_n hx hb dX8_size_8 rfl (lv_at hl 1 rfl) ?_
  refine lv_aload_n hx hb dX8_size_9 rfl (lv_at hl 2 rfl) ?_
  obtain ⟨q2, hcq2, hf⟩ := op_e hf
  refine x_PIW (n := 2) (wr := []) (rest := [.int 2]) (C := "DishLift$Ice") [.ref tra, .ref (ha 0)] hX cx hw hl.1 (hK.1 9 _ rfl).2 (mX7_size_X8 l D d cs wi ln lf dk dn him ha tra tba tn hv q1.1 q1.2 a hk q2 hcq2) (lw_SU q1216 q1685 q293 q1152 q92 q1153) ⟨by decide +kernel, by decide +kernel⟩ ⟨(Nat.le_of_ble_eq_true rfl), (Nat.le_of_ble_eq_true rfl)⟩ (dish_recv hXs hK hw (him.2 a 4 hk).2 rfl) rfl rfl (Nat.le_of_ble_eq_true rfl) dX8_size_10 [0, 1, 2, 3, 4, 5, 6, 7, 8] [] rfl rfl rfl rfl (by decide) ⟨(Nat.le_of_ble_eq_true rfl), (Nat.le_of_ble_eq_true rfl)⟩ (fun r u H locs hp hw => ?_)
  have hw : Wd D A s [oH ha (Hfl hv) (Hro hv) (Hrp hv) (Hca hv) (Hwy hv) (Hla hv) (Hmi hv) (Htf hv) (Htk hv), aV d ha 1 (HHO hv), aV d ha 2 (HAT hv), aV d ha 3 (HTO hv), aV d ha 4 (HWE hv), aV d ha 5 (HHE hv), aV d ha 6 (HRA hv), (tra, .inr (4, [.ref tba, .int q2.2.1])), (tba, .inl (d 0, tn, .inl q2.2.2))] H locs := hw
  subst r
  refine lv_imul hx hb dX8_size_13 ?_
  have hf := sm_e hf
  subst hf
  exact x_retI cx hw rfl () rfl [0, 1, 2, 3, 4, 5, 6, 7, 8] rfl rfl (Nat.le_of_ble_eq_true rfl) (Nat.le_of_ble_eq_true rfl) dX8_size_14
