set_option maxRecDepth 100000
def fX0_undo_0 (gc : Int32) : Option (Int32) :=
  if gc = 0 then
    some (-1000002)
  else
    none
def fX0_undo_1 (qa : Nat → Nat) (hv : HV) (qv : HV) (gc : Int32) (PA : Nat → Option Nat) : Option (Int32 × HV × Int32) :=
  if gc = 0 then
    some ((-1000002), hv, gc)
  else
    (rdq PA 24 (gc - 1)).bind fun o1 =>
    o1.bind fun e2 =>
    (eqa e2 (qa 0)).bind fun g3 =>
    (gX1_become hv qv).bind fun q4 =>
    some ((gc - 1), q4, (gc - 1))
def fX0_restore_0 (IA : Nat → Option Nat) (p1 : Int32) : Option (Int32) :=
  (fX0_isIn p1.toInt64 0 1).bind fun q1 =>
  if q1 = 0 then
    some (-1000001)
  else
    (rdq IA 2 p1).bind fun o2 =>
    if o2 = none then
      some (-1000002)
    else
      none
def fX0_restore_1 (qa : Nat → Nat) (hv : HV) (qv : HV) (gc : Int32) (IA : Nat → Option Nat) (p1 : Int32) : Option (Int32 × HV × Int32) :=
  (fX0_isIn p1.toInt64 0 1).bind fun q1 =>
  if q1 = 0 then
    some ((-1000001), hv, gc)
  else
    (rdq IA 2 p1).bind fun o2 =>
    if o2 = none then
      none
    else
      (rdq IA 2 p1).bind fun o4 =>
      o4.bind fun e5 =>
      (eqa e5 (qa 0)).bind fun g6 =>
      (gX1_become hv qv).bind fun q7 =>
      some (1, q7, 0)
def fX0_image_0 (hv : HV) (IA : Nat → Option Nat) (p1 : Int32) : Option (Int32 × Bool × HV) :=
  (fX0_isIn p1.toInt64 0 1).bind fun q1 =>
  if q1 = 0 then
    some ((-1000001), false, (hv0 0))
  else
    (fX0_isHouse hv).bind fun q2 =>
    if q2 = 0 then
      some ((-1000002), false, (hv0 0))
    else
      (rdq IA 2 p1).bind fun o3 =>
      if o3 = none then
        (gix 2 p1).bind fun g6 =>
        (gX1_become (hv0 0) hv).bind fun q7 =>
        some (1, true, q7)
      else
        none
def fX0_image_1 (qa : Nat → Nat) (hv : HV) (qv : HV) (IA : Nat → Option Nat) (p1 : Int32) : Option (Int32 × HV) :=
  (fX0_isIn p1.toInt64 0 1).bind fun q1 =>
  if q1 = 0 then
    some ((-1000001), qv)
  else
    (fX0_isHouse hv).bind fun q2 =>
    if q2 = 0 then
      some ((-1000002), qv)
    else
      (rdq IA 2 p1).bind fun o3 =>
      (if o3 = none then
        none
      else
        some () : Option (Unit)).bind fun j5 =>
      (rdq IA 2 p1).bind fun o6 =>
      o6.bind fun e7 =>
      (eqa e7 (qa 0)).bind fun g8 =>
      (gX1_become qv hv).bind fun q9 =>
      some (1, q9)
def fX0_pull_0 (hv : HV) (gc : Int32) (PA : Nat → Option Nat) (p1 : Int32) : Option (Int32 × Bool × HV × Int32 × HV) :=
  (fX0_isFloor hv p1).bind fun q1 =>
  if q1 = 0 then
    some ((-1000001), false, hv, gc, (hv0 0))
  else
    if (Hca hv) = p1 then
      some ((-1000002), false, hv, gc, (hv0 0))
    else
      (fX0_keep_0 hv gc PA).bind fun q2 =>
      (some (Sca hv p1)).bind fun b3 =>
      some ((Hca hv), true, b3, q2.1, q2.2)
def fX0_pull_1 (qa : Nat → Nat) (hs : Nat → Bool) (hv : HV) (qv : HV) (gc : Int32) (PA : Nat → Option Nat) (p1 : Int32) : Option (Int32 × HV × HV × Int32 × (Nat → Option Nat)) :=
  (fX0_isFloor hv p1).bind fun q1 =>
  if q1 = 0 then
    some ((-1000001), hv, qv, gc, PA)
  else
    if (Hca hv) = p1 then
      some ((-1000002), hv, qv, gc, PA)
    else
      (fX0_keep_1 qa hs hv qv gc PA).bind fun q2 =>
      (some (Sca hv p1)).bind fun b3 =>
      some ((Hca hv), b3, q2.1, q2.2.1, q2.2.2)
def fX0_rope_0 (hv : HV) (gc : Int32) (PA : Nat → Option Nat) (p1 : Int32) : Option (Int32 × Bool × HV × Int32 × HV) :=
  (fX0_isHouse hv).bind fun q1 =>
  if q1 = 0 then
    some ((-1000002), false, hv, gc, (hv0 0))
  else
    (fX0_isIn p1.toInt64 1 40).bind fun q2 =>
    if q2 = 0 then
      some ((-1000001), false, hv, gc, (hv0 0))
    else
      (fX0_keep_0 hv gc PA).bind fun q3 =>
      (some (Srp hv p1)).bind fun b4 =>
      some ((Hrp hv), true, b4, q3.1, q3.2)
def fX0_rope_1 (qa : Nat → Nat) (hs : Nat → Bool) (hv : HV) (qv : HV) (gc : Int32) (PA : Nat → Option Nat) (p1 : Int32) : Option (Int32 × HV × HV × Int32 × (Nat → Option Nat)) :=
  (fX0_isHouse hv).bind fun q1 =>
  if q1 = 0 then
    some ((-1000002), hv, qv, gc, PA)
  else
    (fX0_isIn p1.toInt64 1 40).bind fun q2 =>
    if q2 = 0 then
      some ((-1000001), hv, qv, gc, PA)
    else
      (fX0_keep_1 qa hs hv qv gc PA).bind fun q3 =>
      (some (Srp hv p1)).bind fun b4 =>
      some ((Hrp hv), b4, q3.1, q3.2.1, q3.2.2)
def fX0_room_0 (hv : HV) (gc : Int32) (PA : Nat → Option Nat) (p1 : Int32) : Option (Int32 × Bool × HV × Int32 × HV) :=
  (fX0_isHouse hv).bind fun q1 =>
  if q1 = 0 then
    some ((-1000002), false, hv, gc, (hv0 0))
  else
    (fX0_isIn p1.toInt64 1 4).bind fun q2 =>
    if q2 = 0 then
      some ((-1000001), false, hv, gc, (hv0 0))
    else
      (fX0_keep_0 hv gc PA).bind fun q3 =>
      (some (Sro hv p1)).bind fun b4 =>
      some ((Hro hv), true, b4, q3.1, q3.2)
def fX0_room_1 (qa : Nat → Nat) (hs : Nat → Bool) (hv : HV) (qv : HV) (gc : Int32) (PA : Nat → Option Nat) (p1 : Int32) : Option (Int32 × HV × HV × Int32 × (Nat → Option Nat)) :=
  (fX0_isHouse hv).bind fun q1 =>
  if q1 = 0 then
    some ((-1000002), hv, qv, gc, PA)
  else
    (fX0_isIn p1.toInt64 1 4).bind fun q2 =>
    if q2 = 0 then
      some ((-1000001), hv, qv, gc, PA)
    else
      (fX0_keep_1 qa hs hv qv gc PA).bind fun q3 =>
      (some (Sro hv p1)).bind fun b4 =>
      some ((Hro hv), b4, q3.1, q3.2.1, q3.2.2)
def fX0_send_0 (ln : Nat → Option Int32) (hv : HV) (gc : Int32) (PA : Nat → Option Nat) (p1 : Int32) (p2 : Int32) (p3 : Int32) : Option (Int32 × Bool × HV × Int32 × HV) :=
  (fX0_isDish ln hv p1).bind fun q1 =>
  if q1 = 0 then
    some ((-1000001), false, hv, gc, (hv0 0))
  else
    (fX0_isFloor hv p2).bind fun q2 =>
    if q2 = 0 then
      some ((-1000001), false, hv, gc, (hv0 0))
    else
      (fX0_isIn p3.toInt64 0 60).bind fun q3 =>
      if q3 = 0 then
        some ((-1000001), false, hv, gc, (hv0 0))
      else
        (rd (HHO hv) 6 p1).bind fun v4 =>
        if v4 = 2 then
          (rd (HTO hv) 6 p1).bind fun v5 =>
          if v5 = p2 then
            some ((-1000002), false, hv, gc, (hv0 0))
          else
            (fX0_keep_0 hv gc PA).bind fun q6 =>
            (gX1_send hv p1 p2 p3).bind fun q7 =>
            (gX1_areSo ln q7 2).bind fun q8 =>
            some (q8, true, q7, q6.1, q6.2)
        else
          some ((-1000002), false, hv, gc, (hv0 0))
def fX0_send_1 (ln : Nat → Option Int32) (qa : Nat → Nat) (hs : Nat → Bool) (hv : HV) (qv : HV) (gc : Int32) (PA : Nat → Option Nat) (p1 : Int32) (p2 : Int32) (p3 : Int32) : Option (Int32 × HV × HV × Int32 × (Nat → Option Nat)) :=
  (fX0_isDish ln hv p1).bind fun q1 =>
  if q1 = 0 then
    some ((-1000001), hv, qv, gc, PA)
  else
    (fX0_isFloor hv p2).bind fun q2 =>
    if q2 = 0 then
      some ((-1000001), hv, qv, gc, PA)
    else
      (fX0_isIn p3.toInt64 0 60).bind fun q3 =>
      if q3 = 0 then
        some ((-1000001), hv, qv, gc, PA)
      else
        (rd (HHO hv) 6 p1).bind fun v4 =>
        if v4 = 2 then
          (rd (HTO hv) 6 p1).bind fun v5 =>
          if v5 = p2 then
            some ((-1000002), hv, qv, gc, PA)
          else
            (fX0_keep_1 qa hs hv qv gc PA).bind fun q6 =>
            (gX1_send hv p1 p2 p3).bind fun q7 =>
            (gX1_areSo ln q7 2).bind fun q8 =>
            some (q8, q7, q6.1, q6.2.1, q6.2.2)
        else
          some ((-1000002), hv, qv, gc, PA)
theorem hd_X0_undo : yX0_undo.cls = "DishLift" ∧ yX0_undo.cls ≠ "java/lang/invoke/MethodHandle" ∧ yX0_undo.cls ≠ "java/lang/invoke/VarHandle" ∧ (parseMethodDescriptor yX0_undo.desc).map (fun d => d.parameters.length) = some 0 := by decide +kernel
set_option maxHeartbeats 4000000 in
theorem mX0_undo_0 (l : Launch) (D : va_G) (d : Nat → ClassId) (cs : Nat → Nat) (wi : va_W) (ln : Nat → Option Int32) (lf : Nat → Nat → Option Nat) (dk : Nat → Option Nat) (dn : Nat → Int32) (him : ImF d wi ln lf dk dn) (ha : Nat → Nat) (sa : Nat → Nat) (ta : Nat → Nat) (hv : HV) (gt : Int32) (gf : Int32) (gc : Int32) (tra : Nat) (gs : Int32) (PA : Nat → Option Nat)  (res : Int32) (hf : fX0_undo_0 gc = some res) : MetI l yX0_undo (ws_ yX0_undo cX0_undo 1 (some .int)) { frames := 0, cells := 0, slots := 0, locals := 0 } [.ref (sa 0)] (XI D cs wi) D d [oH ha (Hfl hv) (Hro hv) (Hrp hv) (Hca hv) (Hwy hv) (Hla hv) (Hmi hv) (Htf hv) (Htk hv), aV d ha 1 (HHO hv), aV d ha 2 (HAT hv), aV d ha 3 (HTO hv), aV d ha 4 (HWE hv), aV d ha 5 (HHE hv), aV d ha 6 (HRA hv), oS sa ha ta gt gf gc tra gs, ((sa 3), .inl (d 4, 24, .inr (.inr (.inr (.inr PA)))))] (fun r (_ : Unit) => r = res) (fun _ => [oH ha (Hfl hv) (Hro hv) (Hrp hv) (Hca hv) (Hwy hv) (Hla hv) (Hmi hv) (Htf hv) (Htk hv), aV d ha 1 (HHO hv), aV d ha 2 (HAT hv), aV d ha 3 (HTO hv), aV d ha 4 (HWE hv), aV d ha 5 (HHE hv), aV d ha 6 (HRA hv), oS sa ha ta gt gf gc tra gs, ((sa 3), .inl (d 4, 24, .inr (.inr (.inr (.inr PA)))))]) := by
  have hX := XI.ok (D := D) (cs := cs) (wi := wi)
  refine MetI.of (by decide +kernel) (Nat.le_of_ble_eq_true rfl) ?_
  intro p e s m below meth c A cx hw ls hl
  have cx : Cx p s m _ meth c (XI D cs wi) D d A "DishLift" cX0_undo 1 (some .int) "undo" := cx
  have cx' := cx
  obtain ⟨hx, hb, hr, hlk, hml, hown, hts, hK, hA, hXs, hnm⟩ := cx'
  have hl : lv_has ls 1 [(0, .ref (sa 0))] := hl
  generalize hlo : ([] : List Loc) = locs at hw ⊢
  unfold fX0_undo_0 at hf
  refine lv_aload_n hx hb dX0_undo_0 rfl (lv_at hl 0 rfl) ?_
  refine va_get (ci := 1) (C := RX0) (T := TX0) (N := 14) hx hb hts in_X0 hown hK hw.1 7 rfl rfl 7 (by decide) (hts _ q301) (fun _ h9 => h9) rfl dX0_undo_1 ?_
  refine lv_if_ne (tgt := 10) hx hb dX0_undo_4 (by decide) (fun c4 => ?_) (fun c4 => ?_)
  · have hf := if_f hf c4
    cases hf
  · have hf := if_t hf c4
    refine lv_ldc (v := (-1000002)) hx hb hown (hts _ q764) dX0_undo_7 ?_
    have hf := sm_e hf
    subst hf
    exact x_retI cx hw rfl () rfl [0, 1, 2, 3, 4, 5, 6, 7, 8] rfl rfl (Nat.le_of_ble_eq_true rfl) (Nat.le_of_ble_eq_true rfl) dX0_undo_9
set_option maxHeartbeats 4000000 in
theorem mX0_undo_1 (l : Launch) (D : va_G) (d : Nat → ClassId) (cs : Nat → Nat) (wi : va_W) (ln : Nat → Option Int32) (lf : Nat → Nat → Option Nat) (dk : Nat → Option Nat) (dn : Nat → Int32) (him : ImF d wi ln lf dk dn) (ha : Nat → Nat) (qa : Nat → Nat) (sa : Nat → Nat) (ta : Nat → Nat) (hv : HV) (qv : HV) (gt : Int32) (gf : Int32) (gc : Int32) (tra : Nat) (gs : Int32) (PA : Nat → Option Nat)  (res : Int32 × HV × Int32) (hf : fX0_undo_1 qa hv qv gc PA = some res) : MetI l yX0_undo (ws_ yX0_undo cX0_undo 1 (some .int)) { frames := 2, cells := 0, slots := 0, locals := 61 } [.ref (sa 0)] (XI D cs wi) D d [oH ha (Hfl hv) (Hro hv) (Hrp hv) (Hca hv) (Hwy hv) (Hla hv) (Hmi hv) (Htf hv) (Htk hv), aV d ha 1 (HHO hv), aV d ha 2 (HAT hv), aV d ha 3 (HTO hv), aV d ha 4 (HWE hv), aV d ha 5 (HHE hv), aV d ha 6 (HRA hv), oH qa (Hfl qv) (Hro qv) (Hrp qv) (Hca qv) (Hwy qv) (Hla qv) (Hmi qv) (Htf qv) (Htk qv), aV d qa 1 (HHO qv), aV d qa 2 (HAT qv), aV d qa 3 (HTO qv), aV d qa 4 (HWE qv), aV d qa 5 (HHE qv), aV d qa 6 (HRA qv), oS sa ha ta gt gf gc tra gs, ((sa 3), .inl (d 4, 24, .inr (.inr (.inr (.inr PA)))))] (fun r (_ : Unit) => r = res.1) (fun _ => [oH ha (Hfl res.2.1) (Hro res.2.1) (Hrp res.2.1) (Hca res.2.1) (Hwy res.2.1) (Hla res.2.1) (Hmi res.2.1) (Htf res.2.1) (Htk res.2.1), aV d ha 1 (HHO res.2.1), aV d ha 2 (HAT res.2.1), aV d ha 3 (HTO res.2.1), aV d ha 4 (HWE res.2.1), aV d ha 5 (HHE res.2.1), aV d ha 6 (HRA res.2.1), oH qa (Hfl qv) (Hro qv) (Hrp qv) (Hca qv) (Hwy qv) (Hla qv) (Hmi qv) (Htf qv) (Htk qv), aV d qa 1 (HHO qv), aV d qa 2 (HAT qv), aV d qa 3 (HTO qv), aV d qa 4 (HWE qv), aV d qa 5 (HHE qv), aV d qa 6 (HRA qv), oS sa ha ta gt gf res.2.2 tra gs, ((sa 3), .inl (d 4, 24, .inr (.inr (.inr (.inr PA)))))]) := by
  have hX := XI.ok (D := D) (cs := cs) (wi := wi)
  refine MetI.of (by decide +kernel) (Nat.le_of_ble_eq_true rfl) ?_
  intro p e s m below meth c A cx hw ls hl
  have cx : Cx p s m _ meth c (XI D cs wi) D d A "DishLift" cX0_undo 1 (some .int) "undo" := cx
  have cx' := cx
  obtain ⟨hx, hb, hr, hlk, hml, hown, hts, hK, hA, hXs, hnm⟩ := cx'
  have hl : lv_has ls 1 [(0, .ref (sa 0))] := hl
  generalize hlo : ([] : List Loc) = locs at hw ⊢
  unfold fX0_undo_1 at hf
  refine lv_aload_n hx hb dX0_undo_0 rfl (lv_at hl 0 rfl) ?_
  refine va_get (ci := 1) (C := RX0) (T := TX0) (N := 14) hx hb hts in_X0 hown hK hw.1 14 rfl rfl 7 (by decide) (hts _ q301) (fun _ h9 => h9) rfl dX0_undo_1 ?_
  refine lv_if_ne (tgt := 10) hx hb dX0_undo_4 (by decide) (fun c4 => ?_) (fun c4 => ?_)
  · have hf := if_f hf c4
    refine lv_aload_n hx hb dX0_undo_10 rfl (lv_at hl 0 rfl) ?_
    refine lv_dup hx hb dX0_undo_11 rfl ?_
    refine va_get (ci := 1) (C := RX0) (T := TX0) (N := 14) hx hb hts in_X0 hown hK hw.1 14 rfl rfl 7 (by decide) (hts _ q301) (fun _ h9 => h9) rfl dX0_undo_12 ?_
    refine lv_iconst (v := 1) hx hb dX0_undo_15 (by decide) ?_
    refine lv_isub hx hb dX0_undo_16 ?_
    refine va_put (ci := 1) (v := .int (gc - 1)) (ty := .int) (C := RX0) (T := TX0) (N := 14) hx hb hts in_X0 tyX0 tyX0_ok nmX0 hown hK hw.1 hw.2.1 hw.2.2 14 rfl rfl 7 (by decide) (hts _ q301) (fun _ h9 => h9) rfl (by decide +kernel) rfl rfl (Nat.le_of_ble_eq_true rfl) dX0_undo_17 (fun H locs hP hD hS => ?_)
    have hw : Wd D A s [oH ha (Hfl hv) (Hro hv) (Hrp hv) (Hca hv) (Hwy hv) (Hla hv) (Hmi hv) (Htf hv) (Htk hv), aV d ha 1 (HHO hv), aV d ha 2 (HAT hv), aV d ha 3 (HTO hv), aV d ha 4 (HWE hv), aV d ha 5 (HHE hv), aV d ha 6 (HRA hv), oH qa (Hfl qv) (Hro qv) (Hrp qv) (Hca qv) (Hwy qv) (Hla qv) (Hmi qv) (Htf qv) (Htk qv), aV d qa 1 (HHO qv), aV d qa 2 (HAT qv), aV d qa 3 (HTO qv), aV d qa 4 (HWE qv), aV d qa 5 (HHE qv), aV d qa 6 (HRA qv), oS sa ha ta gt gf (gc - 1) tra gs, ((sa 3), .inl (d 4, 24, .inr (.inr (.inr (.inr PA)))))] H locs := ⟨hP, hD, hS⟩
    refine lv_aload_n hx hb dX0_undo_20 rfl (lv_at hl 0 rfl) ?_
    refine va_get (ci := 1) (C := RX0) (T := TX0) (N := 14) hx hb hts in_X0 hown hK hw.1 14 rfl rfl 4 (by decide) (hts _ q298) (fun _ h9 => h9) rfl dX0_undo_21 ?_
    refine lv_aload_n hx hb dX0_undo_24 rfl (lv_at hl 0 rfl) ?_
    refine va_get (ci := 1) (C := RX0) (T := TX0) (N := 14) hx hb hts in_X0 hown hK hw.1 14 rfl rfl 6 (by decide) (hts _ q300) (fun _ h9 => h9) rfl dX0_undo_25 ?_
    refine lv_aload_n hx hb dX0_undo_28 rfl (lv_at hl 0 rfl) ?_
    refine va_get (ci := 1) (C := RX0) (T := TX0) (N := 14) hx hb hts in_X0 hown hK hw.1 14 rfl rfl 7 (by decide) (hts _ q301) (fun _ h9 => h9) rfl dX0_undo_29 ?_
    obtain ⟨o1, hrd, hf⟩ := op_e hf
    refine x_aald (q0 := 15) (t0 := 4) cx hw rfl rfl hrd dX0_undo_32 ?_
    obtain ⟨e2, ho, hf⟩ := op_e hf
    obtain ⟨g3, hgq, hf⟩ := op_e hf
    have hgq := eqa_spec hgq
    refine W.eq (g2 := F0 m 33 ls [.ref (qa 0), .ref (ha 0)]) (by rw [ho, hgq]; rfl) ?_
    obtain ⟨q4, hcq4, hf⟩ := op_e hf
    refine x_VA (wr := [oS sa ha ta gt gf (gc - 1) tra gs, ((sa 3), .inl (d 4, 24, .inr (.inr (.inr (.inr PA)))))]) (rest := []) [.ref (qa 0)] hX cx hw hl.1 (vX1_become l  D d cs wi ln lf dk dn him ha qa hv qv  q4 hcq4) (lw_V q750 q751 q752 q83 q753) hd_X1_become ⟨(Nat.le_of_ble_eq_true rfl), (Nat.le_of_ble_eq_true rfl)⟩ (va_recv hK hw.1 (ci := 2) (q0 := 0) rfl rfl) rfl rfl (Nat.le_of_ble_eq_true rfl) dX0_undo_33 [0, 1, 2, 3, 4, 5, 6, 7, 8, 9, 10, 11, 12, 13] [14, 15] rfl rfl rfl rfl (by decide) ⟨(Nat.le_of_ble_eq_true rfl), (Nat.le_of_ble_eq_true rfl)⟩ (fun u H locs hp hw => ?_)
    have hw : Wd D A s [oS sa ha ta gt gf (gc - 1) tra gs, ((sa 3), .inl (d 4, 24, .inr (.inr (.inr (.inr PA))))), oH ha (Hfl q4) (Hro q4) (Hrp q4) (Hca q4) (Hwy q4) (Hla q4) (Hmi q4) (Htf q4) (Htk q4), aV d ha 1 (HHO q4), aV d ha 2 (HAT q4), aV d ha 3 (HTO q4), aV d ha 4 (HWE q4), aV d ha 5 (HHE q4), aV d ha 6 (HRA q4), oH qa (Hfl qv) (Hro qv) (Hrp qv) (Hca qv) (Hwy qv) (Hla qv) (Hmi qv) (Htf qv) (Htk qv), aV d qa 1 (HHO qv), aV d qa 2 (HAT qv), aV d qa 3 (HTO qv), aV d qa 4 (HWE qv), aV d qa 5 (HHE qv), aV d qa 6 (HRA qv)] H locs := hw
    refine lv_pop hx hb dX0_undo_36 rfl ?_
    refine lv_aload_n hx hb dX0_undo_37 rfl (lv_at hl 0 rfl) ?_
    refine va_get (ci := 1) (C := RX0) (T := TX0) (N := 14) hx hb hts in_X0 hown hK hw.1 0 rfl rfl 7 (by decide) (hts _ q301) (fun _ h9 => h9) rfl dX0_undo_38 ?_
    have hf := sm_e hf
    subst hf
    exact x_retI cx hw rfl () rfl [2, 3, 4, 5, 6, 7, 8, 9, 10, 11, 12, 13, 14, 15, 0, 1] rfl rfl (Nat.le_of_ble_eq_true rfl) (Nat.le_of_ble_eq_true rfl) dX0_undo_41
  · have hf := if_t hf c4
    refine lv_ldc (v := (-1000002)) hx hb hown (hts _ q764) dX0_undo_7 ?_
    have hf := sm_e hf
    subst hf
    exact x_retI cx hw rfl () rfl [0, 1, 2, 3, 4, 5, 6, 7, 8, 9, 10, 11, 12, 13, 14, 15] rfl rfl (Nat.le_of_ble_eq_true rfl) (Nat.le_of_ble_eq_true rfl) dX0_undo_9
theorem hd_X0_restore : yX0_restore.cls = "DishLift" ∧ yX0_restore.cls ≠ "java/lang/invoke/MethodHandle" ∧ yX0_restore.cls ≠ "java/lang/invoke/VarHandle" ∧ (parseMethodDescriptor yX0_restore.desc).map (fun d => d.parameters.length) = some 1 := by decide +kernel
set_option maxHeartbeats 4000000 in
theorem mX0_restore_0 (l : Launch) (D : va_G) (d : Nat → ClassId) (cs : Nat → Nat) (wi : va_W) (ln : Nat → Option Int32) (lf : Nat → Nat → Option Nat) (dk : Nat → Option Nat) (dn : Nat → Int32) (him : ImF d wi ln lf dk dn) (ha : Nat → Nat) (sa : Nat → Nat) (ta : Nat → Nat) (hv : HV) (gt : Int32) (gf : Int32) (gc : Int32) (tra : Nat) (gs : Int32) (IA : Nat → Option Nat) (p1 : Int32)  (res : Int32) (hf : fX0_restore_0 IA p1 = some res) : MetI l yX0_restore (ws_ yX0_restore cX0_restore 2 (some .int)) { frames := 1, cells := 0, slots := 0, locals := 25 } [.ref (sa 0), .int p1] (XI D cs wi) D d [oH ha (Hfl hv) (Hro hv) (Hrp hv) (Hca hv) (Hwy hv) (Hla hv) (Hmi hv) (Htf hv) (Htk hv), aV d ha 1 (HHO hv), aV d ha 2 (HAT hv), aV d ha 3 (HTO hv), aV d ha 4 (HWE hv), aV d ha 5 (HHE hv), aV d ha 6 (HRA hv), oS sa ha ta gt gf gc tra gs, ((sa 4), .inl (d 4, 2, .inr (.inr (.inr (.inr IA)))))] (fun r (_ : Unit) => r = res) (fun _ => [oH ha (Hfl hv) (Hro hv) (Hrp hv) (Hca hv) (Hwy hv) (Hla hv) (Hmi hv) (Htf hv) (Htk hv), aV d ha 1 (HHO hv), aV d ha 2 (HAT hv), aV d ha 3 (HTO hv), aV d ha 4 (HWE hv), aV d ha 5 (HHE hv), aV d ha 6 (HRA hv), oS sa ha ta gt gf gc tra gs, ((sa 4), .inl (d 4, 2, .inr (.inr (.inr (.inr IA)))))]) := by
  have hX := XI.ok (D := D) (cs := cs) (wi := wi)
  refine MetI.of (by decide +kernel) (Nat.le_of_ble_eq_true rfl) ?_
  intro p e s m below meth c A cx hw ls hl
  have cx : Cx p s m _ meth c (XI D cs wi) D d A "DishLift" cX0_restore 2 (some .int) "restore" := cx
  have cx' := cx
  obtain ⟨hx, hb, hr, hlk, hml, hown, hts, hK, hA, hXs, hnm⟩ := cx'
  have hl : lv_has ls 2 [(0, .ref (sa 0)), (1, .int p1)] := hl
  generalize hlo : ([] : List Loc) = locs at hw ⊢
  unfold fX0_restore_0 at hf
  refine lv_iload_n hx hb dX0_restore_0 rfl (lv_at hl 1 rfl) ?_
  refine lv_i2l (v := p1.toInt64) hx hb dX0_restore_1 rfl ?_
  refine lv_lconst (v := 0) hx hb dX0_restore_2 (by decide) ?_
  refine lv_lconst (v := 1) hx hb dX0_restore_3 (by decide) ?_
  obtain ⟨q1, hcq1, hf⟩ := op_e hf
  refine x_SI (wr := [oH ha (Hfl hv) (Hro hv) (Hrp hv) (Hca hv) (Hwy hv) (Hla hv) (Hmi hv) (Htf hv) (Htk hv), aV d ha 1 (HHO hv), aV d ha 2 (HAT hv), aV d ha 3 (HTO hv), aV d ha 4 (HWE hv), aV d ha 5 (HHE hv), aV d ha 6 (HRA hv), oS sa ha ta gt gf gc tra gs, ((sa 4), .inl (d 4, 2, .inr (.inr (.inr (.inr IA)))))]) (rest := []) [.long p1.toInt64, .long 0, .long 1] hX cx hw hl.1 (mX0_isIn l (XI D cs wi) hX D d  p1.toInt64 0 1  q1 hcq1) (lw_S q346 q347 q82 q348) hd_X0_isIn ⟨(Nat.le_of_ble_eq_true rfl), (Nat.le_of_ble_eq_true rfl)⟩ rfl rfl (Nat.le_of_ble_eq_true rfl) dX0_restore_4 [] [0, 1, 2, 3, 4, 5, 6, 7, 8] rfl rfl rfl rfl (by decide) ⟨(Nat.le_of_ble_eq_true rfl), (Nat.le_of_ble_eq_true rfl)⟩ (fun r u H locs hp hw => ?_)
  have hw : Wd D A s [oH ha (Hfl hv) (Hro hv) (Hrp hv) (Hca hv) (Hwy hv) (Hla hv) (Hmi hv) (Htf hv) (Htk hv), aV d ha 1 (HHO hv), aV d ha 2 (HAT hv), aV d ha 3 (HTO hv), aV d ha 4 (HWE hv), aV d ha 5 (HHE hv), aV d ha 6 (HRA hv), oS sa ha ta gt gf gc tra gs, ((sa 4), .inl (d 4, 2, .inr (.inr (.inr (.inr IA)))))] H locs := hw
  subst r
  refine lv_if_ne (tgt := 13) hx hb dX0_restore_7 (by decide) (fun c7 => ?_) (fun c7 => ?_)
  · have hf := if_f hf c7
    refine lv_aload_n hx hb dX0_restore_13 rfl (lv_at hl 0 rfl) ?_
    refine va_get (ci := 1) (C := RX0) (T := TX0) (N := 14) hx hb hts in_X0 hown hK hw.1 7 rfl rfl 8 (by decide) (hts _ q302) (fun _ h9 => h9) rfl dX0_restore_14 ?_
    refine lv_iload_n hx hb dX0_restore_17 rfl (lv_at hl 1 rfl) ?_
    obtain ⟨o2, hrd, hf⟩ := op_e hf
    refine x_aald (q0 := 8) (t0 := 4) cx hw rfl rfl hrd dX0_restore_18 ?_
    by_cases c19 : o2 = none
    · have hf := if_t hf c19
      refine W.eq (g2 := F0 m 19 ls [.null]) (by rw [c19]; rfl) ?_
      refine lv_ifnonnullN hx hb dX0_restore_19 ?_
      refine lv_ldc (v := (-1000002)) hx hb hown (hts _ q764) dX0_restore_22 ?_
      have hf := sm_e hf
      subst hf
      exact x_retI cx hw rfl () rfl [0, 1, 2, 3, 4, 5, 6, 7, 8] rfl rfl (Nat.le_of_ble_eq_true rfl) (Nat.le_of_ble_eq_true rfl) dX0_restore_24
    · have hf := if_f hf c19
      obtain ⟨e3, hee3⟩ := Option.ne_none_iff_exists'.mp c19
      refine W.eq (g2 := F0 m 19 ls [.ref e3]) (by rw [hee3]; rfl) ?_
      refine lv_ifnonnull (tgt := 25) hx hb dX0_restore_19 (by decide) ?_
      cases hf
  · have hf := if_t hf c7
    refine lv_ldc (v := (-1000001)) hx hb hown (hts _ q350) dX0_restore_10 ?_
    have hf := sm_e hf
    subst hf
    exact x_retI cx hw rfl () rfl [0, 1, 2, 3, 4, 5, 6, 7, 8] rfl rfl (Nat.le_of_ble_eq_true rfl) (Nat.le_of_ble_eq_true rfl) dX0_restore_12
set_option maxHeartbeats 4000000 in
theorem mX0_restore_1 (l : Launch) (D : va_G) (d : Nat → ClassId) (cs : Nat → Nat) (wi : va_W) (ln : Nat → Option Int32) (lf : Nat → Nat → Option Nat) (dk : Nat → Option Nat) (dn : Nat → Int32) (him : ImF d wi ln lf dk dn) (ha : Nat → Nat) (qa : Nat → Nat) (sa : Nat → Nat) (ta : Nat → Nat) (hv : HV) (qv : HV) (gt : Int32) (gf : Int32) (gc : Int32) (tra : Nat) (gs : Int32) (IA : Nat → Option Nat) (p1 : Int32)  (res : Int32 × HV × Int32) (hf : fX0_restore_1 qa hv qv gc IA p1 = some res) : MetI l yX0_restore (ws_ yX0_restore cX0_restore 2 (some .int)) { frames := 2, cells := 0, slots := 0, locals := 61 } [.ref (sa 0), .int p1] (XI D cs wi) D d [oH ha (Hfl hv) (Hro hv) (Hrp hv) (Hca hv) (Hwy hv) (Hla hv) (Hmi hv) (Htf hv) (Htk hv), aV d ha 1 (HHO hv), aV d ha 2 (HAT hv), aV d ha 3 (HTO hv), aV d ha 4 (HWE hv), aV d ha 5 (HHE hv), aV d ha 6 (HRA hv), oH qa (Hfl qv) (Hro qv) (Hrp qv) (Hca qv) (Hwy qv) (Hla qv) (Hmi qv) (Htf qv) (Htk qv), aV d qa 1 (HHO qv), aV d qa 2 (HAT qv), aV d qa 3 (HTO qv), aV d qa 4 (HWE qv), aV d qa 5 (HHE qv), aV d qa 6 (HRA qv), oS sa ha ta gt gf gc tra gs, ((sa 4), .inl (d 4, 2, .inr (.inr (.inr (.inr IA)))))] (fun r (_ : Unit) => r = res.1) (fun _ => [oH ha (Hfl res.2.1) (Hro res.2.1) (Hrp res.2.1) (Hca res.2.1) (Hwy res.2.1) (Hla res.2.1) (Hmi res.2.1) (Htf res.2.1) (Htk res.2.1), aV d ha 1 (HHO res.2.1), aV d ha 2 (HAT res.2.1), aV d ha 3 (HTO res.2.1), aV d ha 4 (HWE res.2.1), aV d ha 5 (HHE res.2.1), aV d ha 6 (HRA res.2.1), oH qa (Hfl qv) (Hro qv) (Hrp qv) (Hca qv) (Hwy qv) (Hla qv) (Hmi qv) (Htf qv) (Htk qv), aV d qa 1 (HHO qv), aV d qa 2 (HAT qv), aV d qa 3 (HTO qv), aV d qa 4 (HWE qv), aV d qa 5 (HHE qv), aV d qa 6 (HRA qv), oS sa ha ta gt gf res.2.2 tra gs, ((sa 4), .inl (d 4, 2, .inr (.inr (.inr (.inr IA)))))]) := by
  have hX := XI.ok (D := D) (cs := cs) (wi := wi)
  refine MetI.of (by decide +kernel) (Nat.le_of_ble_eq_true rfl) ?_
  intro p e s m below meth c A cx hw ls hl
  have cx : Cx p s m _ meth c (XI D cs wi) D d A "DishLift" cX0_restore 2 (some .int) "restore" := cx
  have cx' := cx
  obtain ⟨hx, hb, hr, hlk, hml, hown, hts, hK, hA, hXs, hnm⟩ := cx'
  have hl : lv_has ls 2 [(0, .ref (sa 0)), (1, .int p1)] := hl
  generalize hlo : ([] : List Loc) = locs at hw ⊢
  unfold fX0_restore_1 at hf
  refine lv_iload_n hx hb dX0_restore_0 rfl (lv_at hl 1 rfl) ?_
  refine lv_i2l (v := p1.toInt64) hx hb dX0_restore_1 rfl ?_
  refine lv_lconst (v := 0) hx hb dX0_restore_2 (by decide) ?_
  refine lv_lconst (v := 1) hx hb dX0_restore_3 (by decide) ?_
  obtain ⟨q1, hcq1, hf⟩ := op_e hf
  refine x_SI (wr := [oH ha (Hfl hv) (Hro hv) (Hrp hv) (Hca hv) (Hwy hv) (Hla hv) (Hmi hv) (Htf hv) (Htk hv), aV d ha 1 (HHO hv), aV d ha 2 (HAT hv), aV d ha 3 (HTO hv), aV d ha 4 (HWE hv), aV d ha 5 (HHE hv), aV d ha 6 (HRA hv), oH qa (Hfl qv) (Hro qv) (Hrp qv) (Hca qv) (Hwy qv) (Hla qv) (Hmi qv) (Htf qv) (Htk qv), aV d qa 1 (HHO qv), aV d qa 2 (HAT qv), aV d qa 3 (HTO qv), aV d qa 4 (HWE qv), aV d qa 5 (HHE qv), aV d qa 6 (HRA qv), oS sa ha ta gt gf gc tra gs, ((sa 4), .inl (d 4, 2, .inr (.inr (.inr (.inr IA)))))]) (rest := []) [.long p1.toInt64, .long 0, .long 1] hX cx hw hl.1 (mX0_isIn l (XI D cs wi) hX D d  p1.toInt64 0 1  q1 hcq1) (lw_S q346 q347 q82 q348) hd_X0_isIn ⟨(Nat.le_of_ble_eq_true rfl), (Nat.le_of_ble_eq_true rfl)⟩ rfl rfl (Nat.le_of_ble_eq_true rfl) dX0_restore_4 [] [0, 1, 2, 3, 4, 5, 6, 7, 8, 9, 10, 11, 12, 13, 14, 15] rfl rfl rfl rfl (by decide) ⟨(Nat.le_of_ble_eq_true rfl), (Nat.le_of_ble_eq_true rfl)⟩ (fun r u H locs hp hw => ?_)
  have hw : Wd D A s [oH ha (Hfl hv) (Hro hv) (Hrp hv) (Hca hv) (Hwy hv) (Hla hv) (Hmi hv) (Htf hv) (Htk hv), aV d ha 1 (HHO hv), aV d ha 2 (HAT hv), aV d ha 3 (HTO hv), aV d ha 4 (HWE hv), aV d ha 5 (HHE hv), aV d ha 6 (HRA hv), oH qa (Hfl qv) (Hro qv) (Hrp qv) (Hca qv) (Hwy qv) (Hla qv) (Hmi qv) (Htf qv) (Htk qv), aV d qa 1 (HHO qv), aV d qa 2 (HAT qv), aV d qa 3 (HTO qv), aV d qa 4 (HWE qv), aV d qa 5 (HHE qv), aV d qa 6 (HRA qv), oS sa ha ta gt gf gc tra gs, ((sa 4), .inl (d 4, 2, .inr (.inr (.inr (.inr IA)))))] H locs := hw
  subst r
  refine lv_if_ne (tgt := 13) hx hb dX0_restore_7 (by decide) (fun c7 => ?_) (fun c7 => ?_)
  · have hf := if_f hf c7
    refine lv_aload_n hx hb dX0_restore_13 rfl (lv_at hl 0 rfl) ?_
    refine va_get (ci := 1) (C := RX0) (T := TX0) (N := 14) hx hb hts in_X0 hown hK hw.1 14 rfl rfl 8 (by decide) (hts _ q302) (fun _ h9 => h9) rfl dX0_restore_14 ?_
    refine lv_iload_n hx hb dX0_restore_17 rfl (lv_at hl 1 rfl) ?_
    obtain ⟨o2, hrd, hf⟩ := op_e hf
    refine x_aald (q0 := 15) (t0 := 4) cx hw rfl rfl hrd dX0_restore_18 ?_
    by_cases c19 : o2 = none
    · have hf := if_t hf c19
      refine W.eq (g2 := F0 m 19 ls [.null]) (by rw [c19]; rfl) ?_
      refine lv_ifnonnullN hx hb dX0_restore_19 ?_
      cases hf
    · have hf := if_f hf c19
      obtain ⟨e3, hee3⟩ := Option.ne_none_iff_exists'.mp c19
      refine W.eq (g2 := F0 m 19 ls [.ref e3]) (by rw [hee3]; rfl) ?_
      refine lv_ifnonnull (tgt := 25) hx hb dX0_restore_19 (by decide) ?_
      refine lv_aload_n hx hb dX0_restore_25 rfl (lv_at hl 0 rfl) ?_
      refine va_get (ci := 1) (C := RX0) (T := TX0) (N := 14) hx hb hts in_X0 hown hK hw.1 14 rfl rfl 4 (by decide) (hts _ q298) (fun _ h9 => h9) rfl dX0_restore_26 ?_
      refine lv_aload_n hx hb dX0_restore_29 rfl (lv_at hl 0 rfl) ?_
      refine va_get (ci := 1) (C := RX0) (T := TX0) (N := 14) hx hb hts in_X0 hown hK hw.1 14 rfl rfl 8 (by decide) (hts _ q302) (fun _ h9 => h9) rfl dX0_restore_30 ?_
      refine lv_iload_n hx hb dX0_restore_33 rfl (lv_at hl 1 rfl) ?_
      obtain ⟨o4, hrd, hf⟩ := op_e hf
      refine x_aald (q0 := 15) (t0 := 4) cx hw rfl rfl hrd dX0_restore_34 ?_
      obtain ⟨e5, ho, hf⟩ := op_e hf
      obtain ⟨g6, hgq, hf⟩ := op_e hf
      have hgq := eqa_spec hgq
      refine W.eq (g2 := F0 m 35 ls [.ref (qa 0), .ref (ha 0)]) (by rw [ho, hgq]; rfl) ?_
      obtain ⟨q7, hcq7, hf⟩ := op_e hf
      refine x_VA (wr := [oS sa ha ta gt gf gc tra gs, ((sa 4), .inl (d 4, 2, .inr (.inr (.inr (.inr IA)))))]) (rest := []) [.ref (qa 0)] hX cx hw hl.1 (vX1_become l  D d cs wi ln lf dk dn him ha qa hv qv  q7 hcq7) (lw_V q750 q751 q752 q83 q753) hd_X1_become ⟨(Nat.le_of_ble_eq_true rfl), (Nat.le_of_ble_eq_true rfl)⟩ (va_recv hK hw.1 (ci := 2) (q0 := 0) rfl rfl) rfl rfl (Nat.le_of_ble_eq_true rfl) dX0_restore_35 [0, 1, 2, 3, 4, 5, 6, 7, 8, 9, 10, 11, 12, 13] [14, 15] rfl rfl rfl rfl (by decide) ⟨(Nat.le_of_ble_eq_true rfl), (Nat.le_of_ble_eq_true rfl)⟩ (fun u H locs hp hw => ?_)
      have hw : Wd D A s [oS sa ha ta gt gf gc tra gs, ((sa 4), .inl (d 4, 2, .inr (.inr (.inr (.inr IA))))), oH ha (Hfl q7) (Hro q7) (Hrp q7) (Hca q7) (Hwy q7) (Hla q7) (Hmi q7) (Htf q7) (Htk q7), aV d ha 1 (HHO q7), aV d ha 2 (HAT q7), aV d ha 3 (HTO q7), aV d ha 4 (HWE q7), aV d ha 5 (HHE q7), aV d ha 6 (HRA q7), oH qa (Hfl qv) (Hro qv) (Hrp qv) (Hca qv) (Hwy qv) (Hla qv) (Hmi qv) (Htf qv) (Htk qv), aV d qa 1 (HHO qv), aV d qa 2 (HAT qv), aV d qa 3 (HTO qv), aV d qa 4 (HWE qv), aV d qa 5 (HHE qv), aV d qa 6 (HRA qv)] H locs := hw
      refine lv_pop hx hb dX0_restore_38 rfl ?_
      refine lv_aload_n hx hb dX0_restore_39 rfl (lv_at hl 0 rfl) ?_
      refine lv_iconst (v := 0) hx hb dX0_restore_40 (by decide) ?_
      refine va_put (ci := 1) (v := .int 0) (ty := .int) (C := RX0) (T := TX0) (N := 14) hx hb hts in_X0 tyX0 tyX0_ok nmX0 hown hK hw.1 hw.2.1 hw.2.2 0 rfl rfl 7 (by decide) (hts _ q301) (fun _ h9 => h9) rfl (by decide +kernel) rfl rfl (Nat.le_of_ble_eq_true rfl) dX0_restore_41 (fun H locs hP hD hS => ?_)
      have hw : Wd D A s [oS sa ha ta gt gf 0 tra gs, ((sa 4), .inl (d 4, 2, .inr (.inr (.inr (.inr IA))))), oH ha (Hfl q7) (Hro q7) (Hrp q7) (Hca q7) (Hwy q7) (Hla q7) (Hmi q7) (Htf q7) (Htk q7), aV d ha 1 (HHO q7), aV d ha 2 (HAT q7), aV d ha 3 (HTO q7), aV d ha 4 (HWE q7), aV d ha 5 (HHE q7), aV d ha 6 (HRA q7), oH qa (Hfl qv) (Hro qv) (Hrp qv) (Hca qv) (Hwy qv) (Hla qv) (Hmi qv) (Htf qv) (Htk qv), aV d qa 1 (HHO qv), aV d qa 2 (HAT qv), aV d qa 3 (HTO qv), aV d qa 4 (HWE qv), aV d qa 5 (HHE qv), aV d qa 6 (HRA qv)] H locs := ⟨hP, hD, hS⟩
      refine lv_iconst (v := 1) hx hb dX0_restore_44 (by decide) ?_
      have hf := sm_e hf
      subst hf
      exact x_retI cx hw rfl () rfl [2, 3, 4, 5, 6, 7, 8, 9, 10, 11, 12, 13, 14, 15, 0, 1] rfl rfl (Nat.le_of_ble_eq_true rfl) (Nat.le_of_ble_eq_true rfl) dX0_restore_45
  · have hf := if_t hf c7
    refine lv_ldc (v := (-1000001)) hx hb hown (hts _ q350) dX0_restore_10 ?_
    have hf := sm_e hf
    subst hf
    exact x_retI cx hw rfl () rfl [0, 1, 2, 3, 4, 5, 6, 7, 8, 9, 10, 11, 12, 13, 14, 15] rfl rfl (Nat.le_of_ble_eq_true rfl) (Nat.le_of_ble_eq_true rfl) dX0_restore_12
theorem hd_X0_image : yX0_image.cls = "DishLift" ∧ yX0_image.cls ≠ "java/lang/invoke/MethodHandle" ∧ yX0_image.cls ≠ "java/lang/invoke/VarHandle" ∧ (parseMethodDescriptor yX0_image.desc).map (fun d => d.parameters.length) = some 1 := by decide +kernel
set_option maxHeartbeats 4000000 in
theorem mX0_image_0 (l : Launch) (D : va_G) (d : Nat → ClassId) (cs : Nat → Nat) (wi : va_W) (ln : Nat → Option Int32) (lf : Nat → Nat → Option Nat) (dk : Nat → Option Nat) (dn : Nat → Int32) (him : ImF d wi ln lf dk dn) (ha : Nat → Nat) (sa : Nat → Nat) (ta : Nat → Nat) (hv : HV) (gt : Int32) (gf : Int32) (gc : Int32) (tra : Nat) (gs : Int32) (IA : Nat → Option Nat) (p1 : Int32)  (res : Int32 × Bool × HV) (hf : fX0_image_0 hv IA p1 = some res) : MetI l yX0_image (ws_ yX0_image cX0_image 2 (some .int)) { frames := 5, cells := 8, slots := 54, locals := 121 } [.ref (sa 0), .int p1] (XI D cs wi) D d [oH ha (Hfl hv) (Hro hv) (Hrp hv) (Hca hv) (Hwy hv) (Hla hv) (Hmi hv) (Htf hv) (Htk hv), aV d ha 1 (HHO hv), aV d ha 2 (HAT hv), aV d ha 3 (HTO hv), aV d ha 4 (HWE hv), aV d ha 5 (HHE hv), aV d ha 6 (HRA hv), oS sa ha ta gt gf gc tra gs, ((sa 4), .inl (d 4, 2, .inr (.inr (.inr (.inr IA)))))] (fun r (_ : Nat → Nat) => r = res.1) (fun (qa : Nat → Nat) => match res.2.1 with | true => [oH ha (Hfl hv) (Hro hv) (Hrp hv) (Hca hv) (Hwy hv) (Hla hv) (Hmi hv) (Htf hv) (Htk hv), aV d ha 1 (HHO hv), aV d ha 2 (HAT hv), aV d ha 3 (HTO hv), aV d ha 4 (HWE hv), aV d ha 5 (HHE hv), aV d ha 6 (HRA hv), oS sa ha ta gt gf gc tra gs, ((sa 4), .inl (d 4, 2, .inr (.inr (.inr (.inr (va_up IA p1.toNatClampNeg (some (qa 0)))))))), oH qa (Hfl res.2.2) (Hro res.2.2) (Hrp res.2.2) (Hca res.2.2) (Hwy res.2.2) (Hla res.2.2) (Hmi res.2.2) (Htf res.2.2) (Htk res.2.2), aV d qa 1 (HHO res.2.2), aV d qa 2 (HAT res.2.2), aV d qa 3 (HTO res.2.2), aV d qa 4 (HWE res.2.2), aV d qa 5 (HHE res.2.2), aV d qa 6 (HRA res.2.2)] | false => [oH ha (Hfl hv) (Hro hv) (Hrp hv) (Hca hv) (Hwy hv) (Hla hv) (Hmi hv) (Htf hv) (Htk hv), aV d ha 1 (HHO hv), aV d ha 2 (HAT hv), aV d ha 3 (HTO hv), aV d ha 4 (HWE hv), aV d ha 5 (HHE hv), aV d ha 6 (HRA hv), oS sa ha ta gt gf gc tra gs, ((sa 4), .inl (d 4, 2, .inr (.inr (.inr (.inr IA)))))]) := by
  have hX := XI.ok (D := D) (cs := cs) (wi := wi)
  refine MetI.of (by decide +kernel) (Nat.le_of_ble_eq_true rfl) ?_
  intro p e s m below meth c A cx hw ls hl
  have cx : Cx p s m _ meth c (XI D cs wi) D d A "DishLift" cX0_image 2 (some .int) "image" := cx
  have cx' := cx
  obtain ⟨hx, hb, hr, hlk, hml, hown, hts, hK, hA, hXs, hnm⟩ := cx'
  have hl : lv_has ls 2 [(0, .ref (sa 0)), (1, .int p1)] := hl
  generalize hlo : ([] : List Loc) = locs at hw ⊢
  unfold fX0_image_0 at hf
  refine lv_iload_n hx hb dX0_image_0 rfl (lv_at hl 1 rfl) ?_
  refine lv_i2l (v := p1.toInt64) hx hb dX0_image_1 rfl ?_
  refine lv_lconst (v := 0) hx hb dX0_image_2 (by decide) ?_
  refine lv_lconst (v := 1) hx hb dX0_image_3 (by decide) ?_
  obtain ⟨q1, hcq1, hf⟩ := op_e hf
  refine x_SI (wr := [oH ha (Hfl hv) (Hro hv) (Hrp hv) (Hca hv) (Hwy hv) (Hla hv) (Hmi hv) (Htf hv) (Htk hv), aV d ha 1 (HHO hv), aV d ha 2 (HAT hv), aV d ha 3 (HTO hv), aV d ha 4 (HWE hv), aV d ha 5 (HHE hv), aV d ha 6 (HRA hv), oS sa ha ta gt gf gc tra gs, ((sa 4), .inl (d 4, 2, .inr (.inr (.inr (.inr IA)))))]) (rest := []) [.long p1.toInt64, .long 0, .long 1] hX cx hw hl.1 (mX0_isIn l (XI D cs wi) hX D d  p1.toInt64 0 1  q1 hcq1) (lw_S q346 q347 q82 q348) hd_X0_isIn ⟨(Nat.le_of_ble_eq_true rfl), (Nat.le_of_ble_eq_true rfl)⟩ rfl rfl (Nat.le_of_ble_eq_true rfl) dX0_image_4 [] [0, 1, 2, 3, 4, 5, 6, 7, 8] rfl rfl rfl rfl (by decide) ⟨(Nat.le_of_ble_eq_true rfl), (Nat.le_of_ble_eq_true rfl)⟩ (fun r u H locs hp hw => ?_)
  have hw : Wd D A s [oH ha (Hfl hv) (Hro hv) (Hrp hv) (Hca hv) (Hwy hv) (Hla hv) (Hmi hv) (Htf hv) (Htk hv), aV d ha 1 (HHO hv), aV d ha 2 (HAT hv), aV d ha 3 (HTO hv), aV d ha 4 (HWE hv), aV d ha 5 (HHE hv), aV d ha 6 (HRA hv), oS sa ha ta gt gf gc tra gs, ((sa 4), .inl (d 4, 2, .inr (.inr (.inr (.inr IA)))))] H locs := hw
  subst r
  refine lv_if_ne (tgt := 13) hx hb dX0_image_7 (by decide) (fun c7 => ?_) (fun c7 => ?_)
  · have hf := if_f hf c7
    refine lv_aload_n hx hb dX0_image_13 rfl (lv_at hl 0 rfl) ?_
    obtain ⟨q2, hcq2, hf⟩ := op_e hf
    refine x_VI (wr := [((sa 4), .inl (d 4, 2, .inr (.inr (.inr (.inr IA)))))]) (rest := []) [] hX cx hw hl.1 (mX0_isHouse l  D d cs wi ln lf dk dn him ha sa ta hv gt gf gc tra gs  q2 hcq2) (lw_V q769 q771 qs17 q82 q772) hd_X0_isHouse ⟨(Nat.le_of_ble_eq_true rfl), (Nat.le_of_ble_eq_true rfl)⟩ (va_recv hK hw.1 (ci := 1) (q0 := 7) rfl rfl) rfl rfl (Nat.le_of_ble_eq_true rfl) dX0_image_14 [0, 1, 2, 3, 4, 5, 6, 7] [8] rfl rfl rfl rfl (by decide) ⟨(Nat.le_of_ble_eq_true rfl), (Nat.le_of_ble_eq_true rfl)⟩ (fun r u H locs hp hw => ?_)
    have hw : Wd D A s [((sa 4), .inl (d 4, 2, .inr (.inr (.inr (.inr IA))))), oH ha (Hfl hv) (Hro hv) (Hrp hv) (Hca hv) (Hwy hv) (Hla hv) (Hmi hv) (Htf hv) (Htk hv), aV d ha 1 (HHO hv), aV d ha 2 (HAT hv), aV d ha 3 (HTO hv), aV d ha 4 (HWE hv), aV d ha 5 (HHE hv), aV d ha 6 (HRA hv), oS sa ha ta gt gf gc tra gs] H locs := hw
    subst r
    refine lv_if_ne (tgt := 23) hx hb dX0_image_17 (by decide) (fun c17 => ?_) (fun c17 => ?_)
    · have hf := if_f hf c17
      refine lv_aload_n hx hb dX0_image_23 rfl (lv_at hl 0 rfl) ?_
      refine va_get (ci := 1) (C := RX0) (T := TX0) (N := 14) hx hb hts in_X0 hown hK hw.1 8 rfl rfl 8 (by decide) (hts _ q302) (fun _ h9 => h9) rfl dX0_image_24 ?_
      refine lv_iload_n hx hb dX0_image_27 rfl (lv_at hl 1 rfl) ?_
      obtain ⟨o3, hrd, hf⟩ := op_e hf
      refine x_aald (q0 := 0) (t0 := 4) cx hw rfl rfl hrd dX0_image_28 ?_
      by_cases c29 : o3 = none
      · have hf := if_t hf c29
        refine W.eq (g2 := F0 m 29 ls [.null]) (by rw [c29]; rfl) ?_
        refine lv_ifnonnullN hx hb dX0_image_29 ?_
        refine lv_aload_n hx hb dX0_image_32 rfl (lv_at hl 0 rfl) ?_
        refine va_get (ci := 1) (C := RX0) (T := TX0) (N := 14) hx hb hts in_X0 hown hK hw.1 8 rfl rfl 8 (by decide) (hts _ q302) (fun _ h9 => h9) rfl dX0_image_33 ?_
        refine lv_iload_n hx hb dX0_image_36 rfl (lv_at hl 1 rfl) ?_
        refine va_new (ci := 2) (fs := [.int 0, .int 0, .int 0, .int 0, .int 0, .null, .null, .null, .null, .null, .null, .null, .int 0, .int 0, .null]) (C := RX1) (T := TX1) (N := 15) hx hb hts in_X1 tyX1 tyX1_ok hown (hts _ q125) (hts _ q126) (hts _ q83) hK hw.1 hw.2.1 hw.2.2 hA rfl (fun j hj => match j, hj with | 0, _ => rfl | 1, _ => rfl | 2, _ => rfl | 3, _ => rfl | 4, _ => rfl | 5, _ => rfl | 6, _ => rfl | 7, _ => rfl | 8, _ => rfl | 9, _ => rfl | 10, _ => rfl | 11, _ => rfl | 12, _ => rfl | 13, _ => rfl | 14, _ => rfl | j + 15, hj => absurd hj (by omega)) (Nat.le_of_ble_eq_true rfl) (Nat.le_of_ble_eq_true rfl) dX0_image_37 (fun a5 H hP hD hS => ?_)
        have hw : Wd D A s [((sa 4), .inl (d 4, 2, .inr (.inr (.inr (.inr IA))))), oH ha (Hfl hv) (Hro hv) (Hrp hv) (Hca hv) (Hwy hv) (Hla hv) (Hmi hv) (Htf hv) (Htk hv), aV d ha 1 (HHO hv), aV d ha 2 (HAT hv), aV d ha 3 (HTO hv), aV d ha 4 (HWE hv), aV d ha 5 (HHE hv), aV d ha 6 (HRA hv), oS sa ha ta gt gf gc tra gs, (a5, .inr (2, [.int 0, .int 0, .int 0, .int 0, .int 0, .null, .null, .null, .null, .null, .null, .null, .int 0, .int 0, .null]))] H locs := ⟨hP, hD, hS⟩
        refine W.widen (k := 1) (n := 15) (Nat.le_of_ble_eq_true rfl) (Nat.le_of_ble_eq_true rfl) ?_
        refine lv_dup hx hb dX0_image_40 rfl ?_
        refine x_NV (wr := [((sa 4), .inl (d 4, 2, .inr (.inr (.inr (.inr IA))))), oH ha (Hfl hv) (Hro hv) (Hrp hv) (Hca hv) (Hwy hv) (Hla hv) (Hmi hv) (Htf hv) (Htk hv), aV d ha 1 (HHO hv), aV d ha 2 (HAT hv), aV d ha 3 (HTO hv), aV d ha 4 (HWE hv), aV d ha 5 (HHE hv), aV d ha 6 (HRA hv), oS sa ha ta gt gf gc tra gs]) (rest := [.ref a5, .int p1, .ref (sa 4)]) [] hX cx hw hl.1 (vX1_init l cs wi D d a5) q129 q83 q127 q128 rfl hd_X1_init ⟨(Nat.le_of_ble_eq_true rfl), (Nat.le_of_ble_eq_true rfl)⟩ rfl rfl (Nat.le_of_ble_eq_true rfl) dX0_image_41 [9] [0, 1, 2, 3, 4, 5, 6, 7, 8] rfl rfl rfl rfl (by decide) ⟨(Nat.le_of_ble_eq_true rfl), (Nat.le_of_ble_eq_true rfl)⟩ (fun qa H locs hp hw9 => ?_)
        have hp : qa 0 = a5 := hp
        subst hp
        have hw : Wd D A s [((sa 4), .inl (d 4, 2, .inr (.inr (.inr (.inr IA))))), oH ha (Hfl hv) (Hro hv) (Hrp hv) (Hca hv) (Hwy hv) (Hla hv) (Hmi hv) (Htf hv) (Htk hv), aV d ha 1 (HHO hv), aV d ha 2 (HAT hv), aV d ha 3 (HTO hv), aV d ha 4 (HWE hv), aV d ha 5 (HHE hv), aV d ha 6 (HRA hv), oS sa ha ta gt gf gc tra gs, oH qa (Hfl (hv0 (qa 7))) (Hro (hv0 (qa 7))) (Hrp (hv0 (qa 7))) (Hca (hv0 (qa 7))) (Hwy (hv0 (qa 7))) (Hla (hv0 (qa 7))) (Hmi (hv0 (qa 7))) (Htf (hv0 (qa 7))) (Htk (hv0 (qa 7))), ((qa 7), .inr (3, [.int 0, .ref (cs 0), .int 0])), aV d qa 1 (HHO (hv0 (qa 7))), aV d qa 2 (HAT (hv0 (qa 7))), aV d qa 3 (HTO (hv0 (qa 7))), aV d qa 4 (HWE (hv0 (qa 7))), aV d qa 5 (HHE (hv0 (qa 7))), aV d qa 6 (HRA (hv0 (qa 7)))] H locs := hw9
        refine W.widen (k := 8) (n := 54) (Nat.le_of_ble_eq_true rfl) (Nat.le_of_ble_eq_true rfl) ?_
        obtain ⟨g6, hgi, hf⟩ := op_e hf
        refine va_astq hx hb hK hw.1 hw.2.1 hw.2.2 0 4 9 2 rfl rfl rfl rfl (gix_spec hgi) dX0_image_44 (fun H locs hP hD hS => ?_)
        have hw : Wd D A s [((sa 4), .inl (d 4, 2, .inr (.inr (.inr (.inr (va_up IA p1.toNatClampNeg (some (qa 0)))))))), oH ha (Hfl hv) (Hro hv) (Hrp hv) (Hca hv) (Hwy hv) (Hla hv) (Hmi hv) (Htf hv) (Htk hv), aV d ha 1 (HHO hv), aV d ha 2 (HAT hv), aV d ha 3 (HTO hv), aV d ha 4 (HWE hv), aV d ha 5 (HHE hv), aV d ha 6 (HRA hv), oS sa ha ta gt gf gc tra gs, oH qa (Hfl (hv0 (qa 7))) (Hro (hv0 (qa 7))) (Hrp (hv0 (qa 7))) (Hca (hv0 (qa 7))) (Hwy (hv0 (qa 7))) (Hla (hv0 (qa 7))) (Hmi (hv0 (qa 7))) (Htf (hv0 (qa 7))) (Htk (hv0 (qa 7))), ((qa 7), .inr (3, [.int 0, .ref (cs 0), .int 0])), aV d qa 1 (HHO (hv0 (qa 7))), aV d qa 2 (HAT (hv0 (qa 7))), aV d qa 3 (HTO (hv0 (qa 7))), aV d qa 4 (HWE (hv0 (qa 7))), aV d qa 5 (HHE (hv0 (qa 7))), aV d qa 6 (HRA (hv0 (qa 7)))] H locs := ⟨hP, hD, hS⟩
        refine lv_aload_n hx hb dX0_image_45 rfl (lv_at hl 0 rfl) ?_
        refine va_get (ci := 1) (C := RX0) (T := TX0) (N := 14) hx hb hts in_X0 hown hK hw.1 8 rfl rfl 8 (by decide) (hts _ q302) (fun _ h9 => h9) rfl dX0_image_46 ?_
        refine lv_iload_n hx hb dX0_image_49 rfl (lv_at hl 1 rfl) ?_
        refine x_aald (q0 := 0) (t0 := 4) (v := some (qa 0)) cx hw rfl rfl (rdq_up (gix_spec hgi)) dX0_image_50 ?_
        refine W.eq (g2 := F0 m 51 ls [.ref (qa 0)]) rfl ?_
        refine lv_aload_n hx hb dX0_image_51 rfl (lv_at hl 0 rfl) ?_
        refine va_get (ci := 1) (C := RX0) (T := TX0) (N := 14) hx hb hts in_X0 hown hK hw.1 8 rfl rfl 4 (by decide) (hts _ q298) (fun _ h9 => h9) rfl dX0_image_52 ?_
        obtain ⟨q7, hcq7, hf⟩ := op_e hf
        refine x_VA (wr := [((sa 4), .inl (d 4, 2, .inr (.inr (.inr (.inr (va_up IA p1.toNatClampNeg (some (qa 0)))))))), oS sa ha ta gt gf gc tra gs, ((qa 7), .inr (3, [.int 0, .ref (cs 0), .int 0]))]) (rest := []) [.ref (ha 0)] hX cx hw hl.1 (vX1_become l  D d cs wi ln lf dk dn him qa ha (hv0 (qa 7)) hv  q7 hcq7) (lw_V q750 q751 q752 q83 q753) hd_X1_become ⟨(Nat.le_of_ble_eq_true rfl), (Nat.le_of_ble_eq_true rfl)⟩ (va_recv hK hw.1 (ci := 2) (q0 := 9) rfl rfl) rfl rfl (Nat.le_of_ble_eq_true rfl) dX0_image_55 [9, 11, 12, 13, 14, 15, 16, 1, 2, 3, 4, 5, 6, 7] [0, 8, 10] rfl rfl rfl rfl (by decide) ⟨(Nat.le_of_ble_eq_true rfl), (Nat.le_of_ble_eq_true rfl)⟩ (fun u H locs hp hw => ?_)
        have hw : Wd D A s [((sa 4), .inl (d 4, 2, .inr (.inr (.inr (.inr (va_up IA p1.toNatClampNeg (some (qa 0)))))))), oS sa ha ta gt gf gc tra gs, ((qa 7), .inr (3, [.int 0, .ref (cs 0), .int 0])), oH qa (Hfl q7) (Hro q7) (Hrp q7) (Hca q7) (Hwy q7) (Hla q7) (Hmi q7) (Htf q7) (Htk q7), aV d qa 1 (HHO q7), aV d qa 2 (HAT q7), aV d qa 3 (HTO q7), aV d qa 4 (HWE q7), aV d qa 5 (HHE q7), aV d qa 6 (HRA q7), oH ha (Hfl hv) (Hro hv) (Hrp hv) (Hca hv) (Hwy hv) (Hla hv) (Hmi hv) (Htf hv) (Htk hv), aV d ha 1 (HHO hv), aV d ha 2 (HAT hv), aV d ha 3 (HTO hv), aV d ha 4 (HWE hv), aV d ha 5 (HHE hv), aV d ha 6 (HRA hv)] H locs := hw
        refine lv_pop hx hb dX0_image_58 rfl ?_
        refine lv_iconst (v := 1) hx hb dX0_image_59 (by decide) ?_
        have hf := sm_e hf
        subst hf
        exact x_retI cx hw rfl qa rfl [10, 11, 12, 13, 14, 15, 16, 1, 0, 3, 4, 5, 6, 7, 8, 9] rfl rfl (Nat.le_of_ble_eq_true rfl) (Nat.le_of_ble_eq_true rfl) dX0_image_60
      · have hf := if_f hf c29
        obtain ⟨e4, hee4⟩ := Option.ne_none_iff_exists'.mp c29
        refine W.eq (g2 := F0 m 29 ls [.ref e4]) (by rw [hee4]; rfl) ?_
        refine lv_ifnonnull (tgt := 45) hx hb dX0_image_29 (by decide) ?_
        cases hf
    · have hf := if_t hf c17
      refine lv_ldc (v := (-1000002)) hx hb hown (hts _ q764) dX0_image_20 ?_
      have hf := sm_e hf
      subst hf
      exact x_retI cx hw rfl (fun _ => 0) rfl [1, 2, 3, 4, 5, 6, 7, 8, 0] rfl rfl (Nat.le_of_ble_eq_true rfl) (Nat.le_of_ble_eq_true rfl) dX0_image_22
  · have hf := if_t hf c7
    refine lv_ldc (v := (-1000001)) hx hb hown (hts _ q350) dX0_image_10 ?_
    have hf := sm_e hf
    subst hf
    exact x_retI cx hw rfl (fun _ => 0) rfl [0, 1, 2, 3, 4, 5, 6, 7, 8] rfl rfl (Nat.le_of_ble_eq_true rfl) (Nat.le_of_ble_eq_true rfl) dX0_image_12
set_option maxHeartbeats 4000000 in
theorem mX0_image_1 (l : Launch) (D : va_G) (d : Nat → ClassId) (cs : Nat → Nat) (wi : va_W) (ln : Nat → Option Int32) (lf : Nat → Nat → Option Nat) (dk : Nat → Option Nat) (dn : Nat → Int32) (him : ImF d wi ln lf dk dn) (ha : Nat → Nat) (qa : Nat → Nat) (sa : Nat → Nat) (ta : Nat → Nat) (hv : HV) (qv : HV) (gt : Int32) (gf : Int32) (gc : Int32) (tra : Nat) (gs : Int32) (IA : Nat → Option Nat) (p1 : Int32)  (res : Int32 × HV) (hf : fX0_image_1 qa hv qv IA p1 = some res) : MetI l yX0_image (ws_ yX0_image cX0_image 2 (some .int)) { frames := 2, cells := 0, slots := 0, locals := 61 } [.ref (sa 0), .int p1] (XI D cs wi) D d [oH ha (Hfl hv) (Hro hv) (Hrp hv) (Hca hv) (Hwy hv) (Hla hv) (Hmi hv) (Htf hv) (Htk hv), aV d ha 1 (HHO hv), aV d ha 2 (HAT hv), aV d ha 3 (HTO hv), aV d ha 4 (HWE hv), aV d ha 5 (HHE hv), aV d ha 6 (HRA hv), oH qa (Hfl qv) (Hro qv) (Hrp qv) (Hca qv) (Hwy qv) (Hla qv) (Hmi qv) (Htf qv) (Htk qv), aV d qa 1 (HHO qv), aV d qa 2 (HAT qv), aV d qa 3 (HTO qv), aV d qa 4 (HWE qv), aV d qa 5 (HHE qv), aV d qa 6 (HRA qv), oS sa ha ta gt gf gc tra gs, ((sa 4), .inl (d 4, 2, .inr (.inr (.inr (.inr IA)))))] (fun r (_ : Unit) => r = res.1) (fun _ => [oH ha (Hfl hv) (Hro hv) (Hrp hv) (Hca hv) (Hwy hv) (Hla hv) (Hmi hv) (Htf hv) (Htk hv), aV d ha 1 (HHO hv), aV d ha 2 (HAT hv), aV d ha 3 (HTO hv), aV d ha 4 (HWE hv), aV d ha 5 (HHE hv), aV d ha 6 (HRA hv), oH qa (Hfl res.2) (Hro res.2) (Hrp res.2) (Hca res.2) (Hwy res.2) (Hla res.2) (Hmi res.2) (Htf res.2) (Htk res.2), aV d qa 1 (HHO res.2), aV d qa 2 (HAT res.2), aV d qa 3 (HTO res.2), aV d qa 4 (HWE res.2), aV d qa 5 (HHE res.2), aV d qa 6 (HRA res.2), oS sa ha ta gt gf gc tra gs, ((sa 4), .inl (d 4, 2, .inr (.inr (.inr (.inr IA)))))]) := by
  have hX := XI.ok (D := D) (cs := cs) (wi := wi)
  refine MetI.of (by decide +kernel) (Nat.le_of_ble_eq_true rfl) ?_
  intro p e s m below meth c A cx hw ls hl
  have cx : Cx p s m _ meth c (XI D cs wi) D d A "DishLift" cX0_image 2 (some .int) "image" := cx
  have cx' := cx
  obtain ⟨hx, hb, hr, hlk, hml, hown, hts, hK, hA, hXs, hnm⟩ := cx'
  have hl : lv_has ls 2 [(0, .ref (sa 0)), (1, .int p1)] := hl
  generalize hlo : ([] : List Loc) = locs at hw ⊢
  unfold fX0_image_1 at hf
  refine lv_iload_n hx hb dX0_image_0 rfl (lv_at hl 1 rfl) ?_
  refine lv_i2l (v := p1.toInt64) hx hb dX0_image_1 rfl ?_
  refine lv_lconst (v := 0) hx hb dX0_image_2 (by decide) ?_
  refine lv_lconst (v := 1) hx hb dX0_image_3 (by decide) ?_
  obtain ⟨q1, hcq1, hf⟩ := op_e hf
  refine x_SI (wr := [oH ha (Hfl hv) (Hro hv) (Hrp hv) (Hca hv) (Hwy hv) (Hla hv) (Hmi hv) (Htf hv) (Htk hv), aV d ha 1 (HHO hv), aV d ha 2 (HAT hv), aV d ha 3 (HTO hv), aV d ha 4 (HWE hv), aV d ha 5 (HHE hv), aV d ha 6 (HRA hv), oH qa (Hfl qv) (Hro qv) (Hrp qv) (Hca qv) (Hwy qv) (Hla qv) (Hmi qv) (Htf qv) (Htk qv), aV d qa 1 (HHO qv), aV d qa 2 (HAT qv), aV d qa 3 (HTO qv), aV d qa 4 (HWE qv), aV d qa 5 (HHE qv), aV d qa 6 (HRA qv), oS sa ha ta gt gf gc tra gs, ((sa 4), .inl (d 4, 2, .inr (.inr (.inr (.inr IA)))))]) (rest := []) [.long p1.toInt64, .long 0, .long 1] hX cx hw hl.1 (mX0_isIn l (XI D cs wi) hX D d  p1.toInt64 0 1  q1 hcq1) (lw_S q346 q347 q82 q348) hd_X0_isIn ⟨(Nat.le_of_ble_eq_true rfl), (Nat.le_of_ble_eq_true rfl)⟩ rfl rfl (Nat.le_of_ble_eq_true rfl) dX0_image_4 [] [0, 1, 2, 3, 4, 5, 6, 7, 8, 9, 10, 11, 12, 13, 14, 15] rfl rfl rfl rfl (by decide) ⟨(Nat.le_of_ble_eq_true rfl), (Nat.le_of_ble_eq_true rfl)⟩ (fun r u H locs hp hw => ?_)
  have hw : Wd D A s [oH ha (Hfl hv) (Hro hv) (Hrp hv) (Hca hv) (Hwy hv) (Hla hv) (Hmi hv) (Htf hv) (Htk hv), aV d ha 1 (HHO hv), aV d ha 2 (HAT hv), aV d ha 3 (HTO hv), aV d ha 4 (HWE hv), aV d ha 5 (HHE hv), aV d ha 6 (HRA hv), oH qa (Hfl qv) (Hro qv) (Hrp qv) (Hca qv) (Hwy qv) (Hla qv) (Hmi qv) (Htf qv) (Htk qv), aV d qa 1 (HHO qv), aV d qa 2 (HAT qv), aV d qa 3 (HTO qv), aV d qa 4 (HWE qv), aV d qa 5 (HHE qv), aV d qa 6 (HRA qv), oS sa ha ta gt gf gc tra gs, ((sa 4), .inl (d 4, 2, .inr (.inr (.inr (.inr IA)))))] H locs := hw
  subst r
  refine lv_if_ne (tgt := 13) hx hb dX0_image_7 (by decide) (fun c7 => ?_) (fun c7 => ?_)
  · have hf := if_f hf c7
    refine lv_aload_n hx hb dX0_image_13 rfl (lv_at hl 0 rfl) ?_
    obtain ⟨q2, hcq2, hf⟩ := op_e hf
    refine x_VI (wr := [oH qa (Hfl qv) (Hro qv) (Hrp qv) (Hca qv) (Hwy qv) (Hla qv) (Hmi qv) (Htf qv) (Htk qv), aV d qa 1 (HHO qv), aV d qa 2 (HAT qv), aV d qa 3 (HTO qv), aV d qa 4 (HWE qv), aV d qa 5 (HHE qv), aV d qa 6 (HRA qv), ((sa 4), .inl (d 4, 2, .inr (.inr (.inr (.inr IA)))))]) (rest := []) [] hX cx hw hl.1 (mX0_isHouse l  D d cs wi ln lf dk dn him ha sa ta hv gt gf gc tra gs  q2 hcq2) (lw_V q769 q771 qs17 q82 q772) hd_X0_isHouse ⟨(Nat.le_of_ble_eq_true rfl), (Nat.le_of_ble_eq_true rfl)⟩ (va_recv hK hw.1 (ci := 1) (q0 := 14) rfl rfl) rfl rfl (Nat.le_of_ble_eq_true rfl) dX0_image_14 [0, 1, 2, 3, 4, 5, 6, 14] [7, 8, 9, 10, 11, 12, 13, 15] rfl rfl rfl rfl (by decide) ⟨(Nat.le_of_ble_eq_true rfl), (Nat.le_of_ble_eq_true rfl)⟩ (fun r u H locs hp hw => ?_)
    have hw : Wd D A s [oH qa (Hfl qv) (Hro qv) (Hrp qv) (Hca qv) (Hwy qv) (Hla qv) (Hmi qv) (Htf qv) (Htk qv), aV d qa 1 (HHO qv), aV d qa 2 (HAT qv), aV d qa 3 (HTO qv), aV d qa 4 (HWE qv), aV d qa 5 (HHE qv), aV d qa 6 (HRA qv), ((sa 4), .inl (d 4, 2, .inr (.inr (.inr (.inr IA))))), oH ha (Hfl hv) (Hro hv) (Hrp hv) (Hca hv) (Hwy hv) (Hla hv) (Hmi hv) (Htf hv) (Htk hv), aV d ha 1 (HHO hv), aV d ha 2 (HAT hv), aV d ha 3 (HTO hv), aV d ha 4 (HWE hv), aV d ha 5 (HHE hv), aV d ha 6 (HRA hv), oS sa ha ta gt gf gc tra gs] H locs := hw
    subst r
    refine lv_if_ne (tgt := 23) hx hb dX0_image_17 (by decide) (fun c17 => ?_) (fun c17 => ?_)
    · have hf := if_f hf c17
      refine lv_aload_n hx hb dX0_image_23 rfl (lv_at hl 0 rfl) ?_
      refine va_get (ci := 1) (C := RX0) (T := TX0) (N := 14) hx hb hts in_X0 hown hK hw.1 15 rfl rfl 8 (by decide) (hts _ q302) (fun _ h9 => h9) rfl dX0_image_24 ?_
      refine lv_iload_n hx hb dX0_image_27 rfl (lv_at hl 1 rfl) ?_
      obtain ⟨o3, hrd, hf⟩ := op_e hf
      refine x_aald (q0 := 7) (t0 := 4) cx hw rfl rfl hrd dX0_image_28 ?_
      obtain ⟨j5, hjA, hjR⟩ := op_e hf
      refine x_join (A := A) (D := D) (J := 45) (nL := 2) (cells' := 0) (slots' := 0) (st := []) [oH ha (Hfl hv) (Hro hv) (Hrp hv) (Hca hv) (Hwy hv) (Hla hv) (Hmi hv) (Htf hv) (Htk hv), aV d ha 1 (HHO hv), aV d ha 2 (HAT hv), aV d ha 3 (HTO hv), aV d ha 4 (HWE hv), aV d ha 5 (HHE hv), aV d ha 6 (HRA hv), oH qa (Hfl qv) (Hro qv) (Hrp qv) (Hca qv) (Hwy qv) (Hla qv) (Hmi qv) (Htf qv) (Htk qv), aV d qa 1 (HHO qv), aV d qa 2 (HAT qv), aV d qa 3 (HTO qv), aV d qa 4 (HWE qv), aV d qa 5 (HHE qv), aV d qa 6 (HRA qv), oS sa ha ta gt gf gc tra gs, ((sa 4), .inl (d 4, 2, .inr (.inr (.inr (.inr IA)))))] [(0, .ref (sa 0)), (1, .int p1)] (fun H locs ls hw hl => ?_) (fun hKj45_j5 => ?_)
      · have hf := hjR
        refine lv_aload_n hx hb dX0_image_45 rfl (lv_at hl 0 rfl) ?_
        refine va_get (ci := 1) (C := RX0) (T := TX0) (N := 14) hx hb hts in_X0 hown hK hw.1 14 rfl rfl 8 (by decide) (hts _ q302) (fun _ h9 => h9) rfl dX0_image_46 ?_
        refine lv_iload_n hx hb dX0_image_49 rfl (lv_at hl 1 rfl) ?_
        obtain ⟨o6, hrd, hf⟩ := op_e hf
        refine x_aald (q0 := 15) (t0 := 4) cx hw rfl rfl hrd dX0_image_50 ?_
        obtain ⟨e7, ho, hf⟩ := op_e hf
        obtain ⟨g8, hgq, hf⟩ := op_e hf
        have hgq := eqa_spec hgq
        refine W.eq (g2 := F0 m 51 ls [.ref (qa 0)]) (by rw [ho, hgq]; rfl) ?_
        refine lv_aload_n hx hb dX0_image_51 rfl (lv_at hl 0 rfl) ?_
        refine va_get (ci := 1) (C := RX0) (T := TX0) (N := 14) hx hb hts in_X0 hown hK hw.1 14 rfl rfl 4 (by decide) (hts _ q298) (fun _ h9 => h9) rfl dX0_image_52 ?_
        obtain ⟨q9, hcq9, hf⟩ := op_e hf
        refine x_VA (wr := [oS sa ha ta gt gf gc tra gs, ((sa 4), .inl (d 4, 2, .inr (.inr (.inr (.inr IA)))))]) (rest := []) [.ref (ha 0)] hX cx hw hl.1 (vX1_become l  D d cs wi ln lf dk dn him qa ha qv hv  q9 hcq9) (lw_V q750 q751 q752 q83 q753) hd_X1_become ⟨(Nat.le_of_ble_eq_true rfl), (Nat.le_of_ble_eq_true rfl)⟩ (va_recv hK hw.1 (ci := 2) (q0 := 7) rfl rfl) rfl rfl (Nat.le_of_ble_eq_true rfl) dX0_image_55 [7, 8, 9, 10, 11, 12, 13, 0, 1, 2, 3, 4, 5, 6] [14, 15] rfl rfl rfl rfl (by decide) ⟨(Nat.le_of_ble_eq_true rfl), (Nat.le_of_ble_eq_true rfl)⟩ (fun u H locs hp hw => ?_)
        have hw : Wd D A s [oS sa ha ta gt gf gc tra gs, ((sa 4), .inl (d 4, 2, .inr (.inr (.inr (.inr IA))))), oH qa (Hfl q9) (Hro q9) (Hrp q9) (Hca q9) (Hwy q9) (Hla q9) (Hmi q9) (Htf q9) (Htk q9), aV d qa 1 (HHO q9), aV d qa 2 (HAT q9), aV d qa 3 (HTO q9), aV d qa 4 (HWE q9), aV d qa 5 (HHE q9), aV d qa 6 (HRA q9), oH ha (Hfl hv) (Hro hv) (Hrp hv) (Hca hv) (Hwy hv) (Hla hv) (Hmi hv) (Htf hv) (Htk hv), aV d ha 1 (HHO hv), aV d ha 2 (HAT hv), aV d ha 3 (HTO hv), aV d ha 4 (HWE hv), aV d ha 5 (HHE hv), aV d ha 6 (HRA hv)] H locs := hw
        refine lv_pop hx hb dX0_image_58 rfl ?_
        refine lv_iconst (v := 1) hx hb dX0_image_59 (by decide) ?_
        have hf := sm_e hf
        subst hf
        exact x_retI cx hw rfl () rfl [9, 10, 11, 12, 13, 14, 15, 2, 3, 4, 5, 6, 7, 8, 0, 1] rfl rfl (Nat.le_of_ble_eq_true rfl) (Nat.le_of_ble_eq_true rfl) dX0_image_60
      · have hf := hjA
        by_cases c29 : o3 = none
        · have hf := if_t hf c29
          refine W.eq (g2 := F0 m 29 ls [.null]) (by rw [c29]; rfl) ?_
          refine lv_ifnonnullN hx hb dX0_image_29 ?_
          cases hf
        · have hf := if_f hf c29
          obtain ⟨e4, hee4⟩ := Option.ne_none_iff_exists'.mp c29
          refine W.eq (g2 := F0 m 29 ls [.ref e4]) (by rw [hee4]; rfl) ?_
          refine lv_ifnonnull (tgt := 45) hx hb dX0_image_29 (by decide) ?_
          have hf := sm_e hf
          subst hf
          exact hKj45_j5 _ _ _ (hw.sub [8, 9, 10, 11, 12, 13, 14, 0, 1, 2, 3, 4, 5, 6, 15, 7] rfl rfl) hl
    · have hf := if_t hf c17
      refine lv_ldc (v := (-1000002)) hx hb hown (hts _ q764) dX0_image_20 ?_
      have hf := sm_e hf
      subst hf
      exact x_retI cx hw rfl () rfl [8, 9, 10, 11, 12, 13, 14, 0, 1, 2, 3, 4, 5, 6, 15, 7] rfl rfl (Nat.le_of_ble_eq_true rfl) (Nat.le_of_ble_eq_true rfl) dX0_image_22
  · have hf := if_t hf c7
    refine lv_ldc (v := (-1000001)) hx hb hown (hts _ q350) dX0_image_10 ?_
    have hf := sm_e hf
    subst hf
    exact x_retI cx hw rfl () rfl [0, 1, 2, 3, 4, 5, 6, 7, 8, 9, 10, 11, 12, 13, 14, 15] rfl rfl (Nat.le_of_ble_eq_true rfl) (Nat.le_of_ble_eq_true rfl) dX0_image_12
theorem hd_X0_pull : yX0_pull.cls = "DishLift" ∧ yX0_pull.cls ≠ "java/lang/invoke/MethodHandle" ∧ yX0_pull.cls ≠ "java/lang/invoke/VarHandle" ∧ (parseMethodDescriptor yX0_pull.desc).map (fun d => d.parameters.length) = some 1 := by decide +kernel
set_option maxHeartbeats 4000000 in
theorem mX0_pull_0 (l : Launch) (D : va_G) (d : Nat → ClassId) (cs : Nat → Nat) (wi : va_W) (ln : Nat → Option Int32) (lf : Nat → Nat → Option Nat) (dk : Nat → Option Nat) (dn : Nat → Int32) (him : ImF d wi ln lf dk dn) (ha : Nat → Nat) (sa : Nat → Nat) (ta : Nat → Nat) (hv : HV) (gt : Int32) (gf : Int32) (gc : Int32) (tra : Nat) (gs : Int32) (PA : Nat → Option Nat) (p1 : Int32)  (res : Int32 × Bool × HV × Int32 × HV) (hf : fX0_pull_0 hv gc PA p1 = some res) : MetI l yX0_pull (ws_ yX0_pull cX0_pull 3 (some .int)) { frames := 6, cells := 8, slots := 54, locals := 143 } [.ref (sa 0), .int p1] (XI D cs wi) D d [oH ha (Hfl hv) (Hro hv) (Hrp hv) (Hca hv) (Hwy hv) (Hla hv) (Hmi hv) (Htf hv) (Htk hv), aV d ha 1 (HHO hv), aV d ha 2 (HAT hv), aV d ha 3 (HTO hv), aV d ha 4 (HWE hv), aV d ha 5 (HHE hv), aV d ha 6 (HRA hv), oS sa ha ta gt gf gc tra gs, ((sa 3), .inl (d 4, 24, .inr (.inr (.inr (.inr PA)))))] (fun r (_ : Nat → Nat) => r = res.1) (fun (qa : Nat → Nat) => match res.2.1 with | true => [oH ha (Hfl res.2.2.1) (Hro res.2.2.1) (Hrp res.2.2.1) (Hca res.2.2.1) (Hwy res.2.2.1) (Hla res.2.2.1) (Hmi res.2.2.1) (Htf res.2.2.1) (Htk res.2.2.1), aV d ha 1 (HHO res.2.2.1), aV d ha 2 (HAT res.2.2.1), aV d ha 3 (HTO res.2.2.1), aV d ha 4 (HWE res.2.2.1), aV d ha 5 (HHE res.2.2.1), aV d ha 6 (HRA res.2.2.1), oS sa ha ta gt gf res.2.2.2.1 tra gs, ((sa 3), .inl (d 4, 24, .inr (.inr (.inr (.inr (va_up PA gc.toNatClampNeg (some (qa 0)))))))), oH qa (Hfl res.2.2.2.2) (Hro res.2.2.2.2) (Hrp res.2.2.2.2) (Hca res.2.2.2.2) (Hwy res.2.2.2.2) (Hla res.2.2.2.2) (Hmi res.2.2.2.2) (Htf res.2.2.2.2) (Htk res.2.2.2.2), aV d qa 1 (HHO res.2.2.2.2), aV d qa 2 (HAT res.2.2.2.2), aV d qa 3 (HTO res.2.2.2.2), aV d qa 4 (HWE res.2.2.2.2), aV d qa 5 (HHE res.2.2.2.2), aV d qa 6 (HRA res.2.2.2.2)] | false => [oH ha (Hfl res.2.2.1) (Hro res.2.2.1) (Hrp res.2.2.1) (Hca res.2.2.1) (Hwy res.2.2.1) (Hla res.2.2.1) (Hmi res.2.2.1) (Htf res.2.2.1) (Htk res.2.2.1), aV d ha 1 (HHO res.2.2.1), aV d ha 2 (HAT res.2.2.1), aV d ha 3 (HTO res.2.2.1), aV d ha 4 (HWE res.2.2.1), aV d ha 5 (HHE res.2.2.1), aV d ha 6 (HRA res.2.2.1), oS sa ha ta gt gf res.2.2.2.1 tra gs, ((sa 3), .inl (d 4, 24, .inr (.inr (.inr (.inr PA)))))]) := by
  have hX := XI.ok (D := D) (cs := cs) (wi := wi)
  refine MetI.of (by decide +kernel) (Nat.le_of_ble_eq_true rfl) ?_
  intro p e s m below meth c A cx hw ls hl
  have cx : Cx p s m _ meth c (XI D cs wi) D d A "DishLift" cX0_pull 3 (some .int) "pull" := cx
  have cx' := cx
  obtain ⟨hx, hb, hr, hlk, hml, hown, hts, hK, hA, hXs, hnm⟩ := cx'
  have hl : lv_has ls 3 [(0, .ref (sa 0)), (1, .int p1)] := hl
  generalize hlo : ([] : List Loc) = locs at hw ⊢
  unfold fX0_pull_0 at hf
  refine lv_aload_n hx hb dX0_pull_0 rfl (lv_at hl 0 rfl) ?_
  refine lv_iload_n hx hb dX0_pull_1 rfl (lv_at hl 1 rfl) ?_
  obtain ⟨q1, hcq1, hf⟩ := op_e hf
  refine x_VI (wr := [((sa 3), .inl (d 4, 24, .inr (.inr (.inr (.inr PA)))))]) (rest := []) [.int p1] hX cx hw hl.1 (mX0_isFloor l  D d cs wi ln lf dk dn him ha sa ta hv gt gf gc tra gs p1  q1 hcq1) (lw_V q872 q874 qs22 q82 q875) hd_X0_isFloor ⟨(Nat.le_of_ble_eq_true rfl), (Nat.le_of_ble_eq_true rfl)⟩ (va_recv hK hw.1 (ci := 1) (q0 := 7) rfl rfl) rfl rfl (Nat.le_of_ble_eq_true rfl) dX0_pull_2 [0, 1, 2, 3, 4, 5, 6, 7] [8] rfl rfl rfl rfl (by decide) ⟨(Nat.le_of_ble_eq_true rfl), (Nat.le_of_ble_eq_true rfl)⟩ (fun r u H locs hp hw => ?_)
  have hw : Wd D A s [((sa 3), .inl (d 4, 24, .inr (.inr (.inr (.inr PA))))), oH ha (Hfl hv) (Hro hv) (Hrp hv) (Hca hv) (Hwy hv) (Hla hv) (Hmi hv) (Htf hv) (Htk hv), aV d ha 1 (HHO hv), aV d ha 2 (HAT hv), aV d ha 3 (HTO hv), aV d ha 4 (HWE hv), aV d ha 5 (HHE hv), aV d ha 6 (HRA hv), oS sa ha ta gt gf gc tra gs] H locs := hw
  subst r
  refine lv_if_ne (tgt := 11) hx hb dX0_pull_5 (by decide) (fun c5 => ?_) (fun c5 => ?_)
  · have hf := if_f hf c5
    refine lv_aload_n hx hb dX0_pull_11 rfl (lv_at hl 0 rfl) ?_
    refine va_get (ci := 1) (C := RX0) (T := TX0) (N := 14) hx hb hts in_X0 hown hK hw.1 8 rfl rfl 4 (by decide) (hts _ q298) (fun _ h9 => h9) rfl dX0_pull_12 ?_
    refine va_get (ci := 2) (C := RX1) (T := TX1) (N := 15) hx hb hts in_X1 hown hK hw.1 1 rfl rfl 3 (by decide) (hts _ q169) (fun _ h9 => h9) rfl dX0_pull_15 ?_
    refine lv_iload_n hx hb dX0_pull_18 rfl (lv_at hl 1 rfl) ?_
    refine lv_icmp_ne (tgt := 25) hx hb dX0_pull_19 (by decide) (fun c19 => ?_) (fun c19 => ?_)
    · have hf := if_f hf c19
      refine lv_aload_n hx hb dX0_pull_25 rfl (lv_at hl 0 rfl) ?_
      obtain ⟨q2, hcq2, hf⟩ := op_e hf
      refine x_VV (wr := []) (rest := []) [] hX cx hw hl.1 (mX0_keep_0 l D d cs wi ln lf dk dn him ha sa ta hv gt gf gc tra gs PA  q2 hcq2) (lw_V q774 q776 qs18 q82 q777) hd_X0_keep ⟨(Nat.le_of_ble_eq_true rfl), (Nat.le_of_ble_eq_true rfl)⟩ (va_recv hK hw.1 (ci := 1) (q0 := 8) rfl rfl) rfl rfl (Nat.le_of_ble_eq_true rfl) dX0_pull_26 [1, 2, 3, 4, 5, 6, 7, 8, 0] [] rfl rfl rfl rfl (by decide) ⟨(Nat.le_of_ble_eq_true rfl), (Nat.le_of_ble_eq_true rfl)⟩ (fun qa H locs hp hw => ?_)
      have hw : Wd D A s [oH ha (Hfl hv) (Hro hv) (Hrp hv) (Hca hv) (Hwy hv) (Hla hv) (Hmi hv) (Htf hv) (Htk hv), aV d ha 1 (HHO hv), aV d ha 2 (HAT hv), aV d ha 3 (HTO hv), aV d ha 4 (HWE hv), aV d ha 5 (HHE hv), aV d ha 6 (HRA hv), oS sa ha ta gt gf q2.1 tra gs, ((sa 3), .inl (d 4, 24, .inr (.inr (.inr (.inr (va_up PA gc.toNatClampNeg (some (qa 0)))))))), oH qa (Hfl q2.2) (Hro q2.2) (Hrp q2.2) (Hca q2.2) (Hwy q2.2) (Hla q2.2) (Hmi q2.2) (Htf q2.2) (Htk q2.2), aV d qa 1 (HHO q2.2), aV d qa 2 (HAT q2.2), aV d qa 3 (HTO q2.2), aV d qa 4 (HWE q2.2), aV d qa 5 (HHE q2.2), aV d qa 6 (HRA q2.2)] H locs := hw
      refine W.widen (k := 8) (n := 54) (Nat.le_of_ble_eq_true rfl) (Nat.le_of_ble_eq_true rfl) ?_
      refine lv_aload_n hx hb dX0_pull_29 rfl (lv_at hl 0 rfl) ?_
      refine va_get (ci := 1) (C := RX0) (T := TX0) (N := 14) hx hb hts in_X0 hown hK hw.1 7 rfl rfl 4 (by decide) (hts _ q298) (fun _ h9 => h9) rfl dX0_pull_30 ?_
      refine va_get (ci := 2) (C := RX1) (T := TX1) (N := 15) hx hb hts in_X1 hown hK hw.1 0 rfl rfl 3 (by decide) (hts _ q169) (fun _ h9 => h9) rfl dX0_pull_33 ?_
      refine lv_istore_n (lv' := [(2, .int (Hca hv)), (0, .ref (sa 0)), (1, .int p1)]) hx hb dX0_pull_36 rfl hl (by decide) rfl (fun ls hl => ?_)
      refine lv_aload_n hx hb dX0_pull_37 rfl (lv_at hl 1 rfl) ?_
      refine va_get (ci := 1) (C := RX0) (T := TX0) (N := 14) hx hb hts in_X0 hown hK hw.1 7 rfl rfl 4 (by decide) (hts _ q298) (fun _ h9 => h9) rfl dX0_pull_38 ?_
      refine lv_iload_n hx hb dX0_pull_41 rfl (lv_at hl 2 rfl) ?_
      refine va_put (ci := 2) (v := .int p1) (ty := .int) (C := RX1) (T := TX1) (N := 15) hx hb hts in_X1 tyX1 tyX1_ok nmX1 hown hK hw.1 hw.2.1 hw.2.2 0 rfl rfl 3 (by decide) (hts _ q169) (fun _ h9 => h9) rfl (by decide +kernel) rfl rfl (Nat.le_of_ble_eq_true rfl) dX0_pull_42 (fun H locs hP hD hS => ?_)
      have hw : Wd D A s [oH ha (Hfl hv) (Hro hv) (Hrp hv) p1 (Hwy hv) (Hla hv) (Hmi hv) (Htf hv) (Htk hv), aV d ha 1 (HHO hv), aV d ha 2 (HAT hv), aV d ha 3 (HTO hv), aV d ha 4 (HWE hv), aV d ha 5 (HHE hv), aV d ha 6 (HRA hv), oS sa ha ta gt gf q2.1 tra gs, ((sa 3), .inl (d 4, 24, .inr (.inr (.inr (.inr (va_up PA gc.toNatClampNeg (some (qa 0)))))))), oH qa (Hfl q2.2) (Hro q2.2) (Hrp q2.2) (Hca q2.2) (Hwy q2.2) (Hla q2.2) (Hmi q2.2) (Htf q2.2) (Htk q2.2), aV d qa 1 (HHO q2.2), aV d qa 2 (HAT q2.2), aV d qa 3 (HTO q2.2), aV d qa 4 (HWE q2.2), aV d qa 5 (HHE q2.2), aV d qa 6 (HRA q2.2)] H locs := ⟨hP, hD, hS⟩
      obtain ⟨b3, hb0, hf⟩ := op_e hf
      obtain ⟨e0, e1, e2, e3, e4, e5, e6, e7, e8, e9, e10, e11, e12, e13, e14⟩ := acca (sm_e hb0)
      have hw : Wd D A s [oH ha (Hfl b3) (Hro b3) (Hrp b3) (Hca b3) (Hwy b3) (Hla b3) (Hmi b3) (Htf b3) (Htk b3), aV d ha 1 (HHO b3), aV d ha 2 (HAT b3), aV d ha 3 (HTO b3), aV d ha 4 (HWE b3), aV d ha 5 (HHE b3), aV d ha 6 (HRA b3), oS sa ha ta gt gf q2.1 tra gs, ((sa 3), .inl (d 4, 24, .inr (.inr (.inr (.inr (va_up PA gc.toNatClampNeg (some (qa 0)))))))), oH qa (Hfl q2.2) (Hro q2.2) (Hrp q2.2) (Hca q2.2) (Hwy q2.2) (Hla q2.2) (Hmi q2.2) (Htf q2.2) (Htk q2.2), aV d qa 1 (HHO q2.2), aV d qa 2 (HAT q2.2), aV d qa 3 (HTO q2.2), aV d qa 4 (HWE q2.2), aV d qa 5 (HHE q2.2), aV d qa 6 (HRA q2.2)] H locs := by rw [e0, e1, e2, e3, e4, e5, e6, e7, e8, e9, e10, e11, e12, e13, e14]; exact hw
      refine lv_iload_n hx hb dX0_pull_45 rfl (lv_at hl 0 rfl) ?_
      have hf := sm_e hf
      subst hf
      exact x_retI cx hw rfl qa rfl [0, 1, 2, 3, 4, 5, 6, 7, 8, 9, 10, 11, 12, 13, 14, 15] rfl rfl (Nat.le_of_ble_eq_true rfl) (Nat.le_of_ble_eq_true rfl) dX0_pull_46
    · have hf := if_t hf c19
      refine lv_ldc (v := (-1000002)) hx hb hown (hts _ q764) dX0_pull_22 ?_
      have hf := sm_e hf
      subst hf
      exact x_retI cx hw rfl (fun _ => 0) rfl [1, 2, 3, 4, 5, 6, 7, 8, 0] rfl rfl (Nat.le_of_ble_eq_true rfl) (Nat.le_of_ble_eq_true rfl) dX0_pull_24
  · have hf := if_t hf c5
    refine lv_ldc (v := (-1000001)) hx hb hown (hts _ q350) dX0_pull_8 ?_
    have hf := sm_e hf
    subst hf
    exact x_retI cx hw rfl (fun _ => 0) rfl [1, 2, 3, 4, 5, 6, 7, 8, 0] rfl rfl (Nat.le_of_ble_eq_true rfl) (Nat.le_of_ble_eq_true rfl) dX0_pull_10
set_option maxHeartbeats 4000000 in
theorem mX0_pull_1 (l : Launch) (D : va_G) (d : Nat → ClassId) (cs : Nat → Nat) (wi : va_W) (ln : Nat → Option Int32) (lf : Nat → Nat → Option Nat) (dk : Nat → Option Nat) (dn : Nat → Int32) (him : ImF d wi ln lf dk dn) (ha : Nat → Nat) (qa : Nat → Nat) (sa : Nat → Nat) (ta : Nat → Nat) (hs : Nat → Bool) (hv : HV) (qv : HV) (gt : Int32) (gf : Int32) (gc : Int32) (tra : Nat) (gs : Int32) (PA : Nat → Option Nat) (p1 : Int32) (hhs : ∀ e, hs e = true → ∃ fs, (e, .inr (2, fs)) ∈ wi) (res : Int32 × HV × HV × Int32 × (Nat → Option Nat)) (hf : fX0_pull_1 qa hs hv qv gc PA p1 = some res) : MetI l yX0_pull (ws_ yX0_pull cX0_pull 3 (some .int)) { frames := 3, cells := 0, slots := 0, locals := 83 } [.ref (sa 0), .int p1] (XI D cs wi) D d [oH ha (Hfl hv) (Hro hv) (Hrp hv) (Hca hv) (Hwy hv) (Hla hv) (Hmi hv) (Htf hv) (Htk hv), aV d ha 1 (HHO hv), aV d ha 2 (HAT hv), aV d ha 3 (HTO hv), aV d ha 4 (HWE hv), aV d ha 5 (HHE hv), aV d ha 6 (HRA hv), oH qa (Hfl qv) (Hro qv) (Hrp qv) (Hca qv) (Hwy qv) (Hla qv) (Hmi qv) (Htf qv) (Htk qv), aV d qa 1 (HHO qv), aV d qa 2 (HAT qv), aV d qa 3 (HTO qv), aV d qa 4 (HWE qv), aV d qa 5 (HHE qv), aV d qa 6 (HRA qv), oS sa ha ta gt gf gc tra gs, ((sa 3), .inl (d 4, 24, .inr (.inr (.inr (.inr PA)))))] (fun r (_ : Unit) => r = res.1) (fun _ => [oH ha (Hfl res.2.1) (Hro res.2.1) (Hrp res.2.1) (Hca res.2.1) (Hwy res.2.1) (Hla res.2.1) (Hmi res.2.1) (Htf res.2.1) (Htk res.2.1), aV d ha 1 (HHO res.2.1), aV d ha 2 (HAT res.2.1), aV d ha 3 (HTO res.2.1), aV d ha 4 (HWE res.2.1), aV d ha 5 (HHE res.2.1), aV d ha 6 (HRA res.2.1), oH qa (Hfl res.2.2.1) (Hro res.2.2.1) (Hrp res.2.2.1) (Hca res.2.2.1) (Hwy res.2.2.1) (Hla res.2.2.1) (Hmi res.2.2.1) (Htf res.2.2.1) (Htk res.2.2.1), aV d qa 1 (HHO res.2.2.1), aV d qa 2 (HAT res.2.2.1), aV d qa 3 (HTO res.2.2.1), aV d qa 4 (HWE res.2.2.1), aV d qa 5 (HHE res.2.2.1), aV d qa 6 (HRA res.2.2.1), oS sa ha ta gt gf res.2.2.2.1 tra gs, ((sa 3), .inl (d 4, 24, .inr (.inr (.inr (.inr res.2.2.2.2)))))]) := by
  have hX := XI.ok (D := D) (cs := cs) (wi := wi)
  refine MetI.of (by decide +kernel) (Nat.le_of_ble_eq_true rfl) ?_
  intro p e s m below meth c A cx hw ls hl
  have cx : Cx p s m _ meth c (XI D cs wi) D d A "DishLift" cX0_pull 3 (some .int) "pull" := cx
  have cx' := cx
  obtain ⟨hx, hb, hr, hlk, hml, hown, hts, hK, hA, hXs, hnm⟩ := cx'
  have hl : lv_has ls 3 [(0, .ref (sa 0)), (1, .int p1)] := hl
  generalize hlo : ([] : List Loc) = locs at hw ⊢
  unfold fX0_pull_1 at hf
  refine lv_aload_n hx hb dX0_pull_0 rfl (lv_at hl 0 rfl) ?_
  refine lv_iload_n hx hb dX0_pull_1 rfl (lv_at hl 1 rfl) ?_
  obtain ⟨q1, hcq1, hf⟩ := op_e hf
  refine x_VI (wr := [oH qa (Hfl qv) (Hro qv) (Hrp qv) (Hca qv) (Hwy qv) (Hla qv) (Hmi qv) (Htf qv) (Htk qv), aV d qa 1 (HHO qv), aV d qa 2 (HAT qv), aV d qa 3 (HTO qv), aV d qa 4 (HWE qv), aV d qa 5 (HHE qv), aV d qa 6 (HRA qv), ((sa 3), .inl (d 4, 24, .inr (.inr (.inr (.inr PA)))))]) (rest := []) [.int p1] hX cx hw hl.1 (mX0_isFloor l  D d cs wi ln lf dk dn him ha sa ta hv gt gf gc tra gs p1  q1 hcq1) (lw_V q872 q874 qs22 q82 q875) hd_X0_isFloor ⟨(Nat.le_of_ble_eq_true rfl), (Nat.le_of_ble_eq_true rfl)⟩ (va_recv hK hw.1 (ci := 1) (q0 := 14) rfl rfl) rfl rfl (Nat.le_of_ble_eq_true rfl) dX0_pull_2 [0, 1, 2, 3, 4, 5, 6, 14] [7, 8, 9, 10, 11, 12, 13, 15] rfl rfl rfl rfl (by decide) ⟨(Nat.le_of_ble_eq_true rfl), (Nat.le_of_ble_eq_true rfl)⟩ (fun r u H locs hp hw => ?_)
  have hw : Wd D A s [oH qa (Hfl qv) (Hro qv) (Hrp qv) (Hca qv) (Hwy qv) (Hla qv) (Hmi qv) (Htf qv) (Htk qv), aV d qa 1 (HHO qv), aV d qa 2 (HAT qv), aV d qa 3 (HTO qv), aV d qa 4 (HWE qv), aV d qa 5 (HHE qv), aV d qa 6 (HRA qv), ((sa 3), .inl (d 4, 24, .inr (.inr (.inr (.inr PA))))), oH ha (Hfl hv) (Hro hv) (Hrp hv) (Hca hv) (Hwy hv) (Hla hv) (Hmi hv) (Htf hv) (Htk hv), aV d ha 1 (HHO hv), aV d ha 2 (HAT hv), aV d ha 3 (HTO hv), aV d ha 4 (HWE hv), aV d ha 5 (HHE hv), aV d ha 6 (HRA hv), oS sa ha ta gt gf gc tra gs] H locs := hw
  subst r
  refine lv_if_ne (tgt := 11) hx hb dX0_pull_5 (by decide) (fun c5 => ?_) (fun c5 => ?_)
  · have hf := if_f hf c5
    refine lv_aload_n hx hb dX0_pull_11 rfl (lv_at hl 0 rfl) ?_
    refine va_get (ci := 1) (C := RX0) (T := TX0) (N := 14) hx hb hts in_X0 hown hK hw.1 15 rfl rfl 4 (by decide) (hts _ q298) (fun _ h9 => h9) rfl dX0_pull_12 ?_
    refine va_get (ci := 2) (C := RX1) (T := TX1) (N := 15) hx hb hts in_X1 hown hK hw.1 8 rfl rfl 3 (by decide) (hts _ q169) (fun _ h9 => h9) rfl dX0_pull_15 ?_
    refine lv_iload_n hx hb dX0_pull_18 rfl (lv_at hl 1 rfl) ?_
    refine lv_icmp_ne (tgt := 25) hx hb dX0_pull_19 (by decide) (fun c19 => ?_) (fun c19 => ?_)
    · have hf := if_f hf c19
      refine lv_aload_n hx hb dX0_pull_25 rfl (lv_at hl 0 rfl) ?_
      obtain ⟨q2, hcq2, hf⟩ := op_e hf
      refine x_VV (wr := []) (rest := []) [] hX cx hw hl.1 (mX0_keep_1 l  D d cs wi ln lf dk dn him ha qa sa ta hs hv qv gt gf gc tra gs PA hhs q2 hcq2) (lw_V q774 q776 qs18 q82 q777) hd_X0_keep ⟨(Nat.le_of_ble_eq_true rfl), (Nat.le_of_ble_eq_true rfl)⟩ (va_recv hK hw.1 (ci := 1) (q0 := 15) rfl rfl) rfl rfl (Nat.le_of_ble_eq_true rfl) dX0_pull_26 [8, 9, 10, 11, 12, 13, 14, 0, 1, 2, 3, 4, 5, 6, 15, 7] [] rfl rfl rfl rfl (by decide) ⟨(Nat.le_of_ble_eq_true rfl), (Nat.le_of_ble_eq_true rfl)⟩ (fun u H locs hp hw => ?_)
      have hw : Wd D A s [oH ha (Hfl hv) (Hro hv) (Hrp hv) (Hca hv) (Hwy hv) (Hla hv) (Hmi hv) (Htf hv) (Htk hv), aV d ha 1 (HHO hv), aV d ha 2 (HAT hv), aV d ha 3 (HTO hv), aV d ha 4 (HWE hv), aV d ha 5 (HHE hv), aV d ha 6 (HRA hv), oH qa (Hfl q2.1) (Hro q2.1) (Hrp q2.1) (Hca q2.1) (Hwy q2.1) (Hla q2.1) (Hmi q2.1) (Htf q2.1) (Htk q2.1), aV d qa 1 (HHO q2.1), aV d qa 2 (HAT q2.1), aV d qa 3 (HTO q2.1), aV d qa 4 (HWE q2.1), aV d qa 5 (HHE q2.1), aV d qa 6 (HRA q2.1), oS sa ha ta gt gf q2.2.1 tra gs, ((sa 3), .inl (d 4, 24, .inr (.inr (.inr (.inr q2.2.2)))))] H locs := hw
      refine lv_aload_n hx hb dX0_pull_29 rfl (lv_at hl 0 rfl) ?_
      refine va_get (ci := 1) (C := RX0) (T := TX0) (N := 14) hx hb hts in_X0 hown hK hw.1 14 rfl rfl 4 (by decide) (hts _ q298) (fun _ h9 => h9) rfl dX0_pull_30 ?_
      refine va_get (ci := 2) (C := RX1) (T := TX1) (N := 15) hx hb hts in_X1 hown hK hw.1 0 rfl rfl 3 (by decide) (hts _ q169) (fun _ h9 => h9) rfl dX0_pull_33 ?_
      refine lv_istore_n (lv' := [(2, .int (Hca hv)), (0, .ref (sa 0)), (1, .int p1)]) hx hb dX0_pull_36 rfl hl (by decide) rfl (fun ls hl => ?_)
      refine lv_aload_n hx hb dX0_pull_37 rfl (lv_at hl 1 rfl) ?_
      refine va_get (ci := 1) (C := RX0) (T := TX0) (N := 14) hx hb hts in_X0 hown hK hw.1 14 rfl rfl 4 (by decide) (hts _ q298) (fun _ h9 => h9) rfl dX0_pull_38 ?_
      refine lv_iload_n hx hb dX0_pull_41 rfl (lv_at hl 2 rfl) ?_
      refine va_put (ci := 2) (v := .int p1) (ty := .int) (C := RX1) (T := TX1) (N := 15) hx hb hts in_X1 tyX1 tyX1_ok nmX1 hown hK hw.1 hw.2.1 hw.2.2 0 rfl rfl 3 (by decide) (hts _ q169) (fun _ h9 => h9) rfl (by decide +kernel) rfl rfl (Nat.le_of_ble_eq_true rfl) dX0_pull_42 (fun H locs hP hD hS => ?_)
      have hw : Wd D A s [oH ha (Hfl hv) (Hro hv) (Hrp hv) p1 (Hwy hv) (Hla hv) (Hmi hv) (Htf hv) (Htk hv), aV d ha 1 (HHO hv), aV d ha 2 (HAT hv), aV d ha 3 (HTO hv), aV d ha 4 (HWE hv), aV d ha 5 (HHE hv), aV d ha 6 (HRA hv), oH qa (Hfl q2.1) (Hro q2.1) (Hrp q2.1) (Hca q2.1) (Hwy q2.1) (Hla q2.1) (Hmi q2.1) (Htf q2.1) (Htk q2.1), aV d qa 1 (HHO q2.1), aV d qa 2 (HAT q2.1), aV d qa 3 (HTO q2.1), aV d qa 4 (HWE q2.1), aV d qa 5 (HHE q2.1), aV d qa 6 (HRA q2.1), oS sa ha ta gt gf q2.2.1 tra gs, ((sa 3), .inl (d 4, 24, .inr (.inr (.inr (.inr q2.2.2)))))] H locs := ⟨hP, hD, hS⟩
      obtain ⟨b3, hb0, hf⟩ := op_e hf
      obtain ⟨e0, e1, e2, e3, e4, e5, e6, e7, e8, e9, e10, e11, e12, e13, e14⟩ := acca (sm_e hb0)
      have hw : Wd D A s [oH ha (Hfl b3) (Hro b3) (Hrp b3) (Hca b3) (Hwy b3) (Hla b3) (Hmi b3) (Htf b3) (Htk b3), aV d ha 1 (HHO b3), aV d ha 2 (HAT b3), aV d ha 3 (HTO b3), aV d ha 4 (HWE b3), aV d ha 5 (HHE b3), aV d ha 6 (HRA b3), oH qa (Hfl q2.1) (Hro q2.1) (Hrp q2.1) (Hca q2.1) (Hwy q2.1) (Hla q2.1) (Hmi q2.1) (Htf q2.1) (Htk q2.1), aV d qa 1 (HHO q2.1), aV d qa 2 (HAT q2.1), aV d qa 3 (HTO q2.1), aV d qa 4 (HWE q2.1), aV d qa 5 (HHE q2.1), aV d qa 6 (HRA q2.1), oS sa ha ta gt gf q2.2.1 tra gs, ((sa 3), .inl (d 4, 24, .inr (.inr (.inr (.inr q2.2.2)))))] H locs := by rw [e0, e1, e2, e3, e4, e5, e6, e7, e8, e9, e10, e11, e12, e13, e14]; exact hw
      refine lv_iload_n hx hb dX0_pull_45 rfl (lv_at hl 0 rfl) ?_
      have hf := sm_e hf
      subst hf
      exact x_retI cx hw rfl () rfl [0, 1, 2, 3, 4, 5, 6, 7, 8, 9, 10, 11, 12, 13, 14, 15] rfl rfl (Nat.le_of_ble_eq_true rfl) (Nat.le_of_ble_eq_true rfl) dX0_pull_46
    · have hf := if_t hf c19
      refine lv_ldc (v := (-1000002)) hx hb hown (hts _ q764) dX0_pull_22 ?_
      have hf := sm_e hf
      subst hf
      exact x_retI cx hw rfl () rfl [8, 9, 10, 11, 12, 13, 14, 0, 1, 2, 3, 4, 5, 6, 15, 7] rfl rfl (Nat.le_of_ble_eq_true rfl) (Nat.le_of_ble_eq_true rfl) dX0_pull_24
  · have hf := if_t hf c5
    refine lv_ldc (v := (-1000001)) hx hb hown (hts _ q350) dX0_pull_8 ?_
    have hf := sm_e hf
    subst hf
    exact x_retI cx hw rfl () rfl [8, 9, 10, 11, 12, 13, 14, 0, 1, 2, 3, 4, 5, 6, 15, 7] rfl rfl (Nat.le_of_ble_eq_true rfl) (Nat.le_of_ble_eq_true rfl) dX0_pull_10
theorem hd_X0_rope : yX0_rope.cls = "DishLift" ∧ yX0_rope.cls ≠ "java/lang/invoke/MethodHandle" ∧ yX0_rope.cls ≠ "java/lang/invoke/VarHandle" ∧ (parseMethodDescriptor yX0_rope.desc).map (fun d => d.parameters.length) = some 1 := by decide +kernel
set_option maxHeartbeats 4000000 in
theorem mX0_rope_0 (l : Launch) (D : va_G) (d : Nat → ClassId) (cs : Nat → Nat) (wi : va_W) (ln : Nat → Option Int32) (lf : Nat → Nat → Option Nat) (dk : Nat → Option Nat) (dn : Nat → Int32) (him : ImF d wi ln lf dk dn) (ha : Nat → Nat) (sa : Nat → Nat) (ta : Nat → Nat) (hv : HV) (gt : Int32) (gf : Int32) (gc : Int32) (tra : Nat) (gs : Int32) (PA : Nat → Option Nat) (p1 : Int32)  (res : Int32 × Bool × HV × Int32 × HV) (hf : fX0_rope_0 hv gc PA p1 = some res) : MetI l yX0_rope (ws_ yX0_rope cX0_rope 3 (some .int)) { frames := 6, cells := 8, slots := 54, locals := 143 } [.ref (sa 0), .int p1] (XI D cs wi) D d [oH ha (Hfl hv) (Hro hv) (Hrp hv) (Hca hv) (Hwy hv) (Hla hv) (Hmi hv) (Htf hv) (Htk hv), aV d ha 1 (HHO hv), aV d ha 2 (HAT hv), aV d ha 3 (HTO hv), aV d ha 4 (HWE hv), aV d ha 5 (HHE hv), aV d ha 6 (HRA hv), oS sa ha ta gt gf gc tra gs, ((sa 3), .inl (d 4, 24, .inr (.inr (.inr (.inr PA)))))] (fun r (_ : Nat → Nat) => r = res.1) (fun (qa : Nat → Nat) => match res.2.1 with | true => [oH ha (Hfl res.2.2.1) (Hro res.2.2.1) (Hrp res.2.2.1) (Hca res.2.2.1) (Hwy res.2.2.1) (Hla res.2.2.1) (Hmi res.2.2.1) (Htf res.2.2.1) (Htk res.2.2.1), aV d ha 1 (HHO res.2.2.1), aV d ha 2 (HAT res.2.2.1), aV d ha 3 (HTO res.2.2.1), aV d ha 4 (HWE res.2.2.1), aV d ha 5 (HHE res.2.2.1), aV d ha 6 (HRA res.2.2.1), oS sa ha ta gt gf res.2.2.2.1 tra gs, ((sa 3), .inl (d 4, 24, .inr (.inr (.inr (.inr (va_up PA gc.toNatClampNeg (some (qa 0)))))))), oH qa (Hfl res.2.2.2.2) (Hro res.2.2.2.2) (Hrp res.2.2.2.2) (Hca res.2.2.2.2) (Hwy res.2.2.2.2) (Hla res.2.2.2.2) (Hmi res.2.2.2.2) (Htf res.2.2.2.2) (Htk res.2.2.2.2), aV d qa 1 (HHO res.2.2.2.2), aV d qa 2 (HAT res.2.2.2.2), aV d qa 3 (HTO res.2.2.2.2), aV d qa 4 (HWE res.2.2.2.2), aV d qa 5 (HHE res.2.2.2.2), aV d qa 6 (HRA res.2.2.2.2)] | false => [oH ha (Hfl res.2.2.1) (Hro res.2.2.1) (Hrp res.2.2.1) (Hca res.2.2.1) (Hwy res.2.2.1) (Hla res.2.2.1) (Hmi res.2.2.1) (Htf res.2.2.1) (Htk res.2.2.1), aV d ha 1 (HHO res.2.2.1), aV d ha 2 (HAT res.2.2.1), aV d ha 3 (HTO res.2.2.1), aV d ha 4 (HWE res.2.2.1), aV d ha 5 (HHE res.2.2.1), aV d ha 6 (HRA res.2.2.1), oS sa ha ta gt gf res.2.2.2.1 tra gs, ((sa 3), .inl (d 4, 24, .inr (.inr (.inr (.inr PA)))))]) := by
  have hX := XI.ok (D := D) (cs := cs) (wi := wi)
  refine MetI.of (by decide +kernel) (Nat.le_of_ble_eq_true rfl) ?_
  intro p e s m below meth c A cx hw ls hl
  have cx : Cx p s m _ meth c (XI D cs wi) D d A "DishLift" cX0_rope 3 (some .int) "rope" := cx
  have cx' := cx
  obtain ⟨hx, hb, hr, hlk, hml, hown, hts, hK, hA, hXs, hnm⟩ := cx'
  have hl : lv_has ls 3 [(0, .ref (sa 0)), (1, .int p1)] := hl
  generalize hlo : ([] : List Loc) = locs at hw ⊢
  unfold fX0_rope_0 at hf
  refine lv_aload_n hx hb dX0_rope_0 rfl (lv_at hl 0 rfl) ?_
  obtain ⟨q1, hcq1, hf⟩ := op_e hf
  refine x_VI (wr := [((sa 3), .inl (d 4, 24, .inr (.inr (.inr (.inr PA)))))]) (rest := []) [] hX cx hw hl.1 (mX0_isHouse l  D d cs wi ln lf dk dn him ha sa ta hv gt gf gc tra gs  q1 hcq1) (lw_V q769 q771 qs17 q82 q772) hd_X0_isHouse ⟨(Nat.le_of_ble_eq_true rfl), (Nat.le_of_ble_eq_true rfl)⟩ (va_recv hK hw.1 (ci := 1) (q0 := 7) rfl rfl) rfl rfl (Nat.le_of_ble_eq_true rfl) dX0_rope_1 [0, 1, 2, 3, 4, 5, 6, 7] [8] rfl rfl rfl rfl (by decide) ⟨(Nat.le_of_ble_eq_true rfl), (Nat.le_of_ble_eq_true rfl)⟩ (fun r u H locs hp hw => ?_)
  have hw : Wd D A s [((sa 3), .inl (d 4, 24, .inr (.inr (.inr (.inr PA))))), oH ha (Hfl hv) (Hro hv) (Hrp hv) (Hca hv) (Hwy hv) (Hla hv) (Hmi hv) (Htf hv) (Htk hv), aV d ha 1 (HHO hv), aV d ha 2 (HAT hv), aV d ha 3 (HTO hv), aV d ha 4 (HWE hv), aV d ha 5 (HHE hv), aV d ha 6 (HRA hv), oS sa ha ta gt gf gc tra gs] H locs := hw
  subst r
  refine lv_if_ne (tgt := 10) hx hb dX0_rope_4 (by decide) (fun c4 => ?_) (fun c4 => ?_)
  · have hf := if_f hf c4
    refine lv_iload_n hx hb dX0_rope_10 rfl (lv_at hl 1 rfl) ?_
    refine lv_i2l (v := p1.toInt64) hx hb dX0_rope_11 rfl ?_
    refine lv_lconst (v := 1) hx hb dX0_rope_12 (by decide) ?_
    refine lv_ldc2 (v := 40) hx hb hown (hts _ q880) dX0_rope_13 ?_
    obtain ⟨q2, hcq2, hf⟩ := op_e hf
    refine x_SI (wr := [((sa 3), .inl (d 4, 24, .inr (.inr (.inr (.inr PA))))), oH ha (Hfl hv) (Hro hv) (Hrp hv) (Hca hv) (Hwy hv) (Hla hv) (Hmi hv) (Htf hv) (Htk hv), aV d ha 1 (HHO hv), aV d ha 2 (HAT hv), aV d ha 3 (HTO hv), aV d ha 4 (HWE hv), aV d ha 5 (HHE hv), aV d ha 6 (HRA hv), oS sa ha ta gt gf gc tra gs]) (rest := []) [.long p1.toInt64, .long 1, .long 40] hX cx hw hl.1 (mX0_isIn l (XI D cs wi) hX D d  p1.toInt64 1 40  q2 hcq2) (lw_S q346 q347 q82 q348) hd_X0_isIn ⟨(Nat.le_of_ble_eq_true rfl), (Nat.le_of_ble_eq_true rfl)⟩ rfl rfl (Nat.le_of_ble_eq_true rfl) dX0_rope_16 [] [0, 1, 2, 3, 4, 5, 6, 7, 8] rfl rfl rfl rfl (by decide) ⟨(Nat.le_of_ble_eq_true rfl), (Nat.le_of_ble_eq_true rfl)⟩ (fun r u H locs hp hw => ?_)
    have hw : Wd D A s [((sa 3), .inl (d 4, 24, .inr (.inr (.inr (.inr PA))))), oH ha (Hfl hv) (Hro hv) (Hrp hv) (Hca hv) (Hwy hv) (Hla hv) (Hmi hv) (Htf hv) (Htk hv), aV d ha 1 (HHO hv), aV d ha 2 (HAT hv), aV d ha 3 (HTO hv), aV d ha 4 (HWE hv), aV d ha 5 (HHE hv), aV d ha 6 (HRA hv), oS sa ha ta gt gf gc tra gs] H locs := hw
    subst r
    refine lv_if_ne (tgt := 25) hx hb dX0_rope_19 (by decide) (fun c19 => ?_) (fun c19 => ?_)
    · have hf := if_f hf c19
      refine lv_aload_n hx hb dX0_rope_25 rfl (lv_at hl 0 rfl) ?_
      obtain ⟨q3, hcq3, hf⟩ := op_e hf
      refine x_VV (wr := []) (rest := []) [] hX cx hw hl.1 (mX0_keep_0 l D d cs wi ln lf dk dn him ha sa ta hv gt gf gc tra gs PA  q3 hcq3) (lw_V q774 q776 qs18 q82 q777) hd_X0_keep ⟨(Nat.le_of_ble_eq_true rfl), (Nat.le_of_ble_eq_true rfl)⟩ (va_recv hK hw.1 (ci := 1) (q0 := 8) rfl rfl) rfl rfl (Nat.le_of_ble_eq_true rfl) dX0_rope_26 [1, 2, 3, 4, 5, 6, 7, 8, 0] [] rfl rfl rfl rfl (by decide) ⟨(Nat.le_of_ble_eq_true rfl), (Nat.le_of_ble_eq_true rfl)⟩ (fun qa H locs hp hw => ?_)
      have hw : Wd D A s [oH ha (Hfl hv) (Hro hv) (Hrp hv) (Hca hv) (Hwy hv) (Hla hv) (Hmi hv) (Htf hv) (Htk hv), aV d ha 1 (HHO hv), aV d ha 2 (HAT hv), aV d ha 3 (HTO hv), aV d ha 4 (HWE hv), aV d ha 5 (HHE hv), aV d ha 6 (HRA hv), oS sa ha ta gt gf q3.1 tra gs, ((sa 3), .inl (d 4, 24, .inr (.inr (.inr (.inr (va_up PA gc.toNatClampNeg (some (qa 0)))))))), oH qa (Hfl q3.2) (Hro q3.2) (Hrp q3.2) (Hca q3.2) (Hwy q3.2) (Hla q3.2) (Hmi q3.2) (Htf q3.2) (Htk q3.2), aV d qa 1 (HHO q3.2), aV d qa 2 (HAT q3.2), aV d qa 3 (HTO q3.2), aV d qa 4 (HWE q3.2), aV d qa 5 (HHE q3.2), aV d qa 6 (HRA q3.2)] H locs := hw
      refine W.widen (k := 8) (n := 54) (Nat.le_of_ble_eq_true rfl) (Nat.le_of_ble_eq_true rfl) ?_
      refine lv_aload_n hx hb dX0_rope_29 rfl (lv_at hl 0 rfl) ?_
      refine va_get (ci := 1) (C := RX0) (T := TX0) (N := 14) hx hb hts in_X0 hown hK hw.1 7 rfl rfl 4 (by decide) (hts _ q298) (fun _ h9 => h9) rfl dX0_rope_30 ?_
      refine va_get (ci := 2) (C := RX1) (T := TX1) (N := 15) hx hb hts in_X1 hown hK hw.1 0 rfl rfl 2 (by decide) (hts _ q167) (fun _ h9 => h9) rfl dX0_rope_33 ?_
      refine lv_istore_n (lv' := [(2, .int (Hrp hv)), (0, .ref (sa 0)), (1, .int p1)]) hx hb dX0_rope_36 rfl hl (by decide) rfl (fun ls hl => ?_)
      refine lv_aload_n hx hb dX0_rope_37 rfl (lv_at hl 1 rfl) ?_
      refine va_get (ci := 1) (C := RX0) (T := TX0) (N := 14) hx hb hts in_X0 hown hK hw.1 7 rfl rfl 4 (by decide) (hts _ q298) (fun _ h9 => h9) rfl dX0_rope_38 ?_
      refine lv_iload_n hx hb dX0_rope_41 rfl (lv_at hl 2 rfl) ?_
      refine va_put (ci := 2) (v := .int p1) (ty := .int) (C := RX1) (T := TX1) (N := 15) hx hb hts in_X1 tyX1 tyX1_ok nmX1 hown hK hw.1 hw.2.1 hw.2.2 0 rfl rfl 2 (by decide) (hts _ q167) (fun _ h9 => h9) rfl (by decide +kernel) rfl rfl (Nat.le_of_ble_eq_true rfl) dX0_rope_42 (fun H locs hP hD hS => ?_)
      have hw : Wd D A s [oH ha (Hfl hv) (Hro hv) p1 (Hca hv) (Hwy hv) (Hla hv) (Hmi hv) (Htf hv) (Htk hv), aV d ha 1 (HHO hv), aV d ha 2 (HAT hv), aV d ha 3 (HTO hv), aV d ha 4 (HWE hv), aV d ha 5 (HHE hv), aV d ha 6 (HRA hv), oS sa ha ta gt gf q3.1 tra gs, ((sa 3), .inl (d 4, 24, .inr (.inr (.inr (.inr (va_up PA gc.toNatClampNeg (some (qa 0)))))))), oH qa (Hfl q3.2) (Hro q3.2) (Hrp q3.2) (Hca q3.2) (Hwy q3.2) (Hla q3.2) (Hmi q3.2) (Htf q3.2) (Htk q3.2), aV d qa 1 (HHO q3.2), aV d qa 2 (HAT q3.2), aV d qa 3 (HTO q3.2), aV d qa 4 (HWE q3.2), aV d qa 5 (HHE q3.2), aV d qa 6 (HRA q3.2)] H locs := ⟨hP, hD, hS⟩
      obtain ⟨b4, hb0, hf⟩ := op_e hf
      obtain ⟨e0, e1, e2, e3, e4, e5, e6, e7, e8, e9, e10, e11, e12, e13, e14⟩ := acrp (sm_e hb0)
      have hw : Wd D A s [oH ha (Hfl b4) (Hro b4) (Hrp b4) (Hca b4) (Hwy b4) (Hla b4) (Hmi b4) (Htf b4) (Htk b4), aV d ha 1 (HHO b4), aV d ha 2 (HAT b4), aV d ha 3 (HTO b4), aV d ha 4 (HWE b4), aV d ha 5 (HHE b4), aV d ha 6 (HRA b4), oS sa ha ta gt gf q3.1 tra gs, ((sa 3), .inl (d 4, 24, .inr (.inr (.inr (.inr (va_up PA gc.toNatClampNeg (some (qa 0)))))))), oH qa (Hfl q3.2) (Hro q3.2) (Hrp q3.2) (Hca q3.2) (Hwy q3.2) (Hla q3.2) (Hmi q3.2) (Htf q3.2) (Htk q3.2), aV d qa 1 (HHO q3.2), aV d qa 2 (HAT q3.2), aV d qa 3 (HTO q3.2), aV d qa 4 (HWE q3.2), aV d qa 5 (HHE q3.2), aV d qa 6 (HRA q3.2)] H locs := by rw [e0, e1, e2, e3, e4, e5, e6, e7, e8, e9, e10, e11, e12, e13, e14]; exact hw
      refine lv_iload_n hx hb dX0_rope_45 rfl (lv_at hl 0 rfl) ?_
      have hf := sm_e hf
      subst hf
      exact x_retI cx hw rfl qa rfl [0, 1, 2, 3, 4, 5, 6, 7, 8, 9, 10, 11, 12, 13, 14, 15] rfl rfl (Nat.le_of_ble_eq_true rfl) (Nat.le_of_ble_eq_true rfl) dX0_rope_46
    · have hf := if_t hf c19
      refine lv_ldc (v := (-1000001)) hx hb hown (hts _ q350) dX0_rope_22 ?_
      have hf := sm_e hf
      subst hf
      exact x_retI cx hw rfl (fun _ => 0) rfl [1, 2, 3, 4, 5, 6, 7, 8, 0] rfl rfl (Nat.le_of_ble_eq_true rfl) (Nat.le_of_ble_eq_true rfl) dX0_rope_24
  · have hf := if_t hf c4
    refine lv_ldc (v := (-1000002)) hx hb hown (hts _ q764) dX0_rope_7 ?_
    have hf := sm_e hf
    subst hf
    exact x_retI cx hw rfl (fun _ => 0) rfl [1, 2, 3, 4, 5, 6, 7, 8, 0] rfl rfl (Nat.le_of_ble_eq_true rfl) (Nat.le_of_ble_eq_true rfl) dX0_rope_9
set_option maxHeartbeats 4000000 in
theorem mX0_rope_1 (l : Launch) (D : va_G) (d : Nat → ClassId) (cs : Nat → Nat) (wi : va_W) (ln : Nat → Option Int32) (lf : Nat → Nat → Option Nat) (dk : Nat → Option Nat) (dn : Nat → Int32) (him : ImF d wi ln lf dk dn) (ha : Nat → Nat) (qa : Nat → Nat) (sa : Nat → Nat) (ta : Nat → Nat) (hs : Nat → Bool) (hv : HV) (qv : HV) (gt : Int32) (gf : Int32) (gc : Int32) (tra : Nat) (gs : Int32) (PA : Nat → Option Nat) (p1 : Int32) (hhs : ∀ e, hs e = true → ∃ fs, (e, .inr (2, fs)) ∈ wi) (res : Int32 × HV × HV × Int32 × (Nat → Option Nat)) (hf : fX0_rope_1 qa hs hv qv gc PA p1 = some res) : MetI l yX0_rope (ws_ yX0_rope cX0_rope 3 (some .int)) { frames := 3, cells := 0, slots := 0, locals := 83 } [.ref (sa 0), .int p1] (XI D cs wi) D d [oH ha (Hfl hv) (Hro hv) (Hrp hv) (Hca hv) (Hwy hv) (Hla hv) (Hmi hv) (Htf hv) (Htk hv), aV d ha 1 (HHO hv), aV d ha 2 (HAT hv), aV d ha 3 (HTO hv), aV d ha 4 (HWE hv), aV d ha 5 (HHE hv), aV d ha 6 (HRA hv), oH qa (Hfl qv) (Hro qv) (Hrp qv) (Hca qv) (Hwy qv) (Hla qv) (Hmi qv) (Htf qv) (Htk qv), aV d qa 1 (HHO qv), aV d qa 2 (HAT qv), aV d qa 3 (HTO qv), aV d qa 4 (HWE qv), aV d qa 5 (HHE qv), aV d qa 6 (HRA qv), oS sa ha ta gt gf gc tra gs, ((sa 3), .inl (d 4, 24, .inr (.inr (.inr (.inr PA)))))] (fun r (_ : Unit) => r = res.1) (fun _ => [oH ha (Hfl res.2.1) (Hro res.2.1) (Hrp res.2.1) (Hca res.2.1) (Hwy res.2.1) (Hla res.2.1) (Hmi res.2.1) (Htf res.2.1) (Htk res.2.1), aV d ha 1 (HHO res.2.1), aV d ha 2 (HAT res.2.1), aV d ha 3 (HTO res.2.1), aV d ha 4 (HWE res.2.1), aV d ha 5 (HHE res.2.1), aV d ha 6 (HRA res.2.1), oH qa (Hfl res.2.2.1) (Hro res.2.2.1) (Hrp res.2.2.1) (Hca res.2.2.1) (Hwy res.2.2.1) (Hla res.2.2.1) (Hmi res.2.2.1) (Htf res.2.2.1) (Htk res.2.2.1), aV d qa 1 (HHO res.2.2.1), aV d qa 2 (HAT res.2.2.1), aV d qa 3 (HTO res.2.2.1), aV d qa 4 (HWE res.2.2.1), aV d qa 5 (HHE res.2.2.1), aV d qa 6 (HRA res.2.2.1), oS sa ha ta gt gf res.2.2.2.1 tra gs, ((sa 3), .inl (d 4, 24, .inr (.inr (.inr (.inr res.2.2.2.2)))))]) := by
  have hX := XI.ok (D := D) (cs := cs) (wi := wi)
  refine MetI.of (by decide +kernel) (Nat.le_of_ble_eq_true rfl) ?_
  intro p e s m below meth c A cx hw ls hl
  have cx : Cx p s m _ meth c (XI D cs wi) D d A "DishLift" cX0_rope 3 (some .int) "rope" := cx
  have cx' := cx
  obtain ⟨hx, hb, hr, hlk, hml, hown, hts, hK, hA, hXs, hnm⟩ := cx'
  have hl : lv_has ls 3 [(0, .ref (sa 0)), (1, .int p1)] := hl
  generalize hlo : ([] : List Loc) = locs at hw ⊢
  unfold fX0_rope_1 at hf
  refine lv_aload_n hx hb dX0_rope_0 rfl (lv_at hl 0 rfl) ?_
  obtain ⟨q1, hcq1, hf⟩ := op_e hf
  refine x_VI (wr := [oH qa (Hfl qv) (Hro qv) (Hrp qv) (Hca qv) (Hwy qv) (Hla qv) (Hmi qv) (Htf qv) (Htk qv), aV d qa 1 (HHO qv), aV d qa 2 (HAT qv), aV d qa 3 (HTO qv), aV d qa 4 (HWE qv), aV d qa 5 (HHE qv), aV d qa 6 (HRA qv), ((sa 3), .inl (d 4, 24, .inr (.inr (.inr (.inr PA)))))]) (rest := []) [] hX cx hw hl.1 (mX0_isHouse l  D d cs wi ln lf dk dn him ha sa ta hv gt gf gc tra gs  q1 hcq1) (lw_V q769 q771 qs17 q82 q772) hd_X0_isHouse ⟨(Nat.le_of_ble_eq_true rfl), (Nat.le_of_ble_eq_true rfl)⟩ (va_recv hK hw.1 (ci := 1) (q0 := 14) rfl rfl) rfl rfl (Nat.le_of_ble_eq_true rfl) dX0_rope_1 [0, 1, 2, 3, 4, 5, 6, 14] [7, 8, 9, 10, 11, 12, 13, 15] rfl rfl rfl rfl (by decide) ⟨(Nat.le_of_ble_eq_true rfl), (Nat.le_of_ble_eq_true rfl)⟩ (fun r u H locs hp hw => ?_)
  have hw : Wd D A s [oH qa (Hfl qv) (Hro qv) (Hrp qv) (Hca qv) (Hwy qv) (Hla qv) (Hmi qv) (Htf qv) (Htk qv), aV d qa 1 (HHO qv), aV d qa 2 (HAT qv), aV d qa 3 (HTO qv), aV d qa 4 (HWE qv), aV d qa 5 (HHE qv), aV d qa 6 (HRA qv), ((sa 3), .inl (d 4, 24, .inr (.inr (.inr (.inr PA))))), oH ha (Hfl hv) (Hro hv) (Hrp hv) (Hca hv) (Hwy hv) (Hla hv) (Hmi hv) (Htf hv) (Htk hv), aV d ha 1 (HHO hv), aV d ha 2 (HAT hv), aV d ha 3 (HTO hv), aV d ha 4 (HWE hv), aV d ha 5 (HHE hv), aV d ha 6 (HRA hv), oS sa ha ta gt gf gc tra gs] H locs := hw
  subst r
  refine lv_if_ne (tgt := 10) hx hb dX0_rope_4 (by decide) (fun c4 => ?_) (fun c4 => ?_)
  · have hf := if_f hf c4
    refine lv_iload_n hx hb dX0_rope_10 rfl (lv_at hl 1 rfl) ?_
    refine lv_i2l (v := p1.toInt64) hx hb dX0_rope_11 rfl ?_
    refine lv_lconst (v := 1) hx hb dX0_rope_12 (by decide) ?_
    refine lv_ldc2 (v := 40) hx hb hown (hts _ q880) dX0_rope_13 ?_
    obtain ⟨q2, hcq2, hf⟩ := op_e hf
    refine x_SI (wr := [oH qa (Hfl qv) (Hro qv) (Hrp qv) (Hca qv) (Hwy qv) (Hla qv) (Hmi qv) (Htf qv) (Htk qv), aV d qa 1 (HHO qv), aV d qa 2 (HAT qv), aV d qa 3 (HTO qv), aV d qa 4 (HWE qv), aV d qa 5 (HHE qv), aV d qa 6 (HRA qv), ((sa 3), .inl (d 4, 24, .inr (.inr (.inr (.inr PA))))), oH ha (Hfl hv) (Hro hv) (Hrp hv) (Hca hv) (Hwy hv) (Hla hv) (Hmi hv) (Htf hv) (Htk hv), aV d ha 1 (HHO hv), aV d ha 2 (HAT hv), aV d ha 3 (HTO hv), aV d ha 4 (HWE hv), aV d ha 5 (HHE hv), aV d ha 6 (HRA hv), oS sa ha ta gt gf gc tra gs]) (rest := []) [.long p1.toInt64, .long 1, .long 40] hX cx hw hl.1 (mX0_isIn l (XI D cs wi) hX D d  p1.toInt64 1 40  q2 hcq2) (lw_S q346 q347 q82 q348) hd_X0_isIn ⟨(Nat.le_of_ble_eq_true rfl), (Nat.le_of_ble_eq_true rfl)⟩ rfl rfl (Nat.le_of_ble_eq_true rfl) dX0_rope_16 [] [0, 1, 2, 3, 4, 5, 6, 7, 8, 9, 10, 11, 12, 13, 14, 15] rfl rfl rfl rfl (by decide) ⟨(Nat.le_of_ble_eq_true rfl), (Nat.le_of_ble_eq_true rfl)⟩ (fun r u H locs hp hw => ?_)
    have hw : Wd D A s [oH qa (Hfl qv) (Hro qv) (Hrp qv) (Hca qv) (Hwy qv) (Hla qv) (Hmi qv) (Htf qv) (Htk qv), aV d qa 1 (HHO qv), aV d qa 2 (HAT qv), aV d qa 3 (HTO qv), aV d qa 4 (HWE qv), aV d qa 5 (HHE qv), aV d qa 6 (HRA qv), ((sa 3), .inl (d 4, 24, .inr (.inr (.inr (.inr PA))))), oH ha (Hfl hv) (Hro hv) (Hrp hv) (Hca hv) (Hwy hv) (Hla hv) (Hmi hv) (Htf hv) (Htk hv), aV d ha 1 (HHO hv), aV d ha 2 (HAT hv), aV d ha 3 (HTO hv), aV d ha 4 (HWE hv), aV d ha 5 (HHE hv), aV d ha 6 (HRA hv), oS sa ha ta gt gf gc tra gs] H locs := hw
    subst r
    refine lv_if_ne (tgt := 25) hx hb dX0_rope_19 (by decide) (fun c19 => ?_) (fun c19 => ?_)
    · have hf := if_f hf c19
      refine lv_aload_n hx hb dX0_rope_25 rfl (lv_at hl 0 rfl) ?_
      obtain ⟨q3, hcq3, hf⟩ := op_e hf
      refine x_VV (wr := []) (rest := []) [] hX cx hw hl.1 (mX0_keep_1 l  D d cs wi ln lf dk dn him ha qa sa ta hs hv qv gt gf gc tra gs PA hhs q3 hcq3) (lw_V q774 q776 qs18 q82 q777) hd_X0_keep ⟨(Nat.le_of_ble_eq_true rfl), (Nat.le_of_ble_eq_true rfl)⟩ (va_recv hK hw.1 (ci := 1) (q0 := 15) rfl rfl) rfl rfl (Nat.le_of_ble_eq_true rfl) dX0_rope_26 [8, 9, 10, 11, 12, 13, 14, 0, 1, 2, 3, 4, 5, 6, 15, 7] [] rfl rfl rfl rfl (by decide) ⟨(Nat.le_of_ble_eq_true rfl), (Nat.le_of_ble_eq_true rfl)⟩ (fun u H locs hp hw => ?_)
      have hw : Wd D A s [oH ha (Hfl hv) (Hro hv) (Hrp hv) (Hca hv) (Hwy hv) (Hla hv) (Hmi hv) (Htf hv) (Htk hv), aV d ha 1 (HHO hv), aV d ha 2 (HAT hv), aV d ha 3 (HTO hv), aV d ha 4 (HWE hv), aV d ha 5 (HHE hv), aV d ha 6 (HRA hv), oH qa (Hfl q3.1) (Hro q3.1) (Hrp q3.1) (Hca q3.1) (Hwy q3.1) (Hla q3.1) (Hmi q3.1) (Htf q3.1) (Htk q3.1), aV d qa 1 (HHO q3.1), aV d qa 2 (HAT q3.1), aV d qa 3 (HTO q3.1), aV d qa 4 (HWE q3.1), aV d qa 5 (HHE q3.1), aV d qa 6 (HRA q3.1), oS sa ha ta gt gf q3.2.1 tra gs, ((sa 3), .inl (d 4, 24, .inr (.inr (.inr (.inr q3.2.2)))))] H locs := hw
      refine lv_aload_n hx hb dX0_rope_29 rfl (lv_at hl 0 rfl) ?_
      refine va_get (ci := 1) (C := RX0) (T := TX0) (N := 14) hx hb hts in_X0 hown hK hw.1 14 rfl rfl 4 (by decide) (hts _ q298) (fun _ h9 => h9) rfl dX0_rope_30 ?_
      refine va_get (ci := 2) (C := RX1) (T := TX1) (N := 15) hx hb hts in_X1 hown hK hw.1 0 rfl rfl 2 (by decide) (hts _ q167) (fun _ h9 => h9) rfl dX0_rope_33 ?_
      refine lv_istore_n (lv' := [(2, .int (Hrp hv)), (0, .ref (sa 0)), (1, .int p1)]) hx hb dX0_rope_36 rfl hl (by decide) rfl (fun ls hl => ?_)
      refine lv_aload_n hx hb dX0_rope_37 rfl (lv_at hl 1 rfl) ?_
      refine va_get (ci := 1) (C := RX0) (T := TX0) (N := 14) hx hb hts in_X0 hown hK hw.1 14 rfl rfl 4 (by decide) (hts _ q298) (fun _ h9 => h9) rfl dX0_rope_38 ?_
      refine lv_iload_n hx hb dX0_rope_41 rfl (lv_at hl 2 rfl) ?_
      refine va_put (ci := 2) (v := .int p1) (ty := .int) (C := RX1) (T := TX1) (N := 15) hx hb hts in_X1 tyX1 tyX1_ok nmX1 hown hK hw.1 hw.2.1 hw.2.2 0 rfl rfl 2 (by decide) (hts _ q167) (fun _ h9 => h9) rfl (by decide +kernel) rfl rfl (Nat.le_of_ble_eq_true rfl) dX0_rope_42 (fun H locs hP hD hS => ?_)
      have hw : Wd D A s [oH ha (Hfl hv) (Hro hv) p1 (Hca hv) (Hwy hv) (Hla hv) (Hmi hv) (Htf hv) (Htk hv), aV d ha 1 (HHO hv), aV d ha 2 (HAT hv), aV d ha 3 (HTO hv), aV d ha 4 (HWE hv), aV d ha 5 (HHE hv), aV d ha 6 (HRA hv), oH qa (Hfl q3.1) (Hro q3.1) (Hrp q3.1) (Hca q3.1) (Hwy q3.1) (Hla q3.1) (Hmi q3.1) (Htf q3.1) (Htk q3.1), aV d qa 1 (HHO q3.1), aV d qa 2 (HAT q3.1), aV d qa 3 (HTO q3.1), aV d qa 4 (HWE q3.1), aV d qa 5 (HHE q3.1), aV d qa 6 (HRA q3.1), oS sa ha ta gt gf q3.2.1 tra gs, ((sa 3), .inl (d 4, 24, .inr (.inr (.inr (.inr q3.2.2)))))] H locs := ⟨hP, hD, hS⟩
      obtain ⟨b4, hb0, hf⟩ := op_e hf
      obtain ⟨e0, e1, e2, e3, e4, e5, e6, e7, e8, e9, e10, e11, e12, e13, e14⟩ := acrp (sm_e hb0)
      have hw : Wd D A s [oH ha (Hfl b4) (Hro b4) (Hrp b4) (Hca b4) (Hwy b4) (Hla b4) (Hmi b4) (Htf b4) (Htk b4), aV d ha 1 (HHO b4), aV d ha 2 (HAT b4), aV d ha 3 (HTO b4), aV d ha 4 (HWE b4), aV d ha 5 (HHE b4), aV d ha 6 (HRA b4), oH qa (Hfl q3.1) (Hro q3.1) (Hrp q3.1) (Hca q3.1) (Hwy q3.1) (Hla q3.1) (Hmi q3.1) (Htf q3.1) (Htk q3.1), aV d qa 1 (HHO q3.1), aV d qa 2 (HAT q3.1), aV d qa 3 (HTO q3.1), aV d qa 4 (HWE q3.1), aV d qa 5 (HHE q3.1), aV d qa 6 (HRA q3.1), oS sa ha ta gt gf q3.2.1 tra gs, ((sa 3), .inl (d 4, 24, .inr (.inr (.inr (.inr q3.2.2)))))] H locs := by rw [e0, e1, e2, e3, e4, e5, e6, e7, e8, e9, e10, e11, e12, e13, e14]; exact hw
      refine lv_iload_n hx hb dX0_rope_45 rfl (lv_at hl 0 rfl) ?_
      have hf := sm_e hf
      subst hf
      exact x_retI cx hw rfl () rfl [0, 1, 2, 3, 4, 5, 6, 7, 8, 9, 10, 11, 12, 13, 14, 15] rfl rfl (Nat.le_of_ble_eq_true rfl) (Nat.le_of_ble_eq_true rfl) dX0_rope_46
    · have hf := if_t hf c19
      refine lv_ldc (v := (-1000001)) hx hb hown (hts _ q350) dX0_rope_22 ?_
      have hf := sm_e hf
      subst hf
      exact x_retI cx hw rfl () rfl [8, 9, 10, 11, 12, 13, 14, 0, 1, 2, 3, 4, 5, 6, 15, 7] rfl rfl (Nat.le_of_ble_eq_true rfl) (Nat.le_of_ble_eq_true rfl) dX0_rope_24
  · have hf := if_t hf c4
    refine lv_ldc (v := (-1000002)) hx hb hown (hts _ q764) dX0_rope_7 ?_
    have hf := sm_e hf
    subst hf
    exact x_retI cx hw rfl () rfl [8, 9, 10, 11, 12, 13, 14, 0, 1, 2, 3, 4, 5, 6, 15, 7] rfl rfl (Nat.le_of_ble_eq_true rfl) (Nat.le_of_ble_eq_true rfl) dX0_rope_9
theorem hd_X0_room : yX0_room.cls = "DishLift" ∧ yX0_room.cls ≠ "java/lang/invoke/MethodHandle" ∧ yX0_room.cls ≠ "java/lang/invoke/VarHandle" ∧ (parseMethodDescriptor yX0_room.desc).map (fun d => d.parameters.length) = some 1 := by decide +kernel
set_option maxHeartbeats 4000000 in
theorem mX0_room_0 (l : Launch) (D : va_G) (d : Nat → ClassId) (cs : Nat → Nat) (wi : va_W) (ln : Nat → Option Int32) (lf : Nat → Nat → Option Nat) (dk : Nat → Option Nat) (dn : Nat → Int32) (him : ImF d wi ln lf dk dn) (ha : Nat → Nat) (sa : Nat → Nat) (ta : Nat → Nat) (hv : HV) (gt : Int32) (gf : Int32) (gc : Int32) (tra : Nat) (gs : Int32) (PA : Nat → Option Nat) (p1 : Int32)  (res : Int32 × Bool × HV × Int32 × HV) (hf : fX0_room_0 hv gc PA p1 = some res) : MetI l yX0_room (ws_ yX0_room cX0_room 3 (some .int)) { frames := 6, cells := 8, slots := 54, locals := 143 } [.ref (sa 0), .int p1] (XI D cs wi) D d [oH ha (Hfl hv) (Hro hv) (Hrp hv) (Hca hv) (Hwy hv) (Hla hv) (Hmi hv) (Htf hv) (Htk hv), aV d ha 1 (HHO hv), aV d ha 2 (HAT hv), aV d ha 3 (HTO hv), aV d ha 4 (HWE hv), aV d ha 5 (HHE hv), aV d ha 6 (HRA hv), oS sa ha ta gt gf gc tra gs, ((sa 3), .inl (d 4, 24, .inr (.inr (.inr (.inr PA)))))] (fun r (_ : Nat → Nat) => r = res.1) (fun (qa : Nat → Nat) => match res.2.1 with | true => [oH ha (Hfl res.2.2.1) (Hro res.2.2.1) (Hrp res.2.2.1) (Hca res.2.2.1) (Hwy res.2.2.1) (Hla res.2.2.1) (Hmi res.2.2.1) (Htf res.2.2.1) (Htk res.2.2.1), aV d ha 1 (HHO res.2.2.1), aV d ha 2 (HAT res.2.2.1), aV d ha 3 (HTO res.2.2.1), aV d ha 4 (HWE res.2.2.1), aV d ha 5 (HHE res.2.2.1), aV d ha 6 (HRA res.2.2.1), oS sa ha ta gt gf res.2.2.2.1 tra gs, ((sa 3), .inl (d 4, 24, .inr (.inr (.inr (.inr (va_up PA gc.toNatClampNeg (some (qa 0)))))))), oH qa (Hfl res.2.2.2.2) (Hro res.2.2.2.2) (Hrp res.2.2.2.2) (Hca res.2.2.2.2) (Hwy res.2.2.2.2) (Hla res.2.2.2.2) (Hmi res.2.2.2.2) (Htf res.2.2.2.2) (Htk res.2.2.2.2), aV d qa 1 (HHO res.2.2.2.2), aV d qa 2 (HAT res.2.2.2.2), aV d qa 3 (HTO res.2.2.2.2), aV d qa 4 (HWE res.2.2.2.2), aV d qa 5 (HHE res.2.2.2.2), aV d qa 6 (HRA res.2.2.2.2)] | false => [oH ha (Hfl res.2.2.1) (Hro res.2.2.1) (Hrp res.2.2.1) (Hca res.2.2.1) (Hwy res.2.2.1) (Hla res.2.2.1) (Hmi res.2.2.1) (Htf res.2.2.1) (Htk res.2.2.1), aV d ha 1 (HHO res.2.2.1), aV d ha 2 (HAT res.2.2.1), aV d ha 3 (HTO res.2.2.1), aV d ha 4 (HWE res.2.2.1), aV d ha 5 (HHE res.2.2.1), aV d ha 6 (HRA res.2.2.1), oS sa ha ta gt gf res.2.2.2.1 tra gs, ((sa 3), .inl (d 4, 24, .inr (.inr (.inr (.inr PA)))))]) := by
  have hX := XI.ok (D := D) (cs := cs) (wi := wi)
  refine MetI.of (by decide +kernel) (Nat.le_of_ble_eq_true rfl) ?_
  intro p e s m below meth c A cx hw ls hl
  have cx : Cx p s m _ meth c (XI D cs wi) D d A "DishLift" cX0_room 3 (some .int) "room" := cx
  have cx' := cx
  obtain ⟨hx, hb, hr, hlk, hml, hown, hts, hK, hA, hXs, hnm⟩ := cx'
  have hl : lv_has ls 3 [(0, .ref (sa 0)), (1, .int p1)] := hl
  generalize hlo : ([] : List Loc) = locs at hw ⊢
  unfold fX0_room_0 at hf
  refine lv_aload_n hx hb dX0_room_0 rfl (lv_at hl 0 rfl) ?_
  obtain ⟨q1, hcq1, hf⟩ := op_e hf
  refine x_VI (wr := [((sa 3), .inl (d 4, 24, .inr (.inr (.inr (.inr PA)))))]) (rest := []) [] hX cx hw hl.1 (mX0_isHouse l  D d cs wi ln lf dk dn him ha sa ta hv gt gf gc tra gs  q1 hcq1) (lw_V q769 q771 qs17 q82 q772) hd_X0_isHouse ⟨(Nat.le_of_ble_eq_true rfl), (Nat.le_of_ble_eq_true rfl)⟩ (va_recv hK hw.1 (ci := 1) (q0 := 7) rfl rfl) rfl rfl (Nat.le_of_ble_eq_true rfl) dX0_room_1 [0, 1, 2, 3, 4, 5, 6, 7] [8] rfl rfl rfl rfl (by decide) ⟨(Nat.le_of_ble_eq_true rfl), (Nat.le_of_ble_eq_true rfl)⟩ (fun r u H locs hp hw => ?_)
  have hw : Wd D A s [((sa 3), .inl (d 4, 24, .inr (.inr (.inr (.inr PA))))), oH ha (Hfl hv) (Hro hv) (Hrp hv) (Hca hv) (Hwy hv) (Hla hv) (Hmi hv) (Htf hv) (Htk hv), aV d ha 1 (HHO hv), aV d ha 2 (HAT hv), aV d ha 3 (HTO hv), aV d ha 4 (HWE hv), aV d ha 5 (HHE hv), aV d ha 6 (HRA hv), oS sa ha ta gt gf gc tra gs] H locs := hw
  subst r
  refine lv_if_ne (tgt := 10) hx hb dX0_room_4 (by decide) (fun c4 => ?_) (fun c4 => ?_)
  · have hf := if_f hf c4
    refine lv_iload_n hx hb dX0_room_10 rfl (lv_at hl 1 rfl) ?_
    refine lv_i2l (v := p1.toInt64) hx hb dX0_room_11 rfl ?_
    refine lv_lconst (v := 1) hx hb dX0_room_12 (by decide) ?_
    refine lv_ldc2 (v := 4) hx hb hown (hts _ q885) dX0_room_13 ?_
    obtain ⟨q2, hcq2, hf⟩ := op_e hf
    refine x_SI (wr := [((sa 3), .inl (d 4, 24, .inr (.inr (.inr (.inr PA))))), oH ha (Hfl hv) (Hro hv) (Hrp hv) (Hca hv) (Hwy hv) (Hla hv) (Hmi hv) (Htf hv) (Htk hv), aV d ha 1 (HHO hv), aV d ha 2 (HAT hv), aV d ha 3 (HTO hv), aV d ha 4 (HWE hv), aV d ha 5 (HHE hv), aV d ha 6 (HRA hv), oS sa ha ta gt gf gc tra gs]) (rest := []) [.long p1.toInt64, .long 1, .long 4] hX cx hw hl.1 (mX0_isIn l (XI D cs wi) hX D d  p1.toInt64 1 4  q2 hcq2) (lw_S q346 q347 q82 q348) hd_X0_isIn ⟨(Nat.le_of_ble_eq_true rfl), (Nat.le_of_ble_eq_true rfl)⟩ rfl rfl (Nat.le_of_ble_eq_true rfl) dX0_room_16 [] [0, 1, 2, 3, 4, 5, 6, 7, 8] rfl rfl rfl rfl (by decide) ⟨(Nat.le_of_ble_eq_true rfl), (Nat.le_of_ble_eq_true rfl)⟩ (fun r u H locs hp hw => ?_)
    have hw : Wd D A s [((sa 3), .inl (d 4, 24, .inr (.inr (.inr (.inr PA))))), oH ha (Hfl hv) (Hro hv) (Hrp hv) (Hca hv) (Hwy hv) (Hla hv) (Hmi hv) (Htf hv) (Htk hv), aV d ha 1 (HHO hv), aV d ha 2 (HAT hv), aV d ha 3 (HTO hv), aV d ha 4 (HWE hv), aV d ha 5 (HHE hv), aV d ha 6 (HRA hv), oS sa ha ta gt gf gc tra gs] H locs := hw
    subst r
    refine lv_if_ne (tgt := 25) hx hb dX0_room_19 (by decide) (fun c19 => ?_) (fun c19 => ?_)
    · have hf := if_f hf c19
      refine lv_aload_n hx hb dX0_room_25 rfl (lv_at hl 0 rfl) ?_
      obtain ⟨q3, hcq3, hf⟩ := op_e hf
      refine x_VV (wr := []) (rest := []) [] hX cx hw hl.1 (mX0_keep_0 l D d cs wi ln lf dk dn him ha sa ta hv gt gf gc tra gs PA  q3 hcq3) (lw_V q774 q776 qs18 q82 q777) hd_X0_keep ⟨(Nat.le_of_ble_eq_true rfl), (Nat.le_of_ble_eq_true rfl)⟩ (va_recv hK hw.1 (ci := 1) (q0 := 8) rfl rfl) rfl rfl (Nat.le_of_ble_eq_true rfl) dX0_room_26 [1, 2, 3, 4, 5, 6, 7, 8, 0] [] rfl rfl rfl rfl (by decide) ⟨(Nat.le_of_ble_eq_true rfl), (Nat.le_of_ble_eq_true rfl)⟩ (fun qa H locs hp hw => ?_)
      have hw : Wd D A s [oH ha (Hfl hv) (Hro hv) (Hrp hv) (Hca hv) (Hwy hv) (Hla hv) (Hmi hv) (Htf hv) (Htk hv), aV d ha 1 (HHO hv), aV d ha 2 (HAT hv), aV d ha 3 (HTO hv), aV d ha 4 (HWE hv), aV d ha 5 (HHE hv), aV d ha 6 (HRA hv), oS sa ha ta gt gf q3.1 tra gs, ((sa 3), .inl (d 4, 24, .inr (.inr (.inr (.inr (va_up PA gc.toNatClampNeg (some (qa 0)))))))), oH qa (Hfl q3.2) (Hro q3.2) (Hrp q3.2) (Hca q3.2) (Hwy q3.2) (Hla q3.2) (Hmi q3.2) (Htf q3.2) (Htk q3.2), aV d qa 1 (HHO q3.2), aV d qa 2 (HAT q3.2), aV d qa 3 (HTO q3.2), aV d qa 4 (HWE q3.2), aV d qa 5 (HHE q3.2), aV d qa 6 (HRA q3.2)] H locs := hw
      refine W.widen (k := 8) (n := 54) (Nat.le_of_ble_eq_true rfl) (Nat.le_of_ble_eq_true rfl) ?_
      refine lv_aload_n hx hb dX0_room_29 rfl (lv_at hl 0 rfl) ?_
      refine va_get (ci := 1) (C := RX0) (T := TX0) (N := 14) hx hb hts in_X0 hown hK hw.1 7 rfl rfl 4 (by decide) (hts _ q298) (fun _ h9 => h9) rfl dX0_room_30 ?_
      refine va_get (ci := 2) (C := RX1) (T := TX1) (N := 15) hx hb hts in_X1 hown hK hw.1 0 rfl rfl 1 (by decide) (hts _ q164) (fun _ h9 => h9) rfl dX0_room_33 ?_
      refine lv_istore_n (lv' := [(2, .int (Hro hv)), (0, .ref (sa 0)), (1, .int p1)]) hx hb dX0_room_36 rfl hl (by decide) rfl (fun ls hl => ?_)
      refine lv_aload_n hx hb dX0_room_37 rfl (lv_at hl 1 rfl) ?_
      refine va_get (ci := 1) (C := RX0) (T := TX0) (N := 14) hx hb hts in_X0 hown hK hw.1 7 rfl rfl 4 (by decide) (hts _ q298) (fun _ h9 => h9) rfl dX0_room_38 ?_
      refine lv_iload_n hx hb dX0_room_41 rfl (lv_at hl 2 rfl) ?_
      refine va_put (ci := 2) (v := .int p1) (ty := .int) (C := RX1) (T := TX1) (N := 15) hx hb hts in_X1 tyX1 tyX1_ok nmX1 hown hK hw.1 hw.2.1 hw.2.2 0 rfl rfl 1 (by decide) (hts _ q164) (fun _ h9 => h9) rfl (by decide +kernel) rfl rfl (Nat.le_of_ble_eq_true rfl) dX0_room_42 (fun H locs hP hD hS => ?_)
      have hw : Wd D A s [oH ha (Hfl hv) p1 (Hrp hv) (Hca hv) (Hwy hv) (Hla hv) (Hmi hv) (Htf hv) (Htk hv), aV d ha 1 (HHO hv), aV d ha 2 (HAT hv), aV d ha 3 (HTO hv), aV d ha 4 (HWE hv), aV d ha 5 (HHE hv), aV d ha 6 (HRA hv), oS sa ha ta gt gf q3.1 tra gs, ((sa 3), .inl (d 4, 24, .inr (.inr (.inr (.inr (va_up PA gc.toNatClampNeg (some (qa 0)))))))), oH qa (Hfl q3.2) (Hro q3.2) (Hrp q3.2) (Hca q3.2) (Hwy q3.2) (Hla q3.2) (Hmi q3.2) (Htf q3.2) (Htk q3.2), aV d qa 1 (HHO q3.2), aV d qa 2 (HAT q3.2), aV d qa 3 (HTO q3.2), aV d qa 4 (HWE q3.2), aV d qa 5 (HHE q3.2), aV d qa 6 (HRA q3.2)] H locs := ⟨hP, hD, hS⟩
      obtain ⟨b4, hb0, hf⟩ := op_e hf
      obtain ⟨e0, e1, e2, e3, e4, e5, e6, e7, e8, e9, e10, e11, e12, e13, e14⟩ := acro (sm_e hb0)
      have hw : Wd D A s [oH ha (Hfl b4) (Hro b4) (Hrp b4) (Hca b4) (Hwy b4) (Hla b4) (Hmi b4) (Htf b4) (Htk b4), aV d ha 1 (HHO b4), aV d ha 2 (HAT b4), aV d ha 3 (HTO b4), aV d ha 4 (HWE b4), aV d ha 5 (HHE b4), aV d ha 6 (HRA b4), oS sa ha ta gt gf q3.1 tra gs, ((sa 3), .inl (d 4, 24, .inr (.inr (.inr (.inr (va_up PA gc.toNatClampNeg (some (qa 0)))))))), oH qa (Hfl q3.2) (Hro q3.2) (Hrp q3.2) (Hca q3.2) (Hwy q3.2) (Hla q3.2) (Hmi q3.2) (Htf q3.2) (Htk q3.2), aV d qa 1 (HHO q3.2), aV d qa 2 (HAT q3.2), aV d qa 3 (HTO q3.2), aV d qa 4 (HWE q3.2), aV d qa 5 (HHE q3.2), aV d qa 6 (HRA q3.2)] H locs := by rw [e0, e1, e2, e3, e4, e5, e6, e7, e8, e9, e10, e11, e12, e13, e14]; exact hw
      refine lv_iload_n hx hb dX0_room_45 rfl (lv_at hl 0 rfl) ?_
      have hf := sm_e hf
      subst hf
      exact x_retI cx hw rfl qa rfl [0, 1, 2, 3, 4, 5, 6, 7, 8, 9, 10, 11, 12, 13, 14, 15] rfl rfl (Nat.le_of_ble_eq_true rfl) (Nat.le_of_ble_eq_true rfl) dX0_room_46
    · have hf := if_t hf c19
      refine lv_ldc (v := (-1000001)) hx hb hown (hts _ q350) dX0_room_22 ?_
      have hf := sm_e hf
      subst hf
      exact x_retI cx hw rfl (fun _ => 0) rfl [1, 2, 3, 4, 5, 6, 7, 8, 0] rfl rfl (Nat.le_of_ble_eq_true rfl) (Nat.le_of_ble_eq_true rfl) dX0_room_24
  · have hf := if_t hf c4
    refine lv_ldc (v := (-1000002)) hx hb hown (hts _ q764) dX0_room_7 ?_
    have hf := sm_e hf
    subst hf
    exact x_retI cx hw rfl (fun _ => 0) rfl [1, 2, 3, 4, 5, 6, 7, 8, 0] rfl rfl (Nat.le_of_ble_eq_true rfl) (Nat.le_of_ble_eq_true rfl) dX0_room_9
set_option maxHeartbeats 4000000 in
theorem mX0_room_1 (l : Launch) (D : va_G) (d : Nat → ClassId) (cs : Nat → Nat) (wi : va_W) (ln : Nat → Option Int32) (lf : Nat → Nat → Option Nat) (dk : Nat → Option Nat) (dn : Nat → Int32) (him : ImF d wi ln lf dk dn) (ha : Nat → Nat) (qa : Nat → Nat) (sa : Nat → Nat) (ta : Nat → Nat) (hs : Nat → Bool) (hv : HV) (qv : HV) (gt : Int32) (gf : Int32) (gc : Int32) (tra : Nat) (gs : Int32) (PA : Nat → Option Nat) (p1 : Int32) (hhs : ∀ e, hs e = true → ∃ fs, (e, .inr (2, fs)) ∈ wi) (res : Int32 × HV × HV × Int32 × (Nat → Option Nat)) (hf : fX0_room_1 qa hs hv qv gc PA p1 = some res) : MetI l yX0_room (ws_ yX0_room cX0_room 3 (some .int)) { frames := 3, cells := 0, slots := 0, locals := 83 } [.ref (sa 0), .int p1] (XI D cs wi) D d [oH ha (Hfl hv) (Hro hv) (Hrp hv) (Hca hv) (Hwy hv) (Hla hv) (Hmi hv) (Htf hv) (Htk hv), aV d ha 1 (HHO hv), aV d ha 2 (HAT hv), aV d ha 3 (HTO hv), aV d ha 4 (HWE hv), aV d ha 5 (HHE hv), aV d ha 6 (HRA hv), oH qa (Hfl qv) (Hro qv) (Hrp qv) (Hca qv) (Hwy qv) (Hla qv) (Hmi qv) (Htf qv) (Htk qv), aV d qa 1 (HHO qv), aV d qa 2 (HAT qv), aV d qa 3 (HTO qv), aV d qa 4 (HWE qv), aV d qa 5 (HHE qv), aV d qa 6 (HRA qv), oS sa ha ta gt gf gc tra gs, ((sa 3), .inl (d 4, 24, .inr (.inr (.inr (.inr PA)))))] (fun r (_ : Unit) => r = res.1) (fun _ => [oH ha (Hfl res.2.1) (Hro res.2.1) (Hrp res.2.1) (Hca res.2.1) (Hwy res.2.1) (Hla res.2.1) (Hmi res.2.1) (Htf res.2.1) (Htk res.2.1), aV d ha 1 (HHO res.2.1), aV d ha 2 (HAT res.2.1), aV d ha 3 (HTO res.2.1), aV d ha 4 (HWE res.2.1), aV d ha 5 (HHE res.2.1), aV d ha 6 (HRA res.2.1), oH qa (Hfl res.2.2.1) (Hro res.2.2.1) (Hrp res.2.2.1) (Hca res.2.2.1) (Hwy res.2.2.1) (Hla res.2.2.1) (Hmi res.2.2.1) (Htf res.2.2.1) (Htk res.2.2.1), aV d qa 1 (HHO res.2.2.1), aV d qa 2 (HAT res.2.2.1), aV d qa 3 (HTO res.2.2.1), aV d qa 4 (HWE res.2.2.1), aV d qa 5 (HHE res.2.2.1), aV d qa 6 (HRA res.2.2.1), oS sa ha ta gt gf res.2.2.2.1 tra gs, ((sa 3), .inl (d 4, 24, .inr (.inr (.inr (.inr res.2.2.2.2)))))]) := by
  have hX := XI.ok (D := D) (cs := cs) (wi := wi)
  refine MetI.of (by decide +kernel) (Nat.le_of_ble_eq_true rfl) ?_
  intro p e s m below meth c A cx hw ls hl
  have cx : Cx p s m _ meth c (XI D cs wi) D d A "DishLift" cX0_room 3 (some .int) "room" := cx
  have cx' := cx
  obtain ⟨hx, hb, hr, hlk, hml, hown, hts, hK, hA, hXs, hnm⟩ := cx'
  have hl : lv_has ls 3 [(0, .ref (sa 0)), (1, .int p1)] := hl
  generalize hlo : ([] : List Loc) = locs at hw ⊢
  unfold fX0_room_1 at hf
  refine lv_aload_n hx hb dX0_room_0 rfl (lv_at hl 0 rfl) ?_
  obtain ⟨q1, hcq1, hf⟩ := op_e hf
  refine x_VI (wr := [oH qa (Hfl qv) (Hro qv) (Hrp qv) (Hca qv) (Hwy qv) (Hla qv) (Hmi qv) (Htf qv) (Htk qv), aV d qa 1 (HHO qv), aV d qa 2 (HAT qv), aV d qa 3 (HTO qv), aV d qa 4 (HWE qv), aV d qa 5 (HHE qv), aV d qa 6 (HRA qv), ((sa 3), .inl (d 4, 24, .inr (.inr (.inr (.inr PA)))))]) (rest := []) [] hX cx hw hl.1 (mX0_isHouse l  D d cs wi ln lf dk dn him ha sa ta hv gt gf gc tra gs  q1 hcq1) (lw_V q769 q771 qs17 q82 q772) hd_X0_isHouse ⟨(Nat.le_of_ble_eq_true rfl), (Nat.le_of_ble_eq_true rfl)⟩ (va_recv hK hw.1 (ci := 1) (q0 := 14) rfl rfl) rfl rfl (Nat.le_of_ble_eq_true rfl) dX0_room_1 [0, 1, 2, 3, 4, 5, 6, 14] [7, 8, 9, 10, 11, 12, 13, 15] rfl rfl rfl rfl (by decide) ⟨(Nat.le_of_ble_eq_true rfl), (Nat.le_of_ble_eq_true rfl)⟩ (fun r u H locs hp hw => ?_)
  have hw : Wd D A s [oH qa (Hfl qv) (Hro qv) (Hrp qv) (Hca qv) (Hwy qv) (Hla qv) (Hmi qv) (Htf qv) (Htk qv), aV d qa 1 (HHO qv), aV d qa 2 (HAT qv), aV d qa 3 (HTO qv), aV d qa 4 (HWE qv), aV d qa 5 (HHE qv), aV d qa 6 (HRA qv), ((sa 3), .inl (d 4, 24, .inr (.inr (.inr (.inr PA))))), oH ha (Hfl hv) (Hro hv) (Hrp hv) (Hca hv) (Hwy hv) (Hla hv) (Hmi hv) (Htf hv) (Htk hv), aV d ha 1 (HHO hv), aV d ha 2 (HAT hv), aV d ha 3 (HTO hv), aV d ha 4 (HWE hv), aV d ha 5 (HHE hv), aV d ha 6 (HRA hv), oS sa ha ta gt gf gc tra gs] H locs := hw
  subst r
  refine lv_if_ne (tgt := 10) hx hb dX0_room_4 (by decide) (fun c4 => ?_) (fun c4 => ?_)
  · have hf := if_f hf c4
    refine lv_iload_n hx hb dX0_room_10 rfl (lv_at hl 1 rfl) ?_
    refine lv_i2l (v := p1.toInt64) hx hb dX0_room_11 rfl ?_
    refine lv_lconst (v := 1) hx hb dX0_room_12 (by decide) ?_
    refine lv_ldc2 (v := 4) hx hb hown (hts _ q885) dX0_room_13 ?_
    obtain ⟨q2, hcq2, hf⟩ := op_e hf
    refine x_SI (wr := [oH qa (Hfl qv) (Hro qv) (Hrp qv) (Hca qv) (Hwy qv) (Hla qv) (Hmi qv) (Htf qv) (Htk qv), aV d qa 1 (HHO qv), aV d qa 2 (HAT qv), aV d qa 3 (HTO qv), aV d qa 4 (HWE qv), aV d qa 5 (HHE qv), aV d qa 6 (HRA qv), ((sa 3), .inl (d 4, 24, .inr (.inr (.inr (.inr PA))))), oH ha (Hfl hv) (Hro hv) (Hrp hv) (Hca hv) (Hwy hv) (Hla hv) (Hmi hv) (Htf hv) (Htk hv), aV d ha 1 (HHO hv), aV d ha 2 (HAT hv), aV d ha 3 (HTO hv), aV d ha 4 (HWE hv), aV d ha 5 (HHE hv), aV d ha 6 (HRA hv), oS sa ha ta gt gf gc tra gs]) (rest := []) [.long p1.toInt64, .long 1, .long 4] hX cx hw hl.1 (mX0_isIn l (XI D cs wi) hX D d  p1.toInt64 1 4  q2 hcq2) (lw_S q346 q347 q82 q348) hd_X0_isIn ⟨(Nat.le_of_ble_eq_true rfl), (Nat.le_of_ble_eq_true rfl)⟩ rfl rfl (Nat.le_of_ble_eq_true rfl) dX0_room_16 [] [0, 1, 2, 3, 4, 5, 6, 7, 8, 9, 10, 11, 12, 13, 14, 15] rfl rfl rfl rfl (by decide) ⟨(Nat.le_of_ble_eq_true rfl), (Nat.le_of_ble_eq_true rfl)⟩ (fun r u H locs hp hw => ?_)
    have hw : Wd D A s [oH qa (Hfl qv) (Hro qv) (Hrp qv) (Hca qv) (Hwy qv) (Hla qv) (Hmi qv) (Htf qv) (Htk qv), aV d qa 1 (HHO qv), aV d qa 2 (HAT qv), aV d qa 3 (HTO qv), aV d qa 4 (HWE qv), aV d qa 5 (HHE qv), aV d qa 6 (HRA qv), ((sa 3), .inl (d 4, 24, .inr (.inr (.inr (.inr PA))))), oH ha (Hfl hv) (Hro hv) (Hrp hv) (Hca hv) (Hwy hv) (Hla hv) (Hmi hv) (Htf hv) (Htk hv), aV d ha 1 (HHO hv), aV d ha 2 (HAT hv), aV d ha 3 (HTO hv), aV d ha 4 (HWE hv), aV d ha 5 (HHE hv), aV d ha 6 (HRA hv), oS sa ha ta gt gf gc tra gs] H locs := hw
    subst r
    refine lv_if_ne (tgt := 25) hx hb dX0_room_19 (by decide) (fun c19 => ?_) (fun c19 => ?_)
    · have hf := if_f hf c19
      refine lv_aload_n hx hb dX0_room_25 rfl (lv_at hl 0 rfl) ?_
      obtain ⟨q3, hcq3, hf⟩ := op_e hf
      refine x_VV (wr := []) (rest := []) [] hX cx hw hl.1 (mX0_keep_1 l  D d cs wi ln lf dk dn him ha qa sa ta hs hv qv gt gf gc tra gs PA hhs q3 hcq3) (lw_V q774 q776 qs18 q82 q777) hd_X0_keep ⟨(Nat.le_of_ble_eq_true rfl), (Nat.le_of_ble_eq_true rfl)⟩ (va_recv hK hw.1 (ci := 1) (q0 := 15) rfl rfl) rfl rfl (Nat.le_of_ble_eq_true rfl) dX0_room_26 [8, 9, 10, 11, 12, 13, 14, 0, 1, 2, 3, 4, 5, 6, 15, 7] [] rfl rfl rfl rfl (by decide) ⟨(Nat.le_of_ble_eq_true rfl), (Nat.le_of_ble_eq_true rfl)⟩ (fun u H locs hp hw => ?_)
      have hw : Wd D A s [oH ha (Hfl hv) (Hro hv) (Hrp hv) (Hca hv) (Hwy hv) (Hla hv) (Hmi hv) (Htf hv) (Htk hv), aV d ha 1 (HHO hv), aV d ha 2 (HAT hv), aV d ha 3 (HTO hv), aV d ha 4 (HWE hv), aV d ha 5 (HHE hv), aV d ha 6 (HRA hv), oH qa (Hfl q3.1) (Hro q3.1) (Hrp q3.1) (Hca q3.1) (Hwy q3.1) (Hla q3.1) (Hmi q3.1) (Htf q3.1) (Htk q3.1), aV d qa 1 (HHO q3.1), aV d qa 2 (HAT q3.1), aV d qa 3 (HTO q3.1), aV d qa 4 (HWE q3.1), aV d qa 5 (HHE q3.1), aV d qa 6 (HRA q3.1), oS sa ha ta gt gf q3.2.1 tra gs, ((sa 3), .inl (d 4, 24, .inr (.inr (.inr (.inr q3.2.2)))))] H locs := hw
      refine lv_aload_n hx hb dX0_room_29 rfl (lv_at hl 0 rfl) ?_
      refine va_get (ci := 1) (C := RX0) (T := TX0) (N := 14) hx hb hts in_X0 hown hK hw.1 14 rfl rfl 4 (by decide) (hts _ q298) (fun _ h9 => h9) rfl dX0_room_30 ?_
      refine va_get (ci := 2) (C := RX1) (T := TX1) (N := 15) hx hb hts in_X1 hown hK hw.1 0 rfl rfl 1 (by decide) (hts _ q164) (fun _ h9 => h9) rfl dX0_room_33 ?_
      refine lv_istore_n (lv' := [(2, .int (Hro hv)), (0, .ref (sa 0)), (1, .int p1)]) hx hb dX0_room_36 rfl hl (by decide) rfl (fun ls hl => ?_)
      refine lv_aload_n hx hb dX0_room_37 rfl (lv_at hl 1 rfl) ?_
      refine va_get (ci := 1) (C := RX0) (T := TX0) (N := 14) hx hb hts in_X0 hown hK hw.1 14 rfl rfl 4 (by decide) (hts _ q298) (fun _ h9 => h9) rfl dX0_room_38 ?_
      refine lv_iload_n hx hb dX0_room_41 rfl (lv_at hl 2 rfl) ?_
      refine va_put (ci := 2) (v := .int p1) (ty := .int) (C := RX1) (T := TX1) (N := 15) hx hb hts in_X1 tyX1 tyX1_ok nmX1 hown hK hw.1 hw.2.1 hw.2.2 0 rfl rfl 1 (by decide) (hts _ q164) (fun _ h9 => h9) rfl (by decide +kernel) rfl rfl (Nat.le_of_ble_eq_true rfl) dX0_room_42 (fun H locs hP hD hS => ?_)
      have hw : Wd D A s [oH ha (Hfl hv) p1 (Hrp hv) (Hca hv) (Hwy hv) (Hla hv) (Hmi hv) (Htf hv) (Htk hv), aV d ha 1 (HHO hv), aV d ha 2 (HAT hv), aV d ha 3 (HTO hv), aV d ha 4 (HWE hv), aV d ha 5 (HHE hv), aV d ha 6 (HRA hv), oH qa (Hfl q3.1) (Hro q3.1) (Hrp q3.1) (Hca q3.1) (Hwy q3.1) (Hla q3.1) (Hmi q3.1) (Htf q3.1) (Htk q3.1), aV d qa 1 (HHO q3.1), aV d qa 2 (HAT q3.1), aV d qa 3 (HTO q3.1), aV d qa 4 (HWE q3.1), aV d qa 5 (HHE q3.1), aV d qa 6 (HRA q3.1), oS sa ha ta gt gf q3.2.1 tra gs, ((sa 3), .inl (d 4, 24, .inr (.inr (.inr (.inr q3.2.2)))))] H locs := ⟨hP, hD, hS⟩
      obtain ⟨b4, hb0, hf⟩ := op_e hf
      obtain ⟨e0, e1, e2, e3, e4, e5, e6, e7, e8, e9, e10, e11, e12, e13, e14⟩ := acro (sm_e hb0)
      have hw : Wd D A s [oH ha (Hfl b4) (Hro b4) (Hrp b4) (Hca b4) (Hwy b4) (Hla b4) (Hmi b4) (Htf b4) (Htk b4), aV d ha 1 (HHO b4), aV d ha 2 (HAT b4), aV d ha 3 (HTO b4), aV d ha 4 (HWE b4), aV d ha 5 (HHE b4), aV d ha 6 (HRA b4), oH qa (Hfl q3.1) (Hro q3.1) (Hrp q3.1) (Hca q3.1) (Hwy q3.1) (Hla q3.1) (Hmi q3.1) (Htf q3.1) (Htk q3.1), aV d qa 1 (HHO q3.1), aV d qa 2 (HAT q3.1), aV d qa 3 (HTO q3.1), aV d qa 4 (HWE q3.1), aV d qa 5 (HHE q3.1), aV d qa 6 (HRA q3.1), oS sa ha ta gt gf q3.2.1 tra gs, ((sa 3), .inl (d 4, 24, .inr (.inr (.inr (.inr q3.2.2)))))] H locs := by rw [e0, e1, e2, e3, e4, e5, e6, e7, e8, e9, e10, e11, e12, e13, e14]; exact hw
      refine lv_iload_n hx hb dX0_room_45 rfl (lv_at hl 0 rfl) ?_
      have hf := sm_e hf
      subst hf
      exact x_retI cx hw rfl () rfl [0, 1, 2, 3, 4, 5, 6, 7, 8, 9, 10, 11, 12, 13, 14, 15] rfl rfl (Nat.le_of_ble_eq_true rfl) (Nat.le_of_ble_eq_true rfl) dX0_room_46
    · have hf := if_t hf c19
      refine lv_ldc (v := (-1000001)) hx hb hown (hts _ q350) dX0_room_22 ?_
      have hf := sm_e hf
      subst hf
      exact x_retI cx hw rfl () rfl [8, 9, 10, 11, 12, 13, 14, 0, 1, 2, 3, 4, 5, 6, 15, 7] rfl rfl (Nat.le_of_ble_eq_true rfl) (Nat.le_of_ble_eq_true rfl) dX0_room_24
  · have hf := if_t hf c4
    refine lv_ldc (v := (-1000002)) hx hb hown (hts _ q764) dX0_room_7 ?_
    have hf := sm_e hf
    subst hf
    exact x_retI cx hw rfl () rfl [8, 9, 10, 11, 12, 13, 14, 0, 1, 2, 3, 4, 5, 6, 15, 7] rfl rfl (Nat.le_of_ble_eq_true rfl) (Nat.le_of_ble_eq_true rfl) dX0_room_9
theorem hd_X0_send : yX0_send.cls = "DishLift" ∧ yX0_send.cls ≠ "java/lang/invoke/MethodHandle" ∧ yX0_send.cls ≠ "java/lang/invoke/VarHandle" ∧ (parseMethodDescriptor yX0_send.desc).map (fun d => d.parameters.length) = some 3 := by decide +kernel
set_option maxHeartbeats 4000000 in
theorem mX0_send_0 (l : Launch) (D : va_G) (d : Nat → ClassId) (cs : Nat → Nat) (wi : va_W) (ln : Nat → Option Int32) (lf : Nat → Nat → Option Nat) (dk : Nat → Option Nat) (dn : Nat → Int32) (him : ImF d wi ln lf dk dn) (ha : Nat → Nat) (sa : Nat → Nat) (ta : Nat → Nat) (hv : HV) (gt : Int32) (gf : Int32) (gc : Int32) (tra : Nat) (gs : Int32) (PA : Nat → Option Nat) (p1 : Int32) (p2 : Int32) (p3 : Int32)  (res : Int32 × Bool × HV × Int32 × HV) (hf : fX0_send_0 ln hv gc PA p1 p2 p3 = some res) : MetI l yX0_send (ws_ yX0_send cX0_send 4 (some .int)) { frames := 6, cells := 8, slots := 54, locals := 143 } [.ref (sa 0), .int p1, .int p2, .int p3] (XI D cs wi) D d [oH ha (Hfl hv) (Hro hv) (Hrp hv) (Hca hv) (Hwy hv) (Hla hv) (Hmi hv) (Htf hv) (Htk hv), aV d ha 1 (HHO hv), aV d ha 2 (HAT hv), aV d ha 3 (HTO hv), aV d ha 4 (HWE hv), aV d ha 5 (HHE hv), aV d ha 6 (HRA hv), oS sa ha ta gt gf gc tra gs, ((sa 3), .inl (d 4, 24, .inr (.inr (.inr (.inr PA)))))] (fun r (_ : Nat → Nat) => r = res.1) (fun (qa : Nat → Nat) => match res.2.1 with | true => [oH ha (Hfl res.2.2.1) (Hro res.2.2.1) (Hrp res.2.2.1) (Hca res.2.2.1) (Hwy res.2.2.1) (Hla res.2.2.1) (Hmi res.2.2.1) (Htf res.2.2.1) (Htk res.2.2.1), aV d ha 1 (HHO res.2.2.1), aV d ha 2 (HAT res.2.2.1), aV d ha 3 (HTO res.2.2.1), aV d ha 4 (HWE res.2.2.1), aV d ha 5 (HHE res.2.2.1), aV d ha 6 (HRA res.2.2.1), oS sa ha ta gt gf res.2.2.2.1 tra gs, ((sa 3), .inl (d 4, 24, .inr (.inr (.inr (.inr (va_up PA gc.toNatClampNeg (some (qa 0)))))))), oH qa (Hfl res.2.2.2.2) (Hro res.2.2.2.2) (Hrp res.2.2.2.2) (Hca res.2.2.2.2) (Hwy res.2.2.2.2) (Hla res.2.2.2.2) (Hmi res.2.2.2.2) (Htf res.2.2.2.2) (Htk res.2.2.2.2), aV d qa 1 (HHO res.2.2.2.2), aV d qa 2 (HAT res.2.2.2.2), aV d qa 3 (HTO res.2.2.2.2), aV d qa 4 (HWE res.2.2.2.2), aV d qa 5 (HHE res.2.2.2.2), aV d qa 6 (HRA res.2.2.2.2)] | false => [oH ha (Hfl res.2.2.1) (Hro res.2.2.1) (Hrp res.2.2.1) (Hca res.2.2.1) (Hwy res.2.2.1) (Hla res.2.2.1) (Hmi res.2.2.1) (Htf res.2.2.1) (Htk res.2.2.1), aV d ha 1 (HHO res.2.2.1), aV d ha 2 (HAT res.2.2.1), aV d ha 3 (HTO res.2.2.1), aV d ha 4 (HWE res.2.2.1), aV d ha 5 (HHE res.2.2.1), aV d ha 6 (HRA res.2.2.1), oS sa ha ta gt gf res.2.2.2.1 tra gs, ((sa 3), .inl (d 4, 24, .inr (.inr (.inr (.inr PA)))))]) := by
  have hX := XI.ok (D := D) (cs := cs) (wi := wi)
  refine MetI.of (by decide +kernel) (Nat.le_of_ble_eq_true rfl) ?_
  intro p e s m below meth c A cx hw ls hl
  have cx : Cx p s m _ meth c (XI D cs wi) D d A "DishLift" cX0_send 4 (some .int) "send" := cx
  have cx' := cx
  obtain ⟨hx, hb, hr, hlk, hml, hown, hts, hK, hA, hXs, hnm⟩ := cx'
  have hl : lv_has ls 4 [(0, .ref (sa 0)), (1, .int p1), (2, .int p2), (3, .int p3)] := hl
  generalize hlo : ([] : List Loc) = locs at hw ⊢
  unfold fX0_send_0 at hf
  refine lv_aload_n hx hb dX0_send_0 rfl (lv_at hl 0 rfl) ?_
  refine lv_iload_n hx hb dX0_send_1 rfl (lv_at hl 1 rfl) ?_
  obtain ⟨q1, hcq1, hf⟩ := op_e hf
  refine x_VI (wr := [((sa 3), .inl (d 4, 24, .inr (.inr (.inr (.inr PA)))))]) (rest := []) [.int p1] hX cx hw hl.1 (mX0_isDish l  D d cs wi ln lf dk dn him ha sa ta hv gt gf gc tra gs p1  q1 hcq1) (lw_V q890 q892 qs23 q82 q893) hd_X0_isDish ⟨(Nat.le_of_ble_eq_true rfl), (Nat.le_of_ble_eq_true rfl)⟩ (va_recv hK hw.1 (ci := 1) (q0 := 7) rfl rfl) rfl rfl (Nat.le_of_ble_eq_true rfl) dX0_send_2 [0, 1, 2, 3, 4, 5, 6, 7] [8] rfl rfl rfl rfl (by decide) ⟨(Nat.le_of_ble_eq_true rfl), (Nat.le_of_ble_eq_true rfl)⟩ (fun r u H locs hp hw => ?_)
  have hw : Wd D A s [((sa 3), .inl (d 4, 24, .inr (.inr (.inr (.inr PA))))), oH ha (Hfl hv) (Hro hv) (Hrp hv) (Hca hv) (Hwy hv) (Hla hv) (Hmi hv) (Htf hv) (Htk hv), aV d ha 1 (HHO hv), aV d ha 2 (HAT hv), aV d ha 3 (HTO hv), aV d ha 4 (HWE hv), aV d ha 5 (HHE hv), aV d ha 6 (HRA hv), oS sa ha ta gt gf gc tra gs] H locs := hw
  subst r
  refine lv_if_eq (tgt := 28) hx hb dX0_send_5 (by decide) (fun c5 => ?_) (fun c5 => ?_)
  · have hf := if_t hf c5
    refine lv_ldc (v := (-1000001)) hx hb hown (hts _ q350) dX0_send_28 ?_
    have hf := sm_e hf
    subst hf
    exact x_retI cx hw rfl (fun _ => 0) rfl [1, 2, 3, 4, 5, 6, 7, 8, 0] rfl rfl (Nat.le_of_ble_eq_true rfl) (Nat.le_of_ble_eq_true rfl) dX0_send_30
  · have hf := if_f hf c5
    refine lv_aload_n hx hb dX0_send_8 rfl (lv_at hl 0 rfl) ?_
    refine lv_iload_n hx hb dX0_send_9 rfl (lv_at hl 2 rfl) ?_
    obtain ⟨q2, hcq2, hf⟩ := op_e hf
    refine x_VI (wr := [((sa 3), .inl (d 4, 24, .inr (.inr (.inr (.inr PA)))))]) (rest := []) [.int p2] hX cx hw hl.1 (mX0_isFloor l  D d cs wi ln lf dk dn him ha sa ta hv gt gf gc tra gs p2  q2 hcq2) (lw_V q872 q874 qs22 q82 q875) hd_X0_isFloor ⟨(Nat.le_of_ble_eq_true rfl), (Nat.le_of_ble_eq_true rfl)⟩ (va_recv hK hw.1 (ci := 1) (q0 := 8) rfl rfl) rfl rfl (Nat.le_of_ble_eq_true rfl) dX0_send_10 [1, 2, 3, 4, 5, 6, 7, 8] [0] rfl rfl rfl rfl (by decide) ⟨(Nat.le_of_ble_eq_true rfl), (Nat.le_of_ble_eq_true rfl)⟩ (fun r u H locs hp hw => ?_)
    have hw : Wd D A s [((sa 3), .inl (d 4, 24, .inr (.inr (.inr (.inr PA))))), oH ha (Hfl hv) (Hro hv) (Hrp hv) (Hca hv) (Hwy hv) (Hla hv) (Hmi hv) (Htf hv) (Htk hv), aV d ha 1 (HHO hv), aV d ha 2 (HAT hv), aV d ha 3 (HTO hv), aV d ha 4 (HWE hv), aV d ha 5 (HHE hv), aV d ha 6 (HRA hv), oS sa ha ta gt gf gc tra gs] H locs := hw
    subst r
    refine lv_if_eq (tgt := 28) hx hb dX0_send_13 (by decide) (fun c13 => ?_) (fun c13 => ?_)
    · have hf := if_t hf c13
      refine lv_ldc (v := (-1000001)) hx hb hown (hts _ q350) dX0_send_28 ?_
      have hf := sm_e hf
      subst hf
      exact x_retI cx hw rfl (fun _ => 0) rfl [1, 2, 3, 4, 5, 6, 7, 8, 0] rfl rfl (Nat.le_of_ble_eq_true rfl) (Nat.le_of_ble_eq_true rfl) dX0_send_30
    · have hf := if_f hf c13
      refine lv_iload_n hx hb dX0_send_16 rfl (lv_at hl 3 rfl) ?_
      refine lv_i2l (v := p3.toInt64) hx hb dX0_send_17 rfl ?_
      refine lv_lconst (v := 0) hx hb dX0_send_18 (by decide) ?_
      refine lv_ldc2 (v := 60) hx hb hown (hts _ q894) dX0_send_19 ?_
      obtain ⟨q3, hcq3, hf⟩ := op_e hf
      refine x_SI (wr := [((sa 3), .inl (d 4, 24, .inr (.inr (.inr (.inr PA))))), oH ha (Hfl hv) (Hro hv) (Hrp hv) (Hca hv) (Hwy hv) (Hla hv) (Hmi hv) (Htf hv) (Htk hv), aV d ha 1 (HHO hv), aV d ha 2 (HAT hv), aV d ha 3 (HTO hv), aV d ha 4 (HWE hv), aV d ha 5 (HHE hv), aV d ha 6 (HRA hv), oS sa ha ta gt gf gc tra gs]) (rest := []) [.long p3.toInt64, .long 0, .long 60] hX cx hw hl.1 (mX0_isIn l (XI D cs wi) hX D d  p3.toInt64 0 60  q3 hcq3) (lw_S q346 q347 q82 q348) hd_X0_isIn ⟨(Nat.le_of_ble_eq_true rfl), (Nat.le_of_ble_eq_true rfl)⟩ rfl rfl (Nat.le_of_ble_eq_true rfl) dX0_send_22 [] [0, 1, 2, 3, 4, 5, 6, 7, 8] rfl rfl rfl rfl (by decide) ⟨(Nat.le_of_ble_eq_true rfl), (Nat.le_of_ble_eq_true rfl)⟩ (fun r u H locs hp hw => ?_)
      have hw : Wd D A s [((sa 3), .inl (d 4, 24, .inr (.inr (.inr (.inr PA))))), oH ha (Hfl hv) (Hro hv) (Hrp hv) (Hca hv) (Hwy hv) (Hla hv) (Hmi hv) (Htf hv) (Htk hv), aV d ha 1 (HHO hv), aV d ha 2 (HAT hv), aV d ha 3 (HTO hv), aV d ha 4 (HWE hv), aV d ha 5 (HHE hv), aV d ha 6 (HRA hv), oS sa ha ta gt gf gc tra gs] H locs := hw
      subst r
      refine lv_if_ne (tgt := 31) hx hb dX0_send_25 (by decide) (fun c25 => ?_) (fun c25 => ?_)
      · have hf := if_f hf c25
        refine lv_aload_n hx hb dX0_send_31 rfl (lv_at hl 0 rfl) ?_
        refine va_get (ci := 1) (C := RX0) (T := TX0) (N := 14) hx hb hts in_X0 hown hK hw.1 8 rfl rfl 4 (by decide) (hts _ q298) (fun _ h9 => h9) rfl dX0_send_32 ?_
        refine va_get (ci := 2) (C := RX1) (T := TX1) (N := 15) hx hb hts in_X1 hown hK hw.1 1 rfl rfl 6 (by decide) (hts _ q176) (fun _ h9 => h9) rfl dX0_send_35 ?_
        refine lv_iload_n hx hb dX0_send_38 rfl (lv_at hl 1 rfl) ?_
        obtain ⟨v4, hrd, hf⟩ := op_e hf
        refine x_iald (q0 := 2) cx hw rfl hrd dX0_send_39 ?_
        refine lv_iconst (v := 2) hx hb dX0_send_40 (by decide) ?_
        refine lv_icmp_ne (tgt := 57) hx hb dX0_send_41 (by decide) (fun c41 => ?_) (fun c41 => ?_)
        · have hf := if_f hf c41
          refine lv_ldc (v := (-1000002)) hx hb hown (hts _ q764) dX0_send_57 ?_
          have hf := sm_e hf
          subst hf
          exact x_retI cx hw rfl (fun _ => 0) rfl [1, 2, 3, 4, 5, 6, 7, 8, 0] rfl rfl (Nat.le_of_ble_eq_true rfl) (Nat.le_of_ble_eq_true rfl) dX0_send_59
        · have hf := if_t hf c41
          refine lv_aload_n hx hb dX0_send_44 rfl (lv_at hl 0 rfl) ?_
          refine va_get (ci := 1) (C := RX0) (T := TX0) (N := 14) hx hb hts in_X0 hown hK hw.1 8 rfl rfl 4 (by decide) (hts _ q298) (fun _ h9 => h9) rfl dX0_send_45 ?_
          refine va_get (ci := 2) (C := RX1) (T := TX1) (N := 15) hx hb hts in_X1 hown hK hw.1 1 rfl rfl 8 (by decide) (hts _ q182) (fun _ h9 => h9) rfl dX0_send_48 ?_
          refine lv_iload_n hx hb dX0_send_51 rfl (lv_at hl 1 rfl) ?_
          obtain ⟨v5, hrd, hf⟩ := op_e hf
          refine x_iald (q0 := 4) cx hw rfl hrd dX0_send_52 ?_
          refine lv_iload_n hx hb dX0_send_53 rfl (lv_at hl 2 rfl) ?_
          refine lv_icmp_ne (tgt := 60) hx hb dX0_send_54 (by decide) (fun c54 => ?_) (fun c54 => ?_)
          · have hf := if_f hf c54
            refine lv_aload_n hx hb dX0_send_60 rfl (lv_at hl 0 rfl) ?_
            obtain ⟨q6, hcq6, hf⟩ := op_e hf
            refine x_VV (wr := []) (rest := []) [] hX cx hw hl.1 (mX0_keep_0 l D d cs wi ln lf dk dn him ha sa ta hv gt gf gc tra gs PA  q6 hcq6) (lw_V q774 q776 qs18 q82 q777) hd_X0_keep ⟨(Nat.le_of_ble_eq_true rfl), (Nat.le_of_ble_eq_true rfl)⟩ (va_recv hK hw.1 (ci := 1) (q0 := 8) rfl rfl) rfl rfl (Nat.le_of_ble_eq_true rfl) dX0_send_61 [1, 2, 3, 4, 5, 6, 7, 8, 0] [] rfl rfl rfl rfl (by decide) ⟨(Nat.le_of_ble_eq_true rfl), (Nat.le_of_ble_eq_true rfl)⟩ (fun qa H locs hp hw => ?_)
            have hw : Wd D A s [oH ha (Hfl hv) (Hro hv) (Hrp hv) (Hca hv) (Hwy hv) (Hla hv) (Hmi hv) (Htf hv) (Htk hv), aV d ha 1 (HHO hv), aV d ha 2 (HAT hv), aV d ha 3 (HTO hv), aV d ha 4 (HWE hv), aV d ha 5 (HHE hv), aV d ha 6 (HRA hv), oS sa ha ta gt gf q6.1 tra gs, ((sa 3), .inl (d 4, 24, .inr (.inr (.inr (.inr (va_up PA gc.toNatClampNeg (some (qa 0)))))))), oH qa (Hfl q6.2) (Hro q6.2) (Hrp q6.2) (Hca q6.2) (Hwy q6.2) (Hla q6.2) (Hmi q6.2) (Htf q6.2) (Htk q6.2), aV d qa 1 (HHO q6.2), aV d qa 2 (HAT q6.2), aV d qa 3 (HTO q6.2), aV d qa 4 (HWE q6.2), aV d qa 5 (HHE q6.2), aV d qa 6 (HRA q6.2)] H locs := hw
            refine W.widen (k := 8) (n := 54) (Nat.le_of_ble_eq_true rfl) (Nat.le_of_ble_eq_true rfl) ?_
            refine lv_aload_n hx hb dX0_send_64 rfl (lv_at hl 0 rfl) ?_
            refine va_get (ci := 1) (C := RX0) (T := TX0) (N := 14) hx hb hts in_X0 hown hK hw.1 7 rfl rfl 4 (by decide) (hts _ q298) (fun _ h9 => h9) rfl dX0_send_65 ?_
            refine lv_iload_n hx hb dX0_send_68 rfl (lv_at hl 1 rfl) ?_
            refine lv_iload_n hx hb dX0_send_69 rfl (lv_at hl 2 rfl) ?_
            refine lv_iload_n hx hb dX0_send_70 rfl (lv_at hl 3 rfl) ?_
            obtain ⟨q7, hcq7, hf⟩ := op_e hf
            refine x_VV (wr := [oS sa ha ta gt gf q6.1 tra gs, ((sa 3), .inl (d 4, 24, .inr (.inr (.inr (.inr (va_up PA gc.toNatClampNeg (some (qa 0)))))))), oH qa (Hfl q6.2) (Hro q6.2) (Hrp q6.2) (Hca q6.2) (Hwy q6.2) (Hla q6.2) (Hmi q6.2) (Htf q6.2) (Htk q6.2), aV d qa 1 (HHO q6.2), aV d qa 2 (HAT q6.2), aV d qa 3 (HTO q6.2), aV d qa 4 (HWE q6.2), aV d qa 5 (HHE q6.2), aV d qa 6 (HRA q6.2)]) (rest := []) [.int p1, .int p2, .int p3] hX cx hw hl.1 (vX1_send l  D d cs wi ln lf dk dn him ha hv p1 p2 p3  q7 hcq7) (lw_V q895 q896 q897 q83 q898) hd_X1_send ⟨(Nat.le_of_ble_eq_true rfl), (Nat.le_of_ble_eq_true rfl)⟩ (va_recv hK hw.1 (ci := 2) (q0 := 0) rfl rfl) rfl rfl (Nat.le_of_ble_eq_true rfl) dX0_send_71 [0, 1, 2, 3, 4, 5, 6] [7, 8, 9, 10, 11, 12, 13, 14, 15] rfl rfl rfl rfl (by decide) ⟨(Nat.le_of_ble_eq_true rfl), (Nat.le_of_ble_eq_true rfl)⟩ (fun u H locs hp hw => ?_)
            have hw : Wd D A s [oS sa ha ta gt gf q6.1 tra gs, ((sa 3), .inl (d 4, 24, .inr (.inr (.inr (.inr (va_up PA gc.toNatClampNeg (some (qa 0)))))))), oH qa (Hfl q6.2) (Hro q6.2) (Hrp q6.2) (Hca q6.2) (Hwy q6.2) (Hla q6.2) (Hmi q6.2) (Htf q6.2) (Htk q6.2), aV d qa 1 (HHO q6.2), aV d qa 2 (HAT q6.2), aV d qa 3 (HTO q6.2), aV d qa 4 (HWE q6.2), aV d qa 5 (HHE q6.2), aV d qa 6 (HRA q6.2), oH ha (Hfl q7) (Hro q7) (Hrp q7) (Hca q7) (Hwy q7) (Hla q7) (Hmi q7) (Htf q7) (Htk q7), aV d ha 1 (HHO q7), aV d ha 2 (HAT q7), aV d ha 3 (HTO q7), aV d ha 4 (HWE q7), aV d ha 5 (HHE q7), aV d ha 6 (HRA q7)] H locs := hw
            refine lv_aload_n hx hb dX0_send_74 rfl (lv_at hl 0 rfl) ?_
            refine va_get (ci := 1) (C := RX0) (T := TX0) (N := 14) hx hb hts in_X0 hown hK hw.1 0 rfl rfl 4 (by decide) (hts _ q298) (fun _ h9 => h9) rfl dX0_send_75 ?_
            refine lv_iconst (v := 2) hx hb dX0_send_78 (by decide) ?_
            obtain ⟨q8, hcq8, hf⟩ := op_e hf
            refine x_VI (wr := [oS sa ha ta gt gf q6.1 tra gs, ((sa 3), .inl (d 4, 24, .inr (.inr (.inr (.inr (va_up PA gc.toNatClampNeg (some (qa 0)))))))), oH qa (Hfl q6.2) (Hro q6.2) (Hrp q6.2) (Hca q6.2) (Hwy q6.2) (Hla q6.2) (Hmi q6.2) (Htf q6.2) (Htk q6.2), aV d qa 1 (HHO q6.2), aV d qa 2 (HAT q6.2), aV d qa 3 (HTO q6.2), aV d qa 4 (HWE q6.2), aV d qa 5 (HHE q6.2), aV d qa 6 (HRA q6.2)]) (rest := []) [.int 2] hX cx hw hl.1 (vX1_areSo l  D d cs wi ln lf dk dn him ha q7 2  q8 hcq8) (lw_V q867 q788 q789 q83 q790) hd_X1_areSo ⟨(Nat.le_of_ble_eq_true rfl), (Nat.le_of_ble_eq_true rfl)⟩ (va_recv hK hw.1 (ci := 2) (q0 := 9) rfl rfl) rfl rfl (Nat.le_of_ble_eq_true rfl) dX0_send_79 [9, 10, 11, 12, 13, 14, 15] [0, 1, 2, 3, 4, 5, 6, 7, 8] rfl rfl rfl rfl (by decide) ⟨(Nat.le_of_ble_eq_true rfl), (Nat.le_of_ble_eq_true rfl)⟩ (fun r u H locs hp hw => ?_)
            have hw : Wd D A s [oS sa ha ta gt gf q6.1 tra gs, ((sa 3), .inl (d 4, 24, .inr (.inr (.inr (.inr (va_up PA gc.toNatClampNeg (some (qa 0)))))))), oH qa (Hfl q6.2) (Hro q6.2) (Hrp q6.2) (Hca q6.2) (Hwy q6.2) (Hla q6.2) (Hmi q6.2) (Htf q6.2) (Htk q6.2), aV d qa 1 (HHO q6.2), aV d qa 2 (HAT q6.2), aV d qa 3 (HTO q6.2), aV d qa 4 (HWE q6.2), aV d qa 5 (HHE q6.2), aV d qa 6 (HRA q6.2), oH ha (Hfl q7) (Hro q7) (Hrp q7) (Hca q7) (Hwy q7) (Hla q7) (Hmi q7) (Htf q7) (Htk q7), aV d ha 1 (HHO q7), aV d ha 2 (HAT q7), aV d ha 3 (HTO q7), aV d ha 4 (HWE q7), aV d ha 5 (HHE q7), aV d ha 6 (HRA q7)] H locs := hw
            subst r
            have hf := sm_e hf
            subst hf
            exact x_retI cx hw rfl qa rfl [9, 10, 11, 12, 13, 14, 15, 0, 1, 2, 3, 4, 5, 6, 7, 8] rfl rfl (Nat.le_of_ble_eq_true rfl) (Nat.le_of_ble_eq_true rfl) dX0_send_82
          · have hf := if_t hf c54
            refine lv_ldc (v := (-1000002)) hx hb hown (hts _ q764) dX0_send_57 ?_
            have hf := sm_e hf
            subst hf
            exact x_retI cx hw rfl (fun _ => 0) rfl [1, 2, 3, 4, 5, 6, 7, 8, 0] rfl rfl (Nat.le_of_ble_eq_true rfl) (Nat.le_of_ble_eq_true rfl) dX0_send_59
      · have hf := if_t hf c25
        refine lv_ldc (v := (-1000001)) hx hb hown (hts _ q350) dX0_send_28 ?_
        have hf := sm_e hf
        subst hf
        exact x_retI cx hw rfl (fun _ => 0) rfl [1, 2, 3, 4, 5, 6, 7, 8, 0] rfl rfl (Nat.le_of_ble_eq_true rfl) (Nat.le_of_ble_eq_true rfl) dX0_send_30
set_option maxHeartbeats 4000000 in
theorem mX0_send_1 (l : Launch) (D : va_G) (d : Nat → ClassId) (cs : Nat → Nat) (wi : va_W) (ln : Nat → Option Int32) (lf : Nat → Nat → Option Nat) (dk : Nat → Option Nat) (dn : Nat → Int32) (him : ImF d wi ln lf dk dn) (ha : Nat → Nat) (qa : Nat → Nat) (sa : Nat → Nat) (ta : Nat → Nat) (hs : Nat → Bool) (hv : HV) (qv : HV) (gt : Int32) (gf : Int32) (gc : Int32) (tra : Nat) (gs : Int32) (PA : Nat → Option Nat) (p1 : Int32) (p2 : Int32) (p3 : Int32) (hhs : ∀ e, hs e = true → ∃ fs, (e, .inr (2, fs)) ∈ wi) (res : Int32 × HV × HV × Int32 × (Nat → Option Nat)) (hf : fX0_send_1 ln qa hs hv qv gc PA p1 p2 p3 = some res) : MetI l yX0_send (ws_ yX0_send cX0_send 4 (some .int)) { frames := 3, cells := 0, slots := 0, locals := 83 } [.ref (sa 0), .int p1, .int p2, .int p3] (XI D cs wi) D d [oH ha (Hfl hv) (Hro hv) (Hrp hv) (Hca hv) (Hwy hv) (Hla hv) (Hmi hv) (Htf hv) (Htk hv), aV d ha 1 (HHO hv), aV d ha 2 (HAT hv), aV d ha 3 (HTO hv), aV d ha 4 (HWE hv), aV d ha 5 (HHE hv), aV d ha 6 (HRA hv), oH qa (Hfl qv) (Hro qv) (Hrp qv) (Hca qv) (Hwy qv) (Hla qv) (Hmi qv) (Htf qv) (Htk qv), aV d qa 1 (HHO qv), aV d qa 2 (HAT qv), aV d qa 3 (HTO qv), aV d qa 4 (HWE qv), aV d qa 5 (HHE qv), aV d qa 6 (HRA qv), oS sa ha ta gt gf gc tra gs, ((sa 3), .inl (d 4, 24, .inr (.inr (.inr (.inr PA)))))] (fun r (_ : Unit) => r = res.1) (fun _ => [oH ha (Hfl res.2.1) (Hro res.2.1) (Hrp res.2.1) (Hca res.2.1) (Hwy res.2.1) (Hla res.2.1) (Hmi res.2.1) (Htf res.2.1) (Htk res.2.1), aV d ha 1 (HHO res.2.1), aV d ha 2 (HAT res.2.1), aV d ha 3 (HTO res.2.1), aV d ha 4 (HWE res.2.1), aV d ha 5 (HHE res.2.1), aV d ha 6 (HRA res.2.1), oH qa (Hfl res.2.2.1) (Hro res.2.2.1) (Hrp res.2.2.1) (Hca res.2.2.1) (Hwy res.2.2.1) (Hla res.2.2.1) (Hmi res.2.2.1) (Htf res.2.2.1) (Htk res.2.2.1), aV d qa 1 (HHO res.2.2.1), aV d qa 2 (HAT res.2.2.1), aV d qa 3 (HTO res.2.2.1), aV d qa 4 (HWE res.2.2.1), aV d qa 5 (HHE res.2.2.1), aV d qa 6 (HRA res.2.2.1), oS sa ha ta gt gf res.2.2.2.1 tra gs, ((sa 3), .inl (d 4, 24, .inr (.inr (.inr (.inr res.2.2.2.2)))))]) := by
  have hX := XI.ok (D := D) (cs := cs) (wi := wi)
  refine MetI.of (by decide +kernel) (Nat.le_of_ble_eq_true rfl) ?_
  intro p e s m below meth c A cx hw ls hl
  have cx : Cx p s m _ meth c (XI D cs wi) D d A "DishLift" cX0_send 4 (some .int) "send" := cx
  have cx' := cx
  obtain ⟨hx, hb, hr, hlk, hml, hown, hts, hK, hA, hXs, hnm⟩ := cx'
  have hl : lv_has ls 4 [(0, .ref (sa 0)), (1, .int p1), (2, .int p2), (3, .int p3)] := hl
  generalize hlo : ([] : List Loc) = locs at hw ⊢
  unfold fX0_send_1 at hf
  refine lv_aload_n hx hb dX0_send_0 rfl (lv_at hl 0 rfl) ?_
  refine lv_iload_n hx hb dX0_send_1 rfl (lv_at hl 1 rfl) ?_
  obtain ⟨q1, hcq1, hf⟩ := op_e hf
  refine x_VI (wr := [oH qa (Hfl qv) (Hro qv) (Hrp qv) (Hca qv) (Hwy qv) (Hla qv) (Hmi qv) (Htf qv) (Htk qv), aV d qa 1 (HHO qv), aV d qa 2 (HAT qv), aV d qa 3 (HTO qv), aV d qa 4 (HWE qv), aV d qa 5 (HHE qv), aV d qa 6 (HRA qv), ((sa 3), .inl (d 4, 24, .inr (.inr (.inr (.inr PA)))))]) (rest := []) [.int p1] hX cx hw hl.1 (mX0_isDish l  D d cs wi ln lf dk dn him ha sa ta hv gt gf gc tra gs p1  q1 hcq1) (lw_V q890 q892 qs23 q82 q893) hd_X0_isDish ⟨(Nat.le_of_ble_eq_true rfl), (Nat.le_of_ble_eq_true rfl)⟩ (va_recv hK hw.1 (ci := 1) (q0 := 14) rfl rfl) rfl rfl (Nat.le_of_ble_eq_true rfl) dX0_send_2 [0, 1, 2, 3, 4, 5, 6, 14] [7, 8, 9, 10, 11, 12, 13, 15] rfl rfl rfl rfl (by decide) ⟨(Nat.le_of_ble_eq_true rfl), (Nat.le_of_ble_eq_true rfl)⟩ (fun r u H locs hp hw => ?_)
  have hw : Wd D A s [oH qa (Hfl qv) (Hro qv) (Hrp qv) (Hca qv) (Hwy qv) (Hla qv) (Hmi qv) (Htf qv) (Htk qv), aV d qa 1 (HHO qv), aV d qa 2 (HAT qv), aV d qa 3 (HTO qv), aV d qa 4 (HWE qv), aV d qa 5 (HHE qv), aV d qa 6 (HRA qv), ((sa 3), .inl (d 4, 24, .inr (.inr (.inr (.inr PA))))), oH ha (Hfl hv) (Hro hv) (Hrp hv) (Hca hv) (Hwy hv) (Hla hv) (Hmi hv) (Htf hv) (Htk hv), aV d ha 1 (HHO hv), aV d ha 2 (HAT hv), aV d ha 3 (HTO hv), aV d ha 4 (HWE hv), aV d ha 5 (HHE hv), aV d ha 6 (HRA hv), oS sa ha ta gt gf gc tra gs] H locs := hw
  subst r
  refine lv_if_eq (tgt := 28) hx hb dX0_send_5 (by decide) (fun c5 => ?_) (fun c5 => ?_)
  · have hf := if_t hf c5
    refine lv_ldc (v := (-1000001)) hx hb hown (hts _ q350) dX0_send_28 ?_
    have hf := sm_e hf
    subst hf
    exact x_retI cx hw rfl () rfl [8, 9, 10, 11, 12, 13, 14, 0, 1, 2, 3, 4, 5, 6, 15, 7] rfl rfl (Nat.le_of_ble_eq_true rfl) (Nat.le_of_ble_eq_true rfl) dX0_send_30
  · have hf := if_f hf c5
    refine lv_aload_n hx hb dX0_send_8 rfl (lv_at hl 0 rfl) ?_
    refine lv_iload_n hx hb dX0_send_9 rfl (lv_at hl 2 rfl) ?_
    obtain ⟨q2, hcq2, hf⟩ := op_e hf
    refine x_VI (wr := [oH qa (Hfl qv) (Hro qv) (Hrp qv) (Hca qv) (Hwy qv) (Hla qv) (Hmi qv) (Htf qv) (Htk qv), aV d qa 1 (HHO qv), aV d qa 2 (HAT qv), aV d qa 3 (HTO qv), aV d qa 4 (HWE qv), aV d qa 5 (HHE qv), aV d qa 6 (HRA qv), ((sa 3), .inl (d 4, 24, .inr (.inr (.inr (.inr PA)))))]) (rest := []) [.int p2] hX cx hw hl.1 (mX0_isFloor l  D d cs wi ln lf dk dn him ha sa ta hv gt gf gc tra gs p2  q2 hcq2) (lw_V q872 q874 qs22 q82 q875) hd_X0_isFloor ⟨(Nat.le_of_ble_eq_true rfl), (Nat.le_of_ble_eq_true rfl)⟩ (va_recv hK hw.1 (ci := 1) (q0 := 15) rfl rfl) rfl rfl (Nat.le_of_ble_eq_true rfl) dX0_send_10 [8, 9, 10, 11, 12, 13, 14, 15] [0, 1, 2, 3, 4, 5, 6, 7] rfl rfl rfl rfl (by decide) ⟨(Nat.le_of_ble_eq_true rfl), (Nat.le_of_ble_eq_true rfl)⟩ (fun r u H locs hp hw => ?_)
    have hw : Wd D A s [oH qa (Hfl qv) (Hro qv) (Hrp qv) (Hca qv) (Hwy qv) (Hla qv) (Hmi qv) (Htf qv) (Htk qv), aV d qa 1 (HHO qv), aV d qa 2 (HAT qv), aV d qa 3 (HTO qv), aV d qa 4 (HWE qv), aV d qa 5 (HHE qv), aV d qa 6 (HRA qv), ((sa 3), .inl (d 4, 24, .inr (.inr (.inr (.inr PA))))), oH ha (Hfl hv) (Hro hv) (Hrp hv) (Hca hv) (Hwy hv) (Hla hv) (Hmi hv) (Htf hv) (Htk hv), aV d ha 1 (HHO hv), aV d ha 2 (HAT hv), aV d ha 3 (HTO hv), aV d ha 4 (HWE hv), aV d ha 5 (HHE hv), aV d ha 6 (HRA hv), oS sa ha ta gt gf gc tra gs] H locs := hw
    subst r
    refine lv_if_eq (tgt := 28) hx hb dX0_send_13 (by decide) (fun c13 => ?_) (fun c13 => ?_)
    · have hf := if_t hf c13
      refine lv_ldc (v := (-1000001)) hx hb hown (hts _ q350) dX0_send_28 ?_
      have hf := sm_e hf
      subst hf
      exact x_retI cx hw rfl () rfl [8, 9, 10, 11, 12, 13, 14, 0, 1, 2, 3, 4, 5, 6, 15, 7] rfl rfl (Nat.le_of_ble_eq_true rfl) (Nat.le_of_ble_eq_true rfl) dX0_send_30
    · have hf := if_f hf c13
      refine lv_iload_n hx hb dX0_send_16 rfl (lv_at hl 3 rfl) ?_
      refine lv_i2l (v := p3.toInt64) hx hb dX0_send_17 rfl ?_
      refine lv_lconst (v := 0) hx hb dX0_send_18 (by decide) ?_
      refine lv_ldc2 (v := 60) hx hb hown (hts _ q894) dX0_send_19 ?_
      obtain ⟨q3, hcq3, hf⟩ := op_e hf
      refine x_SI (wr := [oH qa (Hfl qv) (Hro qv) (Hrp qv) (Hca qv) (Hwy qv) (Hla qv) (Hmi qv) (Htf qv) (Htk qv), aV d qa 1 (HHO qv), aV d qa 2 (HAT qv), aV d qa 3 (HTO qv), aV d qa 4 (HWE qv), aV d qa 5 (HHE qv), aV d qa 6 (HRA qv), ((sa 3), .inl (d 4, 24, .inr (.inr (.inr (.inr PA))))), oH ha (Hfl hv) (Hro hv) (Hrp hv) (Hca hv) (Hwy hv) (Hla hv) (Hmi hv) (Htf hv) (Htk hv), aV d ha 1 (HHO hv), aV d ha 2 (HAT hv), aV d ha 3 (HTO hv), aV d ha 4 (HWE hv), aV d ha 5 (HHE hv), aV d ha 6 (HRA hv), oS sa ha ta gt gf gc tra gs]) (rest := []) [.long p3.toInt64, .long 0, .long 60] hX cx hw hl.1 (mX0_isIn l (XI D cs wi) hX D d  p3.toInt64 0 60  q3 hcq3) (lw_S q346 q347 q82 q348) hd_X0_isIn ⟨(Nat.le_of_ble_eq_true rfl), (Nat.le_of_ble_eq_true rfl)⟩ rfl rfl (Nat.le_of_ble_eq_true rfl) dX0_send_22 [] [0, 1, 2, 3, 4, 5, 6, 7, 8, 9, 10, 11, 12, 13, 14, 15] rfl rfl rfl rfl (by decide) ⟨(Nat.le_of_ble_eq_true rfl), (Nat.le_of_ble_eq_true rfl)⟩ (fun r u H locs hp hw => ?_)
      have hw : Wd D A s [oH qa (Hfl qv) (Hro qv) (Hrp qv) (Hca qv) (Hwy qv) (Hla qv) (Hmi qv) (Htf qv) (Htk qv), aV d qa 1 (HHO qv), aV d qa 2 (HAT qv), aV d qa 3 (HTO qv), aV d qa 4 (HWE qv), aV d qa 5 (HHE qv), aV d qa 6 (HRA qv), ((sa 3), .inl (d 4, 24, .inr (.inr (.inr (.inr PA))))), oH ha (Hfl hv) (Hro hv) (Hrp hv) (Hca hv) (Hwy hv) (Hla hv) (Hmi hv) (Htf hv) (Htk hv), aV d ha 1 (HHO hv), aV d ha 2 (HAT hv), aV d ha 3 (HTO hv), aV d ha 4 (HWE hv), aV d ha 5 (HHE hv), aV d ha 6 (HRA hv), oS sa ha ta gt gf gc tra gs] H locs := hw
      subst r
      refine lv_if_ne (tgt := 31) hx hb dX0_send_25 (by decide) (fun c25 => ?_) (fun c25 => ?_)
      · have hf := if_f hf c25
        refine lv_aload_n hx hb dX0_send_31 rfl (lv_at hl 0 rfl) ?_
        refine va_get (ci := 1) (C := RX0) (T := TX0) (N := 14) hx hb hts in_X0 hown hK hw.1 15 rfl rfl 4 (by decide) (hts _ q298) (fun _ h9 => h9) rfl dX0_send_32 ?_
        refine va_get (ci := 2) (C := RX1) (T := TX1) (N := 15) hx hb hts in_X1 hown hK hw.1 8 rfl rfl 6 (by decide) (hts _ q176) (fun _ h9 => h9) rfl dX0_send_35 ?_
        refine lv_iload_n hx hb dX0_send_38 rfl (lv_at hl 1 rfl) ?_
        obtain ⟨v4, hrd, hf⟩ := op_e hf
        refine x_iald (q0 := 9) cx hw rfl hrd dX0_send_39 ?_
        refine lv_iconst (v := 2) hx hb dX0_send_40 (by decide) ?_
        refine lv_icmp_ne (tgt := 57) hx hb dX0_send_41 (by decide) (fun c41 => ?_) (fun c41 => ?_)
        · have hf := if_f hf c41
          refine lv_ldc (v := (-1000002)) hx hb hown (hts _ q764) dX0_send_57 ?_
          have hf := sm_e hf
          subst hf
          exact x_retI cx hw rfl () rfl [8, 9, 10, 11, 12, 13, 14, 0, 1, 2, 3, 4, 5, 6, 15, 7] rfl rfl (Nat.le_of_ble_eq_true rfl) (Nat.le_of_ble_eq_true rfl) dX0_send_59
        · have hf := if_t hf c41
          refine lv_aload_n hx hb dX0_send_44 rfl (lv_at hl 0 rfl) ?_
          refine va_get (ci := 1) (C := RX0) (T := TX0) (N := 14) hx hb hts in_X0 hown hK hw.1 15 rfl rfl 4 (by decide) (hts _ q298) (fun _ h9 => h9) rfl dX0_send_45 ?_
          refine va_get (ci := 2) (C := RX1) (T := TX1) (N := 15) hx hb hts in_X1 hown hK hw.1 8 rfl rfl 8 (by decide) (hts _ q182) (fun _ h9 => h9) rfl dX0_send_48 ?_
          refine lv_iload_n hx hb dX0_send_51 rfl (lv_at hl 1 rfl) ?_
          obtain ⟨v5, hrd, hf⟩ := op_e hf
          refine x_iald (q0 := 11) cx hw rfl hrd dX0_send_52 ?_
          refine lv_iload_n hx hb dX0_send_53 rfl (lv_at hl 2 rfl) ?_
          refine lv_icmp_ne (tgt := 60) hx hb dX0_send_54 (by decide) (fun c54 => ?_) (fun c54 => ?_)
          · have hf := if_f hf c54
            refine lv_aload_n hx hb dX0_send_60 rfl (lv_at hl 0 rfl) ?_
            obtain ⟨q6, hcq6, hf⟩ := op_e hf
            refine x_VV (wr := []) (rest := []) [] hX cx hw hl.1 (mX0_keep_1 l  D d cs wi ln lf dk dn him ha qa sa ta hs hv qv gt gf gc tra gs PA hhs q6 hcq6) (lw_V q774 q776 qs18 q82 q777) hd_X0_keep ⟨(Nat.le_of_ble_eq_true rfl), (Nat.le_of_ble_eq_true rfl)⟩ (va_recv hK hw.1 (ci := 1) (q0 := 15) rfl rfl) rfl rfl (Nat.le_of_ble_eq_true rfl) dX0_send_61 [8, 9, 10, 11, 12, 13, 14, 0, 1, 2, 3, 4, 5, 6, 15, 7] [] rfl rfl rfl rfl (by decide) ⟨(Nat.le_of_ble_eq_true rfl), (Nat.le_of_ble_eq_true rfl)⟩ (fun u H locs hp hw => ?_)
            have hw : Wd D A s [oH ha (Hfl hv) (Hro hv) (Hrp hv) (Hca hv) (Hwy hv) (Hla hv) (Hmi hv) (Htf hv) (Htk hv), aV d ha 1 (HHO hv), aV d ha 2 (HAT hv), aV d ha 3 (HTO hv), aV d ha 4 (HWE hv), aV d ha 5 (HHE hv), aV d ha 6 (HRA hv), oH qa (Hfl q6.1) (Hro q6.1) (Hrp q6.1) (Hca q6.1) (Hwy q6.1) (Hla q6.1) (Hmi q6.1) (Htf q6.1) (Htk q6.1), aV d qa 1 (HHO q6.1), aV d qa 2 (HAT q6.1), aV d qa 3 (HTO q6.1), aV d qa 4 (HWE q6.1), aV d qa 5 (HHE q6.1), aV d qa 6 (HRA q6.1), oS sa ha ta gt gf q6.2.1 tra gs, ((sa 3), .inl (d 4, 24, .inr (.inr (.inr (.inr q6.2.2)))))] H locs := hw
            refine lv_aload_n hx hb dX0_send_64 rfl (lv_at hl 0 rfl) ?_
            refine va_get (ci := 1) (C := RX0) (T := TX0) (N := 14) hx hb hts in_X0 hown hK hw.1 14 rfl rfl 4 (by decide) (hts _ q298) (fun _ h9 => h9) rfl dX0_send_65 ?_
            refine lv_iload_n hx hb dX0_send_68 rfl (lv_at hl 1 rfl) ?_
            refine lv_iload_n hx hb dX0_send_69 rfl (lv_at hl 2 rfl) ?_
            refine lv_iload_n hx hb dX0_send_70 rfl (lv_at hl 3 rfl) ?_
            obtain ⟨q7, hcq7, hf⟩ := op_e hf
            refine x_VV (wr := [oH qa (Hfl q6.1) (Hro q6.1) (Hrp q6.1) (Hca q6.1) (Hwy q6.1) (Hla q6.1) (Hmi q6.1) (Htf q6.1) (Htk q6.1), aV d qa 1 (HHO q6.1), aV d qa 2 (HAT q6.1), aV d qa 3 (HTO q6.1), aV d qa 4 (HWE q6.1), aV d qa 5 (HHE q6.1), aV d qa 6 (HRA q6.1), oS sa ha ta gt gf q6.2.1 tra gs, ((sa 3), .inl (d 4, 24, .inr (.inr (.inr (.inr q6.2.2)))))]) (rest := []) [.int p1, .int p2, .int p3] hX cx hw hl.1 (vX1_send l  D d cs wi ln lf dk dn him ha hv p1 p2 p3  q7 hcq7) (lw_V q895 q896 q897 q83 q898) hd_X1_send ⟨(Nat.le_of_ble_eq_true rfl), (Nat.le_of_ble_eq_true rfl)⟩ (va_recv hK hw.1 (ci := 2) (q0 := 0) rfl rfl) rfl rfl (Nat.le_of_ble_eq_true rfl) dX0_send_71 [0, 1, 2, 3, 4, 5, 6] [7, 8, 9, 10, 11, 12, 13, 14, 15] rfl rfl rfl rfl (by decide) ⟨(Nat.le_of_ble_eq_true rfl), (Nat.le_of_ble_eq_true rfl)⟩ (fun u H locs hp hw => ?_)
            have hw : Wd D A s [oH qa (Hfl q6.1) (Hro q6.1) (Hrp q6.1) (Hca q6.1) (Hwy q6.1) (Hla q6.1) (Hmi q6.1) (Htf q6.1) (Htk q6.1), aV d qa 1 (HHO q6.1), aV d qa 2 (HAT q6.1), aV d qa 3 (HTO q6.1), aV d qa 4 (HWE q6.1), aV d qa 5 (HHE q6.1), aV d qa 6 (HRA q6.1), oS sa ha ta gt gf q6.2.1 tra gs, ((sa 3), .inl (d 4, 24, .inr (.inr (.inr (.inr q6.2.2))))), oH ha (Hfl q7) (Hro q7) (Hrp q7) (Hca q7) (Hwy q7) (Hla q7) (Hmi q7) (Htf q7) (Htk q7), aV d ha 1 (HHO q7), aV d ha 2 (HAT q7), aV d ha 3 (HTO q7), aV d ha 4 (HWE q7), aV d ha 5 (HHE q7), aV d ha 6 (HRA q7)] H locs := hw
            refine lv_aload_n hx hb dX0_send_74 rfl (lv_at hl 0 rfl) ?_
            refine va_get (ci := 1) (C := RX0) (T := TX0) (N := 14) hx hb hts in_X0 hown hK hw.1 7 rfl rfl 4 (by decide) (hts _ q298) (fun _ h9 => h9) rfl dX0_send_75 ?_
            refine lv_iconst (v := 2) hx hb dX0_send_78 (by decide) ?_
            obtain ⟨q8, hcq8, hf⟩ := op_e hf
            refine x_VI (wr := [oH qa (Hfl q6.1) (Hro q6.1) (Hrp q6.1) (Hca q6.1) (Hwy q6.1) (Hla q6.1) (Hmi q6.1) (Htf q6.1) (Htk q6.1), aV d qa 1 (HHO q6.1), aV d qa 2 (HAT q6.1), aV d qa 3 (HTO q6.1), aV d qa 4 (HWE q6.1), aV d qa 5 (HHE q6.1), aV d qa 6 (HRA q6.1), oS sa ha ta gt gf q6.2.1 tra gs, ((sa 3), .inl (d 4, 24, .inr (.inr (.inr (.inr q6.2.2)))))]) (rest := []) [.int 2] hX cx hw hl.1 (vX1_areSo l  D d cs wi ln lf dk dn him ha q7 2  q8 hcq8) (lw_V q867 q788 q789 q83 q790) hd_X1_areSo ⟨(Nat.le_of_ble_eq_true rfl), (Nat.le_of_ble_eq_true rfl)⟩ (va_recv hK hw.1 (ci := 2) (q0 := 9) rfl rfl) rfl rfl (Nat.le_of_ble_eq_true rfl) dX0_send_79 [9, 10, 11, 12, 13, 14, 15] [0, 1, 2, 3, 4, 5, 6, 7, 8] rfl rfl rfl rfl (by decide) ⟨(Nat.le_of_ble_eq_true rfl), (Nat.le_of_ble_eq_true rfl)⟩ (fun r u H locs hp hw => ?_)
            have hw : Wd D A s [oH qa (Hfl q6.1) (Hro q6.1) (Hrp q6.1) (Hca q6.1) (Hwy q6.1) (Hla q6.1) (Hmi q6.1) (Htf q6.1) (Htk q6.1), aV d qa 1 (HHO q6.1), aV d qa 2 (HAT q6.1), aV d qa 3 (HTO q6.1), aV d qa 4 (HWE q6.1), aV d qa 5 (HHE q6.1), aV d qa 6 (HRA q6.1), oS sa ha ta gt gf q6.2.1 tra gs, ((sa 3), .inl (d 4, 24, .inr (.inr (.inr (.inr q6.2.2))))), oH ha (Hfl q7) (Hro q7) (Hrp q7) (Hca q7) (Hwy q7) (Hla q7) (Hmi q7) (Htf q7) (Htk q7), aV d ha 1 (HHO q7), aV d ha 2 (HAT q7), aV d ha 3 (HTO q7), aV d ha 4 (HWE q7), aV d ha 5 (HHE q7), aV d ha 6 (HRA q7)] H locs := hw
            subst r
            have hf := sm_e hf
            subst hf
            exact x_retI cx hw rfl () rfl [9, 10, 11, 12, 13, 14, 15, 0, 1, 2, 3, 4, 5, 6, 7, 8] rfl rfl (Nat.le_of_ble_eq_true rfl) (Nat.le_of_ble_eq_true rfl) dX0_send_82
          · have hf := if_t hf c54
            refine lv_ldc (v := (-1000002)) hx hb hown (hts _ q764) dX0_send_57 ?_
            have hf := sm_e hf
            subst hf
            exact x_retI cx hw rfl () rfl [8, 9, 10, 11, 12, 13, 14, 0, 1, 2, 3, 4, 5, 6, 15, 7] rfl rfl (Nat.le_of_ble_eq_true rfl) (Nat.le_of_ble_eq_true rfl) dX0_send_59
      · have hf := if_t hf c25
        refine lv_ldc (v := (-1000001)) hx hb hown (hts _ q350) dX0_send_28 ?_
        have hf := sm_e hf
        subst hf
        exact x_retI cx hw rfl () rfl [8, 9, 10, 11, 12, 13, 14, 0, 1, 2, 3, 4, 5, 6, 15, 7] rfl rfl (Nat.le_of_ble_eq_true rfl) (Nat.le_of_ble_eq_true rfl) dX0_send_30
