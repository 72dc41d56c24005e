set_option maxRecDepth 100000
def fX2_begins (tn : Nat) (tm : Int32) (TB : Nat → Int32) (p1 : Int32) : Option (Int32 × (Nat → Int32)) :=
  if 16 ≤ tm then
    some (tm, TB)
  else
    (wr TB tn tm p1).bind fun w1 =>
    some ((tm + 1), w1)
def fX0_trace (tn : Nat) (tm : Int32) (TB : Nat → Int32) (p1 : Int32) : Option (Int32) :=
  (fX0_isIn p1.toInt64 0 ((tm - 1).toInt64)).bind fun q1 =>
  if q1 = 0 then
    some (-1000000)
  else
    (rd TB tn p1).bind fun v2 =>
    some v2
theorem hd_X2_begins : yX2_begins.cls = "DishLift$Trail" ∧ yX2_begins.cls ≠ "java/lang/invoke/MethodHandle" ∧ yX2_begins.cls ≠ "java/lang/invoke/VarHandle" ∧ (parseMethodDescriptor yX2_begins.desc).map (fun d => d.parameters.length) = some 1 := by decide +kernel
set_option maxHeartbeats 4000000 in
theorem mX2_begins (l : Launch) (D : va_G) (d : Nat → ClassId) (cs : Nat → Nat) (wi : va_W) (ln : Nat → Option Int32) (lf : Nat → Nat → Option Nat) (dk : Nat → Option Nat) (dn : Nat → Int32) (him : ImF d wi ln lf dk dn) (tra : Nat) (tba : Nat) (tn : Nat) (tm : Int32) (TB : Nat → Int32) (p1 : Int32)  (res : Int32 × (Nat → Int32)) (hf : fX2_begins tn tm TB p1 = some res) : MetV l yX2_begins (ws_ yX2_begins cX2_begins 2 none) { frames := 0, cells := 0, slots := 0, locals := 0 } [.ref tra, .int p1] (XI D cs wi) D d [(tra, .inr (4, [.ref tba, .int tm])), (tba, .inl (d 0, tn, .inl TB))] (fun (_ : Unit) => True) (fun _ => [(tra, .inr (4, [.ref tba, .int res.1])), (tba, .inl (d 0, tn, .inl res.2))]) := by
  have hX := XI.ok (D := D) (cs := cs) (wi := wi)
  refine MetV.of (by decide +kernel) (Nat.le_of_ble_eq_true rfl) ?_
  intro p e s m below meth c A cx hw ls hl
  have cx : Cx p s m _ meth c (XI D cs wi) D d A "DishLift$Trail" cX2_begins 2 none "begins" := cx
  have cx' := cx
  obtain ⟨hx, hb, hr, hlk, hml, hown, hts, hK, hA, hXs, hnm⟩ := cx'
  have hl : lv_has ls 2 [(0, .ref tra), (1, .int p1)] := hl
  generalize hlo : ([] : List Loc) = locs at hw ⊢
  unfold fX2_begins at hf
  refine lv_aload_n hx hb dX2_begins_0 rfl (lv_at hl 0 rfl) ?_
  refine va_get (ci := 4) (C := RX2) (T := TX2) (N := 2) hx hb hts in_X2 hown hK hw.1 0 rfl rfl 1 (by decide) (hts _ q240) (fun _ h9 => h9) rfl dX2_begins_1 ?_
  refine lv_bipush (v := 16) hx hb dX2_begins_4 (by decide) ?_
  refine lv_icmp_ge (tgt := 26) hx hb dX2_begins_6 (by decide) (fun c6 => ?_) (fun c6 => ?_)
  · have hf := if_t hf c6
    have hf := sm_e hf
    subst hf
    exact x_retV cx hw () trivial [0, 1] rfl rfl (Nat.le_of_ble_eq_true rfl) (Nat.le_of_ble_eq_true rfl) dX2_begins_26
  · have hf := if_f hf c6
    refine lv_aload_n hx hb dX2_begins_9 rfl (lv_at hl 0 rfl) ?_
    refine va_get (ci := 4) (C := RX2) (T := TX2) (N := 2) hx hb hts in_X2 hown hK hw.1 0 rfl rfl 0 (by decide) (hts _ q238) (fun _ h9 => h9) rfl dX2_begins_10 ?_
    refine lv_aload_n hx hb dX2_begins_13 rfl (lv_at hl 0 rfl) ?_
    refine lv_dup hx hb dX2_begins_14 rfl ?_
    refine va_get (ci := 4) (C := RX2) (T := TX2) (N := 2) hx hb hts in_X2 hown hK hw.1 0 rfl rfl 1 (by decide) (hts _ q240) (fun _ h9 => h9) rfl dX2_begins_15 ?_
    refine lv_dup_x1 hx hb dX2_begins_18 rfl rfl ?_
    refine lv_iconst (v := 1) hx hb dX2_begins_19 (by decide) ?_
    refine lv_iadd hx hb dX2_begins_20 ?_
    refine va_put (ci := 4) (v := .int (tm + 1)) (ty := .int) (C := RX2) (T := TX2) (N := 2) hx hb hts in_X2 tyX2 tyX2_ok nmX2 hown hK hw.1 hw.2.1 hw.2.2 0 rfl rfl 1 (by decide) (hts _ q240) (fun _ h9 => h9) rfl (by decide +kernel) rfl rfl (Nat.le_of_ble_eq_true rfl) dX2_begins_21 (fun H locs hP hD hS => ?_)
    have hw : Wd D A s [(tra, .inr (4, [.ref tba, .int (tm + 1)])), (tba, .inl (d 0, tn, .inl TB))] H locs := ⟨hP, hD, hS⟩
    refine lv_iload_n hx hb dX2_begins_24 rfl (lv_at hl 1 rfl) ?_
    obtain ⟨w1, hrd, hf⟩ := op_e hf
    refine x_iast (q0 := 1) cx hw rfl hrd dX2_begins_25 (fun H locs hw => ?_)
    have hw : Wd D A s [(tra, .inr (4, [.ref tba, .int (tm + 1)])), (tba, .inl (d 0, tn, .inl w1))] H locs := hw
    have hf := sm_e hf
    subst hf
    exact x_retV cx hw () trivial [0, 1] rfl rfl (Nat.le_of_ble_eq_true rfl) (Nat.le_of_ble_eq_true rfl) dX2_begins_26
theorem hd_X0_trace : yX0_trace.cls = "DishLift" ∧ yX0_trace.cls ≠ "java/lang/invoke/MethodHandle" ∧ yX0_trace.cls ≠ "java/lang/invoke/VarHandle" ∧ (parseMethodDescriptor yX0_trace.desc).map (fun d => d.parameters.length) = some 1 := by decide +kernel
set_option maxHeartbeats 4000000 in
theorem mX0_trace (l : Launch) (D : va_G) (d : Nat → ClassId) (cs : Nat → Nat) (wi : va_W) (ln : Nat → Option Int32) (lf : Nat → Nat → Option Nat) (dk : Nat → Option Nat) (dn : Nat → Int32) (him : ImF d wi ln lf dk dn) (sa : Nat → Nat) (ha : Nat → Nat) (ta : Nat → Nat) (tra : Nat) (tba : Nat) (tn : Nat) (gt : Int32) (gf : Int32) (gc : Int32) (gs : Int32) (tm : Int32) (TB : Nat → Int32) (p1 : Int32)  (res : Int32) (hf : fX0_trace tn tm TB p1 = some res) : MetI l yX0_trace (ws_ yX0_trace cX0_trace 2 (some .int)) { frames := 1, cells := 0, slots := 0, locals := 25 } [.ref (sa 0), .int p1] (XI D cs wi) D d [oS sa ha ta gt gf gc tra gs, (tra, .inr (4, [.ref tba, .int tm])), (tba, .inl (d 0, tn, .inl TB))] (fun r (_ : Unit) => r = res) (fun _ => [oS sa ha ta gt gf gc tra gs, (tra, .inr (4, [.ref tba, .int tm])), (tba, .inl (d 0, tn, .inl TB))]) := by
  have hX := XI.ok (D := D) (cs := cs) (wi := wi)
  refine MetI.of (by decide +kernel) (Nat.le_of_ble_eq_true rfl) ?_
  intro p e s m below meth c A cx hw ls hl
  have cx : Cx p s m _ meth c (XI D cs wi) D d A "DishLift" cX0_trace 2 (some .int) "trace" := cx
  have cx' := cx
  obtain ⟨hx, hb, hr, hlk, hml, hown, hts, hK, hA, hXs, hnm⟩ := cx'
  have hl : lv_has ls 2 [(0, .ref (sa 0)), (1, .int p1)] := hl
  generalize hlo : ([] : List Loc) = locs at hw ⊢
  unfold fX0_trace at hf
  refine lv_iload_n hx hb dX0_trace_0 rfl (lv_at hl 1 rfl) ?_
  refine lv_i2l (v := p1.toInt64) hx hb dX0_trace_1 rfl ?_
  refine lv_lconst (v := 0) hx hb dX0_trace_2 (by decide) ?_
  refine lv_aload_n hx hb dX0_trace_3 rfl (lv_at hl 0 rfl) ?_
  refine va_get (ci := 1) (C := RX0) (T := TX0) (N := 14) hx hb hts in_X0 hown hK hw.1 0 rfl rfl 9 (by decide) (hts _ q303) (fun _ h9 => h9) rfl dX0_trace_4 ?_
  refine va_getN (ci := 4) (C := RX2) (T := TX2) (N := 2) hx hb hts in_X2 hown hK hw.1 1 rfl rfl 1 (by decide) (va_tabs rfl rfl (Tb.nestF q241 hXs.1)) (fun _ h9 => h9) rfl dX0_trace_7 ?_
  refine lv_iconst (v := 1) hx hb dX0_trace_10 (by decide) ?_
  refine lv_isub hx hb dX0_trace_11 ?_
  refine lv_i2l (v := (tm - 1).toInt64) hx hb dX0_trace_12 rfl ?_
  obtain ⟨q1, hcq1, hf⟩ := op_e hf
  refine x_SI (wr := [oS sa ha ta gt gf gc tra gs, (tra, .inr (4, [.ref tba, .int tm])), (tba, .inl (d 0, tn, .inl TB))]) (rest := []) [.long p1.toInt64, .long 0, .long (tm - 1).toInt64] hX cx hw hl.1 (mX0_isIn l (XI D cs wi) hX D d  p1.toInt64 0 ((tm - 1).toInt64)  q1 hcq1) (lw_S q346 q347 q82 q348) hd_X0_isIn ⟨(Nat.le_of_ble_eq_true rfl), (Nat.le_of_ble_eq_true rfl)⟩ rfl rfl (Nat.le_of_ble_eq_true rfl) dX0_trace_13 [] [0, 1, 2] rfl rfl rfl rfl (by decide) ⟨(Nat.le_of_ble_eq_true rfl), (Nat.le_of_ble_eq_true rfl)⟩ (fun r u H locs hp hw => ?_)
  have hw : Wd D A s [oS sa ha ta gt gf gc tra gs, (tra, .inr (4, [.ref tba, .int tm])), (tba, .inl (d 0, tn, .inl TB))] H locs := hw
  subst r
  refine lv_if_eq (tgt := 31) hx hb dX0_trace_16 (by decide) (fun c16 => ?_) (fun c16 => ?_)
  · have hf := if_t hf c16
    refine lv_ldcw (v := (-1000000)) hx hb hown (hts _ q948) dX0_trace_31 ?_
    have hf := sm_e hf
    subst hf
    exact x_retI cx hw rfl () rfl [0, 1, 2] rfl rfl (Nat.le_of_ble_eq_true rfl) (Nat.le_of_ble_eq_true rfl) dX0_trace_34
  · have hf := if_f hf c16
    refine lv_aload_n hx hb dX0_trace_19 rfl (lv_at hl 0 rfl) ?_
    refine va_get (ci := 1) (C := RX0) (T := TX0) (N := 14) hx hb hts in_X0 hown hK hw.1 0 rfl rfl 9 (by decide) (hts _ q303) (fun _ h9 => h9) rfl dX0_trace_20 ?_
    refine va_getN (ci := 4) (C := RX2) (T := TX2) (N := 2) hx hb hts in_X2 hown hK hw.1 1 rfl rfl 0 (by decide) (va_tabs rfl rfl (Tb.nestF q239 hXs.1)) (fun _ h9 => h9) rfl dX0_trace_23 ?_
    refine lv_iload_n hx hb dX0_trace_26 rfl (lv_at hl 1 rfl) ?_
    obtain ⟨v2, hrd, hf⟩ := op_e hf
    refine x_iald (q0 := 2) cx hw rfl hrd dX0_trace_27 ?_
    refine lv_goto (tgt := 34) hx hb dX0_trace_28 (by decide) ?_
    have hf := sm_e hf
    subst hf
    exact x_retI cx hw rfl () rfl [0, 1, 2] rfl rfl (Nat.le_of_ble_eq_true rfl) (Nat.le_of_ble_eq_true rfl) dX0_trace_34
