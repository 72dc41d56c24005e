set_option maxRecDepth 100000

theorem hd_J3_init_2 : yJ3_init_2.cls ≠ "java/lang/invoke/MethodHandle" ∧ yJ3_init_2.cls ≠ "java/lang/invoke/VarHandle" ∧ (parseMethodDescriptor yJ3_init_2.desc).map (fun d => d.parameters.length) = some 4 := by decide +kernel
set_option maxHeartbeats 4000000 in
theorem mJ3_init_2_X10 (l : Launch) (cs : Nat → Nat) (wi : va_W) (D : va_G) (d : Nat → ClassId) (h : Nat)   : MetV l yJ3_init_2 (ws_ yJ3_init_2 cJ3_init_2 5 none) { frames := 1, cells := 0, slots := 0, locals := 40 } [.ref h, .null, .null, .int 0, .int 0] (XI D cs wi) D d [(h, .inr (12, [.null, .null, .null, .null, .null, .int 0, .int 0]))] (fun (_ : Unit) => True) (fun u => [(h, .inr (12, [.null, .null, .null, .null, .null, .int 0, .int 0]))]) := by
  have hX := XI.ok (D := D) (cs := cs) (wi := wi)
  refine MetV.of (by decide +kernel) (Nat.le_of_ble_eq_true rfl) ?_
  intro p e s m below meth c A cx hw ls hl
  have cx : Cx p s m _ meth c (XI D cs wi) D d A "java/lang/Throwable" cJ3_init_2 5 none "<init>" := cx
  have cx' := cx
  obtain ⟨hx, hb, hr, hlk, hml, hown, hts, hK, hA, hXs, hnm⟩ := cx'
  have hl : lv_has ls 5 [(0, .ref h), (1, .null), (2, .null), (3, .int 0), (4, .int 0)] := hl
  generalize hlo : ([] : List Loc) = locs at hw ⊢
  refine lv_aload_n hx hb dJ3_init_2_0 rfl (lv_at hl 0 rfl) ?_
  refine W.objInit hx hb hown (hts _ q376) (hts _ q121) (hts _ q122) rfl (by rw [hml]; exact hl.1) rfl dJ3_init_2_1 (Nat.le_of_ble_eq_true rfl) (Nat.le_of_ble_eq_true rfl) ?_
  refine W.eq (g2 := F0 m 4 ls []) rfl ?_
  refine lv_aload_n hx hb dJ3_init_2_4 rfl (lv_at hl 0 rfl) ?_
  refine lv_aload_n hx hb dJ3_init_2_5 rfl (lv_at hl 0 rfl) ?_
  refine va_put (ci := 12) (v := .ref h) (ty := (.object "java/lang/Throwable")) (C := RX10) (T := TX10) (N := 7) hx hb hts in_X10 tyX10 tyX10_ok nmX10 hown hK hw.1 hw.2.1 hw.2.2 0 rfl rfl 0 (by decide) (hts _ q406) (fun _ h9 => h9) rfl (by decide +kernel) rfl rfl (Nat.le_of_ble_eq_true rfl) dJ3_init_2_6 (fun H locs hP hD hS => ?_)
  have hw : Wd D A s [(h, .inr (12, [.ref h, .null, .null, .null, .null, .int 0, .int 0]))] H locs := ⟨hP, hD, hS⟩
  refine lv_aload_n hx hb dJ3_init_2_9 rfl (lv_at hl 0 rfl) ?_
  obtain ⟨o1, hzq⟩ := zq_val hXs.2.1.2.1
  refine va_gets hx hb hzq hw.2.2 hown (hts _ q377) (fun _ h9 => h9) dJ3_init_2_10 ?_
  refine va_put (ci := 12) (v := va_rf o1) (ty := (.array (.object "java/lang/StackTraceElement"))) (C := RX10) (T := TX10) (N := 7) hx hb hts in_X10 tyX10 tyX10_ok nmX10 hown hK hw.1 hw.2.1 hw.2.2 0 rfl rfl 1 (by decide) (hts _ q407) (fun _ h9 => h9) rfl (by decide +kernel) (by cases o1 <;> rfl) (by cases o1 <;> rfl) (Nat.le_of_ble_eq_true rfl) dJ3_init_2_13 (fun H locs hP hD hS => ?_)
  have hw : Wd D A s [(h, .inr (12, [.ref h, va_rf o1, .null, .null, .null, .int 0, .int 0]))] H locs := ⟨hP, hD, hS⟩
  refine lv_aload_n hx hb dJ3_init_2_16 rfl (lv_at hl 0 rfl) ?_
  obtain ⟨o2, hzq⟩ := zq_val hXs.2.1.2.2.1
  refine va_gets hx hb hzq hw.2.2 hown (hts _ q379) (fun _ h9 => h9) dJ3_init_2_17 ?_
  refine va_put (ci := 12) (v := va_rf o2) (ty := (.object "java/util/List")) (C := RX10) (T := TX10) (N := 7) hx hb hts in_X10 tyX10 tyX10_ok nmX10 hown hK hw.1 hw.2.1 hw.2.2 0 rfl rfl 2 (by decide) (hts _ q408) (fun _ h9 => h9) rfl (by decide +kernel) (by cases o2 <;> rfl) (by cases o2 <;> rfl) (Nat.le_of_ble_eq_true rfl) dJ3_init_2_20 (fun H locs hP hD hS => ?_)
  have hw : Wd D A s [(h, .inr (12, [.ref h, va_rf o1, va_rf o2, .null, .null, .int 0, .int 0]))] H locs := ⟨hP, hD, hS⟩
  refine lv_iload hx hb dJ3_init_2_23 (lv_at hl 4 rfl) ?_
  refine lv_if_eq (tgt := 36) hx hb dJ3_init_2_25 (by decide) (fun c25 => ?_) (fun c25 => ?_)
  · refine lv_aload_n hx hb dJ3_init_2_36 rfl (lv_at hl 0 rfl) ?_
    refine lv_null hx hb dJ3_init_2_37 ?_
    refine va_put (ci := 12) (v := .null) (ty := (.array (.object "java/lang/StackTraceElement"))) (C := RX10) (T := TX10) (N := 7) hx hb hts in_X10 tyX10 tyX10_ok nmX10 hown hK hw.1 hw.2.1 hw.2.2 0 rfl rfl 1 (by decide) (hts _ q407) (fun _ h9 => h9) rfl (by decide +kernel) rfl rfl (Nat.le_of_ble_eq_true rfl) dJ3_init_2_38 (fun H locs hP hD hS => ?_)
    have hw : Wd D A s [(h, .inr (12, [.ref h, .null, va_rf o2, .null, .null, .int 0, .int 0]))] H locs := ⟨hP, hD, hS⟩
    refine lv_aload_n hx hb dJ3_init_2_41 rfl (lv_at hl 0 rfl) ?_
    refine lv_aload_nN hx hb dJ3_init_2_42 rfl (lv_at hl 1 rfl) ?_
    refine va_put (ci := 12) (v := .null) (ty := (.object "java/lang/String")) (C := RX10) (T := TX10) (N := 7) hx hb hts in_X10 tyX10 tyX10_ok nmX10 hown hK hw.1 hw.2.1 hw.2.2 0 rfl rfl 3 (by decide) (hts _ q405) (fun _ h9 => h9) rfl (by decide +kernel) rfl rfl (Nat.le_of_ble_eq_true rfl) dJ3_init_2_43 (fun H locs hP hD hS => ?_)
    have hw : Wd D A s [(h, .inr (12, [.ref h, .null, va_rf o2, .null, .null, .int 0, .int 0]))] H locs := ⟨hP, hD, hS⟩
    refine lv_aload_n hx hb dJ3_init_2_46 rfl (lv_at hl 0 rfl) ?_
    refine lv_aload_nN hx hb dJ3_init_2_47 rfl (lv_at hl 2 rfl) ?_
    refine va_put (ci := 12) (v := .null) (ty := (.object "java/lang/Throwable")) (C := RX10) (T := TX10) (N := 7) hx hb hts in_X10 tyX10 tyX10_ok nmX10 hown hK hw.1 hw.2.1 hw.2.2 0 rfl rfl 0 (by decide) (hts _ q406) (fun _ h9 => h9) rfl (by decide +kernel) rfl rfl (Nat.le_of_ble_eq_true rfl) dJ3_init_2_48 (fun H locs hP hD hS => ?_)
    have hw : Wd D A s [(h, .inr (12, [.null, .null, va_rf o2, .null, .null, .int 0, .int 0]))] H locs := ⟨hP, hD, hS⟩
    refine lv_iload_n hx hb dJ3_init_2_51 rfl (lv_at hl 3 rfl) ?_
    refine lv_if_ne (tgt := 60) hx hb dJ3_init_2_52 (by decide) (fun c52 => ?_) (fun c52 => ?_)
    · first | exact absurd c52 (by decide) | exact absurd (by decide) c52
    · refine lv_aload_n hx hb dJ3_init_2_55 rfl (lv_at hl 0 rfl) ?_
      refine lv_null hx hb dJ3_init_2_56 ?_
      refine va_put (ci := 12) (v := .null) (ty := (.object "java/util/List")) (C := RX10) (T := TX10) (N := 7) hx hb hts in_X10 tyX10 tyX10_ok nmX10 hown hK hw.1 hw.2.1 hw.2.2 0 rfl rfl 2 (by decide) (hts _ q408) (fun _ h9 => h9) rfl (by decide +kernel) rfl rfl (Nat.le_of_ble_eq_true rfl) dJ3_init_2_57 (fun H locs hP hD hS => ?_)
      have hw : Wd D A s [(h, .inr (12, [.null, .null, .null, .null, .null, .int 0, .int 0]))] H locs := ⟨hP, hD, hS⟩
      exact x_retV cx hw () trivial [0] rfl rfl (Nat.le_of_ble_eq_true rfl) (Nat.le_of_ble_eq_true rfl) dJ3_init_2_60
  · first | exact absurd c25 (by decide) | exact absurd (by decide) c25
theorem hd_J4_init : yJ4_init.cls ≠ "java/lang/invoke/MethodHandle" ∧ yJ4_init.cls ≠ "java/lang/invoke/VarHandle" ∧ (parseMethodDescriptor yJ4_init.desc).map (fun d => d.parameters.length) = some 4 := by decide +kernel
set_option maxHeartbeats 4000000 in
theorem mJ4_init_X10 (l : Launch) (cs : Nat → Nat) (wi : va_W) (D : va_G) (d : Nat → ClassId) (h : Nat)   : MetV l yJ4_init (ws_ yJ4_init cJ4_init 5 none) { frames := 2, cells := 0, slots := 0, locals := 64 } [.ref h, .null, .null, .int 0, .int 0] (XI D cs wi) D d [(h, .inr (12, [.null, .null, .null, .null, .null, .int 0, .int 0]))] (fun (_ : Unit) => True) (fun u => [(h, .inr (12, [.null, .null, .null, .null, .null, .int 0, .int 0]))]) := by
  have hX := XI.ok (D := D) (cs := cs) (wi := wi)
  refine MetV.of (by decide +kernel) (Nat.le_of_ble_eq_true rfl) ?_
  intro p e s m below meth c A cx hw ls hl
  have cx : Cx p s m _ meth c (XI D cs wi) D d A "java/lang/Exception" cJ4_init 5 none "<init>" := cx
  have cx' := cx
  obtain ⟨hx, hb, hr, hlk, hml, hown, hts, hK, hA, hXs, hnm⟩ := cx'
  have hl : lv_has ls 5 [(0, .ref h), (1, .null), (2, .null), (3, .int 0), (4, .int 0)] := hl
  generalize hlo : ([] : List Loc) = locs at hw ⊢
  refine lv_aload_n hx hb dJ4_init_0 rfl (lv_at hl 0 rfl) ?_
  refine lv_aload_nN hx hb dJ4_init_1 rfl (lv_at hl 1 rfl) ?_
  refine lv_aload_nN hx hb dJ4_init_2 rfl (lv_at hl 2 rfl) ?_
  refine lv_iload_n hx hb dJ4_init_3 rfl (lv_at hl 3 rfl) ?_
  refine lv_iload hx hb dJ4_init_4 (lv_at hl 4 rfl) ?_
  refine x_NV (wr := []) (rest := []) [.null, .null, .int 0, .int 0] hX cx hw hl.1 (mJ3_init_2_X10 l cs wi D d h ) q401 q95 q399 q400 rfl hd_J3_init_2 ⟨(Nat.le_of_ble_eq_true rfl), (Nat.le_of_ble_eq_true rfl)⟩ rfl rfl (Nat.le_of_ble_eq_true rfl) dJ4_init_6 [0] [] rfl rfl rfl rfl (by decide) ⟨(Nat.le_of_ble_eq_true rfl), (Nat.le_of_ble_eq_true rfl)⟩ (fun u H locs hp hw => ?_)
  have hw : Wd D A s [(h, .inr (12, [.null, .null, .null, .null, .null, .int 0, .int 0]))] H locs := hw
  refine W.widen (k := 0) (n := 0) (Nat.le_of_ble_eq_true rfl) (Nat.le_of_ble_eq_true rfl) ?_
  exact x_retV cx hw () trivial [0] rfl rfl (Nat.le_of_ble_eq_true rfl) (Nat.le_of_ble_eq_true rfl) dJ4_init_9
theorem hd_X10_init : yX10_init.cls ≠ "java/lang/invoke/MethodHandle" ∧ yX10_init.cls ≠ "java/lang/invoke/VarHandle" ∧ (parseMethodDescriptor yX10_init.desc).map (fun d => d.parameters.length) = some 1 := by decide +kernel
set_option maxHeartbeats 4000000 in
theorem mX10_init (l : Launch) (cs : Nat → Nat) (wi : va_W) (D : va_G) (d : Nat → ClassId) (h : Nat) (p1 : Int32)   : MetV l yX10_init (ws_ yX10_init cX10_init 2 none) { frames := 3, cells := 0, slots := 0, locals := 88 } [.ref h, .int p1] (XI D cs wi) D d [(h, .inr (12, [.null, .null, .null, .null, .null, .int 0, .int 0]))] (fun (_ : Unit) => True) (fun u => [(h, .inr (12, [.null, .null, .null, .null, .null, .int 0, .int p1]))]) := by
  have hX := XI.ok (D := D) (cs := cs) (wi := wi)
  refine MetV.of (by decide +kernel) (Nat.le_of_ble_eq_true rfl) ?_
  intro p e s m below meth c A cx hw ls hl
  have cx : Cx p s m _ meth c (XI D cs wi) D d A "DishLift$Finding" cX10_init 2 none "<init>" := cx
  have cx' := cx
  obtain ⟨hx, hb, hr, hlk, hml, hown, hts, hK, hA, hXs, hnm⟩ := cx'
  have hl : lv_has ls 2 [(0, .ref h), (1, .int p1)] := hl
  generalize hlo : ([] : List Loc) = locs at hw ⊢
  refine lv_aload_n hx hb dX10_init_0 rfl (lv_at hl 0 rfl) ?_
  refine lv_null hx hb dX10_init_1 ?_
  refine lv_null hx hb dX10_init_2 ?_
  refine lv_iconst (v := 0) hx hb dX10_init_3 (by decide) ?_
  refine lv_iconst (v := 0) hx hb dX10_init_4 (by decide) ?_
  refine x_NV (wr := []) (rest := []) [.null, .null, .int 0, .int 0] hX cx hw hl.1 (mJ4_init_X10 l cs wi D d h ) q398 q96 q396 q397 rfl hd_J4_init ⟨(Nat.le_of_ble_eq_true rfl), (Nat.le_of_ble_eq_true rfl)⟩ rfl rfl (Nat.le_of_ble_eq_true rfl) dX10_init_5 [0] [] rfl rfl rfl rfl (by decide) ⟨(Nat.le_of_ble_eq_true rfl), (Nat.le_of_ble_eq_true rfl)⟩ (fun u H locs hp hw => ?_)
  have hw : Wd D A s [(h, .inr (12, [.null, .null, .null, .null, .null, .int 0, .int 0]))] H locs := hw
  refine W.widen (k := 0) (n := 0) (Nat.le_of_ble_eq_true rfl) (Nat.le_of_ble_eq_true rfl) ?_
  refine lv_aload_n hx hb dX10_init_8 rfl (lv_at hl 0 rfl) ?_
  refine lv_iload_n hx hb dX10_init_9 rfl (lv_at hl 1 rfl) ?_
  refine va_putF (ci := 12) (v := .int p1) (ty := .int) (C := RX10) (T := TX10) (N := 7) hx hb hts in_X10 tyX10 tyX10_ok nmX10 hown hK hw.1 hw.2.1 hw.2.2 0 rfl rfl 6 (by decide) (hts _ q402) (fun _ h9 => h9) rfl hnm rfl (by decide +kernel) rfl rfl (Nat.le_of_ble_eq_true rfl) dX10_init_10 (fun H locs hP hD hS => ?_)
  have hw : Wd D A s [(h, .inr (12, [.null, .null, .null, .null, .null, .int 0, .int p1]))] H locs := ⟨hP, hD, hS⟩
  exact x_retV cx hw () trivial [0] rfl rfl (Nat.le_of_ble_eq_true rfl) (Nat.le_of_ble_eq_true rfl) dX10_init_13
set_option maxHeartbeats 4000000 in
theorem mJ3_init_2_X13 (l : Launch) (cs : Nat → Nat) (wi : va_W) (D : va_G) (d : Nat → ClassId) (h : Nat)   : MetV l yJ3_init_2 (ws_ yJ3_init_2 cJ3_init_2 5 none) { frames := 1, cells := 0, slots := 0, locals := 40 } [.ref h, .null, .null, .int 0, .int 0] (XI D cs wi) D d [(h, .inr (13, [.null, .null, .null, .null, .null, .int 0, .int 0, .int 0]))] (fun (_ : Unit) => True) (fun u => [(h, .inr (13, [.null, .null, .null, .null, .null, .int 0, .int 0, .int 0]))]) := by
  have hX := XI.ok (D := D) (cs := cs) (wi := wi)
  refine MetV.of (by decide +kernel) (Nat.le_of_ble_eq_true rfl) ?_
  intro p e s m below meth c A cx hw ls hl
  have cx : Cx p s m _ meth c (XI D cs wi) D d A "java/lang/Throwable" cJ3_init_2 5 none "<init>" := cx
  have cx' := cx
  obtain ⟨hx, hb, hr, hlk, hml, hown, hts, hK, hA, hXs, hnm⟩ := cx'
  have hl : lv_has ls 5 [(0, .ref h), (1, .null), (2, .null), (3, .int 0), (4, .int 0)] := hl
  generalize hlo : ([] : List Loc) = locs at hw ⊢
  refine lv_aload_n hx hb dJ3_init_2_0 rfl (lv_at hl 0 rfl) ?_
  refine W.objInit hx hb hown (hts _ q376) (hts _ q121) (hts _ q122) rfl (by rw [hml]; exact hl.1) rfl dJ3_init_2_1 (Nat.le_of_ble_eq_true rfl) (Nat.le_of_ble_eq_true rfl) ?_
  refine W.eq (g2 := F0 m 4 ls []) rfl ?_
  refine lv_aload_n hx hb dJ3_init_2_4 rfl (lv_at hl 0 rfl) ?_
  refine lv_aload_n hx hb dJ3_init_2_5 rfl (lv_at hl 0 rfl) ?_
  refine va_put (ci := 13) (v := .ref h) (ty := (.object "java/lang/Throwable")) (C := RX13) (T := TX13) (N := 8) hx hb hts in_X13 tyX13 tyX13_ok nmX13 hown hK hw.1 hw.2.1 hw.2.2 0 rfl rfl 0 (by decide) (hts _ q406) (fun _ h9 => h9) rfl (by decide +kernel) rfl rfl (Nat.le_of_ble_eq_true rfl) dJ3_init_2_6 (fun H locs hP hD hS => ?_)
  have hw : Wd D A s [(h, .inr (13, [.ref h, .null, .null, .null, .null, .int 0, .int 0, .int 0]))] H locs := ⟨hP, hD, hS⟩
  refine lv_aload_n hx hb dJ3_init_2_9 rfl (lv_at hl 0 rfl) ?_
  obtain ⟨o1, hzq⟩ := zq_val hXs.2.1.2.1
  refine va_gets hx hb hzq hw.2.2 hown (hts _ q377) (fun _ h9 => h9) dJ3_init_2_10 ?_
  refine va_put (ci := 13) (v := va_rf o1) (ty := (.array (.object "java/lang/StackTraceElement"))) (C := RX13) (T := TX13) (N := 8) hx hb hts in_X13 tyX13 tyX13_ok nmX13 hown hK hw.1 hw.2.1 hw.2.2 0 rfl rfl 1 (by decide) (hts _ q407) (fun _ h9 => h9) rfl (by decide +kernel) (by cases o1 <;> rfl) (by cases o1 <;> rfl) (Nat.le_of_ble_eq_true rfl) dJ3_init_2_13 (fun H locs hP hD hS => ?_)
  have hw : Wd D A s [(h, .inr (13, [.ref h, va_rf o1, .null, .null, .null, .int 0, .int 0, .int 0]))] H locs := ⟨hP, hD, hS⟩
  refine lv_aload_n hx hb dJ3_init_2_16 rfl (lv_at hl 0 rfl) ?_
  obtain ⟨o2, hzq⟩ := zq_val hXs.2.1.2.2.1
  refine va_gets hx hb hzq hw.2.2 hown (hts _ q379) (fun _ h9 => h9) dJ3_init_2_17 ?_
  refine va_put (ci := 13) (v := va_rf o2) (ty := (.object "java/util/List")) (C := RX13) (T := TX13) (N := 8) hx hb hts in_X13 tyX13 tyX13_ok nmX13 hown hK hw.1 hw.2.1 hw.2.2 0 rfl rfl 2 (by decide) (hts _ q408) (fun _ h9 => h9) rfl (by decide +kernel) (by cases o2 <;> rfl) (by cases o2 <;> rfl) (Nat.le_of_ble_eq_true rfl) dJ3_init_2_20 (fun H locs hP hD hS => ?_)
  have hw : Wd D A s [(h, .inr (13, [.ref h, va_rf o1, va_rf o2, .null, .null, .int 0, .int 0, .int 0]))] H locs := ⟨hP, hD, hS⟩
  refine lv_iload hx hb dJ3_init_2_23 (lv_at hl 4 rfl) ?_
  refine lv_if_eq (tgt := 36) hx hb dJ3_init_2_25 (by decide) (fun c25 => ?_) (fun c25 => ?_)
  · refine lv_aload_n hx hb dJ3_init_2_36 rfl (lv_at hl 0 rfl) ?_
    refine lv_null hx hb dJ3_init_2_37 ?_
    refine va_put (ci := 13) (v := .null) (ty := (.array (.object "java/lang/StackTraceElement"))) (C := RX13) (T := TX13) (N := 8) hx hb hts in_X13 tyX13 tyX13_ok nmX13 hown hK hw.1 hw.2.1 hw.2.2 0 rfl rfl 1 (by decide) (hts _ q407) (fun _ h9 => h9) rfl (by decide +kernel) rfl rfl (Nat.le_of_ble_eq_true rfl) dJ3_init_2_38 (fun H locs hP hD hS => ?_)
    have hw : Wd D A s [(h, .inr (13, [.ref h, .null, va_rf o2, .null, .null, .int 0, .int 0, .int 0]))] H locs := ⟨hP, hD, hS⟩
    refine lv_aload_n hx hb dJ3_init_2_41 rfl (lv_at hl 0 rfl) ?_
    refine lv_aload_nN hx hb dJ3_init_2_42 rfl (lv_at hl 1 rfl) ?_
    refine va_put (ci := 13) (v := .null) (ty := (.object "java/lang/String")) (C := RX13) (T := TX13) (N := 8) hx hb hts in_X13 tyX13 tyX13_ok nmX13 hown hK hw.1 hw.2.1 hw.2.2 0 rfl rfl 3 (by decide) (hts _ q405) (fun _ h9 => h9) rfl (by decide +kernel) rfl rfl (Nat.le_of_ble_eq_true rfl) dJ3_init_2_43 (fun H locs hP hD hS => ?_)
    have hw : Wd D A s [(h, .inr (13, [.ref h, .null, va_rf o2, .null, .null, .int 0, .int 0, .int 0]))] H locs := ⟨hP, hD, hS⟩
    refine lv_aload_n hx hb dJ3_init_2_46 rfl (lv_at hl 0 rfl) ?_
    refine lv_aload_nN hx hb dJ3_init_2_47 rfl (lv_at hl 2 rfl) ?_
    refine va_put (ci := 13) (v := .null) (ty := (.object "java/lang/Throwable")) (C := RX13) (T := TX13) (N := 8) hx hb hts in_X13 tyX13 tyX13_ok nmX13 hown hK hw.1 hw.2.1 hw.2.2 0 rfl rfl 0 (by decide) (hts _ q406) (fun _ h9 => h9) rfl (by decide +kernel) rfl rfl (Nat.le_of_ble_eq_true rfl) dJ3_init_2_48 (fun H locs hP hD hS => ?_)
    have hw : Wd D A s [(h, .inr (13, [.null, .null, va_rf o2, .null, .null, .int 0, .int 0, .int 0]))] H locs := ⟨hP, hD, hS⟩
    refine lv_iload_n hx hb dJ3_init_2_51 rfl (lv_at hl 3 rfl) ?_
    refine lv_if_ne (tgt := 60) hx hb dJ3_init_2_52 (by decide) (fun c52 => ?_) (fun c52 => ?_)
    · first | exact absurd c52 (by decide) | exact absurd (by decide) c52
    · refine lv_aload_n hx hb dJ3_init_2_55 rfl (lv_at hl 0 rfl) ?_
      refine lv_null hx hb dJ3_init_2_56 ?_
      refine va_put (ci := 13) (v := .null) (ty := (.object "java/util/List")) (C := RX13) (T := TX13) (N := 8) hx hb hts in_X13 tyX13 tyX13_ok nmX13 hown hK hw.1 hw.2.1 hw.2.2 0 rfl rfl 2 (by decide) (hts _ q408) (fun _ h9 => h9) rfl (by decide +kernel) rfl rfl (Nat.le_of_ble_eq_true rfl) dJ3_init_2_57 (fun H locs hP hD hS => ?_)
      have hw : Wd D A s [(h, .inr (13, [.null, .null, .null, .null, .null, .int 0, .int 0, .int 0]))] H locs := ⟨hP, hD, hS⟩
      exact x_retV cx hw () trivial [0] rfl rfl (Nat.le_of_ble_eq_true rfl) (Nat.le_of_ble_eq_true rfl) dJ3_init_2_60
  · first | exact absurd c25 (by decide) | exact absurd (by decide) c25
set_option maxHeartbeats 4000000 in
theorem mJ4_init_X13 (l : Launch) (cs : Nat → Nat) (wi : va_W) (D : va_G) (d : Nat → ClassId) (h : Nat)   : MetV l yJ4_init (ws_ yJ4_init cJ4_init 5 none) { frames := 2, cells := 0, slots := 0, locals := 64 } [.ref h, .null, .null, .int 0, .int 0] (XI D cs wi) D d [(h, .inr (13, [.null, .null, .null, .null, .null, .int 0, .int 0, .int 0]))] (fun (_ : Unit) => True) (fun u => [(h, .inr (13, [.null, .null, .null, .null, .null, .int 0, .int 0, .int 0]))]) := by
  have hX := XI.ok (D := D) (cs := cs) (wi := wi)
  refine MetV.of (by decide +kernel) (Nat.le_of_ble_eq_true rfl) ?_
  intro p e s m below meth c A cx hw ls hl
  have cx : Cx p s m _ meth c (XI D cs wi) D d A "java/lang/Exception" cJ4_init 5 none "<init>" := cx
  have cx' := cx
  obtain ⟨hx, hb, hr, hlk, hml, hown, hts, hK, hA, hXs, hnm⟩ := cx'
  have hl : lv_has ls 5 [(0, .ref h), (1, .null), (2, .null), (3, .int 0), (4, .int 0)] := hl
  generalize hlo : ([] : List Loc) = locs at hw ⊢
  refine lv_aload_n hx hb dJ4_init_0 rfl (lv_at hl 0 rfl) ?_
  refine lv_aload_nN hx hb dJ4_init_1 rfl (lv_at hl 1 rfl) ?_
  refine lv_aload_nN hx hb dJ4_init_2 rfl (lv_at hl 2 rfl) ?_
  refine lv_iload_n hx hb dJ4_init_3 rfl (lv_at hl 3 rfl) ?_
  refine lv_iload hx hb dJ4_init_4 (lv_at hl 4 rfl) ?_
  refine x_NV (wr := []) (rest := []) [.null, .null, .int 0, .int 0] hX cx hw hl.1 (mJ3_init_2_X13 l cs wi D d h ) q401 q95 q399 q400 rfl hd_J3_init_2 ⟨(Nat.le_of_ble_eq_true rfl), (Nat.le_of_ble_eq_true rfl)⟩ rfl rfl (Nat.le_of_ble_eq_true rfl) dJ4_init_6 [0] [] rfl rfl rfl rfl (by decide) ⟨(Nat.le_of_ble_eq_true rfl), (Nat.le_of_ble_eq_true rfl)⟩ (fun u H locs hp hw => ?_)
  have hw : Wd D A s [(h, .inr (13, [.null, .null, .null, .null, .null, .int 0, .int 0, .int 0]))] H locs := hw
  refine W.widen (k := 0) (n := 0) (Nat.le_of_ble_eq_true rfl) (Nat.le_of_ble_eq_true rfl) ?_
  exact x_retV cx hw () trivial [0] rfl rfl (Nat.le_of_ble_eq_true rfl) (Nat.le_of_ble_eq_true rfl) dJ4_init_9
theorem hd_X13_init : yX13_init.cls ≠ "java/lang/invoke/MethodHandle" ∧ yX13_init.cls ≠ "java/lang/invoke/VarHandle" ∧ (parseMethodDescriptor yX13_init.desc).map (fun d => d.parameters.length) = some 2 := by decide +kernel
set_option maxHeartbeats 4000000 in
theorem mX13_init (l : Launch) (cs : Nat → Nat) (wi : va_W) (D : va_G) (d : Nat → ClassId) (h : Nat) (p1 : Int32) (p2 : Int32)   : MetV l yX13_init (ws_ yX13_init cX13_init 3 none) { frames := 3, cells := 0, slots := 0, locals := 88 } [.ref h, .int p1, .int p2] (XI D cs wi) D d [(h, .inr (13, [.null, .null, .null, .null, .null, .int 0, .int 0, .int 0]))] (fun (_ : Unit) => True) (fun u => [(h, .inr (13, [.null, .null, .null, .null, .null, .int 0, .int p1, .int p2]))]) := by
  have hX := XI.ok (D := D) (cs := cs) (wi := wi)
  refine MetV.of (by decide +kernel) (Nat.le_of_ble_eq_true rfl) ?_
  intro p e s m below meth c A cx hw ls hl
  have cx : Cx p s m _ meth c (XI D cs wi) D d A "DishLift$Fault" cX13_init 3 none "<init>" := cx
  have cx' := cx
  obtain ⟨hx, hb, hr, hlk, hml, hown, hts, hK, hA, hXs, hnm⟩ := cx'
  have hl : lv_has ls 3 [(0, .ref h), (1, .int p1), (2, .int p2)] := hl
  generalize hlo : ([] : List Loc) = locs at hw ⊢
  refine lv_aload_n hx hb dX13_init_0 rfl (lv_at hl 0 rfl) ?_
  refine lv_null hx hb dX13_init_1 ?_
  refine lv_null hx hb dX13_init_2 ?_
  refine lv_iconst (v := 0) hx hb dX13_init_3 (by decide) ?_
  refine lv_iconst (v := 0) hx hb dX13_init_4 (by decide) ?_
  refine x_NV (wr := []) (rest := []) [.null, .null, .int 0, .int 0] hX cx hw hl.1 (mJ4_init_X13 l cs wi D d h ) q398 q96 q579 q397 rfl hd_J4_init ⟨(Nat.le_of_ble_eq_true rfl), (Nat.le_of_ble_eq_true rfl)⟩ rfl rfl (Nat.le_of_ble_eq_true rfl) dX13_init_5 [0] [] rfl rfl rfl rfl (by decide) ⟨(Nat.le_of_ble_eq_true rfl), (Nat.le_of_ble_eq_true rfl)⟩ (fun u H locs hp hw => ?_)
  have hw : Wd D A s [(h, .inr (13, [.null, .null, .null, .null, .null, .int 0, .int 0, .int 0]))] H locs := hw
  refine W.widen (k := 0) (n := 0) (Nat.le_of_ble_eq_true rfl) (Nat.le_of_ble_eq_true rfl) ?_
  refine lv_aload_n hx hb dX13_init_8 rfl (lv_at hl 0 rfl) ?_
  refine lv_iload_n hx hb dX13_init_9 rfl (lv_at hl 1 rfl) ?_
  refine va_putF (ci := 13) (v := .int p1) (ty := .int) (C := RX13) (T := TX13) (N := 8) hx hb hts in_X13 tyX13 tyX13_ok nmX13 hown hK hw.1 hw.2.1 hw.2.2 0 rfl rfl 6 (by decide) (hts _ q580) (fun _ h9 => h9) rfl hnm rfl (by decide +kernel) rfl rfl (Nat.le_of_ble_eq_true rfl) dX13_init_10 (fun H locs hP hD hS => ?_)
  have hw : Wd D A s [(h, .inr (13, [.null, .null, .null, .null, .null, .int 0, .int p1, .int 0]))] H locs := ⟨hP, hD, hS⟩
  refine lv_aload_n hx hb dX13_init_13 rfl (lv_at hl 0 rfl) ?_
  refine lv_iload_n hx hb dX13_init_14 rfl (lv_at hl 2 rfl) ?_
  refine va_putF (ci := 13) (v := .int p2) (ty := .int) (C := RX13) (T := TX13) (N := 8) hx hb hts in_X13 tyX13 tyX13_ok nmX13 hown hK hw.1 hw.2.1 hw.2.2 0 rfl rfl 7 (by decide) (hts _ q582) (fun _ h9 => h9) rfl hnm rfl (by decide +kernel) rfl rfl (Nat.le_of_ble_eq_true rfl) dX13_init_15 (fun H locs hP hD hS => ?_)
  have hw : Wd D A s [(h, .inr (13, [.null, .null, .null, .null, .null, .int 0, .int p1, .int p2]))] H locs := ⟨hP, hD, hS⟩
  exact x_retV cx hw () trivial [0] rfl rfl (Nat.le_of_ble_eq_true rfl) (Nat.le_of_ble_eq_true rfl) dX13_init_18
