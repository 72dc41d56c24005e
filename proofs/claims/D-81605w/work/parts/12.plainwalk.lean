set_option maxRecDepth 100000
theorem hd_J15_bitCount : yJ15_bitCount.cls ≠ "java/lang/invoke/MethodHandle" ∧ yJ15_bitCount.cls ≠ "java/lang/invoke/VarHandle" ∧ (parseMethodDescriptor yJ15_bitCount.desc).map (fun d => d.parameters.length) = some 1 := by decide +kernel
set_option maxHeartbeats 4000000 in
theorem mJ15_bitCount (l : Launch) (X : XT) (hX : XOK X) (D : va_G) (d : Nat → ClassId)  (p0 : Int32)  (res : Int32) (hf : fJ15_bitCount p0 = some res) : MetI l yJ15_bitCount (ws_ yJ15_bitCount cJ15_bitCount 1 (some .int)) { frames := 0, cells := 0, slots := 0, locals := 0 } [.int p0] X D d [] (fun r (_ : Unit) => r = res) (fun _ => []) := by
  refine MetI.of (by decide +kernel) (Nat.le_of_ble_eq_true rfl) ?_
  intro p e s m below meth c A cx hw ls hl
  have cx : Cx p s m _ meth c X D d A "java/lang/Integer" cJ15_bitCount 1 (some .int) "bitCount" := cx
  have cx' := cx
  obtain ⟨hx, hb, hr, hlk, hml, hown, hts, hK, hA, hXs, hnm⟩ := cx'
  have hl : lv_has ls 1 [(0, .int p0)] := hl
  unfold fJ15_bitCount at hf
  refine lv_iload_n hx hb dJ15_bitCount_0 rfl (lv_at hl 0 rfl) ?_
  refine lv_iload_n hx hb dJ15_bitCount_1 rfl (lv_at hl 0 rfl) ?_
  refine lv_iconst (v := 1) hx hb dJ15_bitCount_2 (by decide) ?_
  refine lv_iushr (v := (p0.toUInt32 >>> ((1 : Int32).toUInt32 &&& Int32.toUInt32 31)).toInt32) hx hb dJ15_bitCount_3 rfl ?_
  refine lv_ldcw (v := 1431655765) hx hb hown (hts _ q794) dJ15_bitCount_4 ?_
  refine lv_iand hx hb dJ15_bitCount_7 ?_
  refine lv_isub hx hb dJ15_bitCount_8 ?_
  refine lv_istore_n (lv' := [(0, .int (p0 - ((p0.toUInt32 >>> ((1 : Int32).toUInt32 &&& Int32.toUInt32 31)).toInt32 &&& 1431655765)))]) hx hb dJ15_bitCount_9 rfl hl (by decide) rfl (fun ls hl => ?_)
  refine lv_iload_n hx hb dJ15_bitCount_10 rfl (lv_at hl 0 rfl) ?_
  refine lv_ldcw (v := 858993459) hx hb hown (hts _ q795) dJ15_bitCount_11 ?_
  refine lv_iand hx hb dJ15_bitCount_14 ?_
  refine lv_iload_n hx hb dJ15_bitCount_15 rfl (lv_at hl 0 rfl) ?_
  refine lv_iconst (v := 2) hx hb dJ15_bitCount_16 (by decide) ?_
  refine lv_iushr (v := ((p0 - ((p0.toUInt32 >>> ((1 : Int32).toUInt32 &&& Int32.toUInt32 31)).toInt32 &&& 1431655765)).toUInt32 >>> ((2 : Int32).toUInt32 &&& Int32.toUInt32 31)).toInt32) hx hb dJ15_bitCount_17 rfl ?_
  refine lv_ldcw (v := 858993459) hx hb hown (hts _ q795) dJ15_bitCount_18 ?_
  refine lv_iand hx hb dJ15_bitCount_21 ?_
  refine lv_iadd hx hb dJ15_bitCount_22 ?_
  refine lv_istore_n (lv' := [(0, .int (((p0 - ((p0.toUInt32 >>> ((1 : Int32).toUInt32 &&& Int32.toUInt32 31)).toInt32 &&& 1431655765)) &&& 858993459) + (((p0 - ((p0.toUInt32 >>> ((1 : Int32).toUInt32 &&& Int32.toUInt32 31)).toInt32 &&& 1431655765)).toUInt32 >>> ((2 : Int32).toUInt32 &&& Int32.toUInt32 31)).toInt32 &&& 858993459)))]) hx hb dJ15_bitCount_23 rfl hl (by decide) rfl (fun ls hl => ?_)
  refine lv_iload_n hx hb dJ15_bitCount_24 rfl (lv_at hl 0 rfl) ?_
  refine lv_iload_n hx hb dJ15_bitCount_25 rfl (lv_at hl 0 rfl) ?_
  refine lv_iconst (v := 4) hx hb dJ15_bitCount_26 (by decide) ?_
  refine lv_iushr (v := ((((p0 - ((p0.toUInt32 >>> ((1 : Int32).toUInt32 &&& Int32.toUInt32 31)).toInt32 &&& 1431655765)) &&& 858993459) + (((p0 - ((p0.toUInt32 >>> ((1 : Int32).toUInt32 &&& Int32.toUInt32 31)).toInt32 &&& 1431655765)).toUInt32 >>> ((2 : Int32).toUInt32 &&& Int32.toUInt32 31)).toInt32 &&& 858993459)).toUInt32 >>> ((4 : Int32).toUInt32 &&& Int32.toUInt32 31)).toInt32) hx hb dJ15_bitCount_27 rfl ?_
  refine lv_iadd hx hb dJ15_bitCount_28 ?_
  refine lv_ldcw (v := 252645135) hx hb hown (hts _ q796) dJ15_bitCount_29 ?_
  refine lv_iand hx hb dJ15_bitCount_32 ?_
  refine lv_istore_n (lv' := [(0, .int (((((p0 - ((p0.toUInt32 >>> ((1 : Int32).toUInt32 &&& Int32.toUInt32 31)).toInt32 &&& 1431655765)) &&& 858993459) + (((p0 - ((p0.toUInt32 >>> ((1 : Int32).toUInt32 &&& Int32.toUInt32 31)).toInt32 &&& 1431655765)).toUInt32 >>> ((2 : Int32).toUInt32 &&& Int32.toUInt32 31)).toInt32 &&& 858993459)) + ((((p0 - ((p0.toUInt32 >>> ((1 : Int32).toUInt32 &&& Int32.toUInt32 31)).toInt32 &&& 1431655765)) &&& 858993459) + (((p0 - ((p0.toUInt32 >>> ((1 : Int32).toUInt32 &&& Int32.toUInt32 31)).toInt32 &&& 1431655765)).toUInt32 >>> ((2 : Int32).toUInt32 &&& Int32.toUInt32 31)).toInt32 &&& 858993459)).toUInt32 >>> ((4 : Int32).toUInt32 &&& Int32.toUInt32 31)).toInt32) &&& 252645135))]) hx hb dJ15_bitCount_33 rfl hl (by decide) rfl (fun ls hl => ?_)
  refine lv_iload_n hx hb dJ15_bitCount_34 rfl (lv_at hl 0 rfl) ?_
  refine lv_iload_n hx hb dJ15_bitCount_35 rfl (lv_at hl 0 rfl) ?_
  refine lv_bipush (v := 8) hx hb dJ15_bitCount_36 (by decide) ?_
  refine lv_iushr (v := ((((((p0 - ((p0.toUInt32 >>> ((1 : Int32).toUInt32 &&& Int32.toUInt32 31)).toInt32 &&& 1431655765)) &&& 858993459) + (((p0 - ((p0.toUInt32 >>> ((1 : Int32).toUInt32 &&& Int32.toUInt32 31)).toInt32 &&& 1431655765)).toUInt32 >>> ((2 : Int32).toUInt32 &&& Int32.toUInt32 31)).toInt32 &&& 858993459)) + ((((p0 - ((p0.toUInt32 >>> ((1 : Int32).toUInt32 &&& Int32.toUInt32 31)).toInt32 &&& 1431655765)) &&& 858993459) + (((p0 - ((p0.toUInt32 >>> ((1 : Int32).toUInt32 &&& Int32.toUInt32 31)).toInt32 &&& 1431655765)).toUInt32 >>> ((2 : Int32).toUInt32 &&& Int32.toUInt32 31)).toInt32 &&& 858993459)).toUInt32 >>> ((4 : Int32).toUInt32 &&& Int32.toUInt32 31)).toInt32) &&& 252645135).toUInt32 >>> ((8 : Int32).toUInt32 &&& Int32.toUInt32 31)).toInt32) hx hb dJ15_bitCount_38 rfl ?_
  refine lv_iadd hx hb dJ15_bitCount_39 ?_
  refine lv_istore_n (lv' := [(0, .int ((((((p0 - ((p0.toUInt32 >>> ((1 : Int32).toUInt32 &&& Int32.toUInt32 31)).toInt32 &&& 1431655765)) &&& 858993459) + (((p0 - ((p0.toUInt32 >>> ((1 : Int32).toUInt32 &&& Int32.toUInt32 31)).toInt32 &&& 1431655765)).toUInt32 >>> ((2 : Int32).toUInt32 &&& Int32.toUInt32 31)).toInt32 &&& 858993459)) + ((((p0 - ((p0.toUInt32 >>> ((1 : Int32).toUInt32 &&& Int32.toUInt32 31)).toInt32 &&& 1431655765)) &&& 858993459) + (((p0 - ((p0.toUInt32 >>> ((1 : Int32).toUInt32 &&& Int32.toUInt32 31)).toInt32 &&& 1431655765)).toUInt32 >>> ((2 : Int32).toUInt32 &&& Int32.toUInt32 31)).toInt32 &&& 858993459)).toUInt32 >>> ((4 : Int32).toUInt32 &&& Int32.toUInt32 31)).toInt32) &&& 252645135) + ((((((p0 - ((p0.toUInt32 >>> ((1 : Int32).toUInt32 &&& Int32.toUInt32 31)).toInt32 &&& 1431655765)) &&& 858993459) + (((p0 - ((p0.toUInt32 >>> ((1 : Int32).toUInt32 &&& Int32.toUInt32 31)).toInt32 &&& 1431655765)).toUInt32 >>> ((2 : Int32).toUInt32 &&& Int32.toUInt32 31)).toInt32 &&& 858993459)) + ((((p0 - ((p0.toUInt32 >>> ((1 : Int32).toUInt32 &&& Int32.toUInt32 31)).toInt32 &&& 1431655765)) &&& 858993459) + (((p0 - ((p0.toUInt32 >>> ((1 : Int32).toUInt32 &&& Int32.toUInt32 31)).toInt32 &&& 1431655765)).toUInt32 >>> ((2 : Int32).toUInt32 &&& Int32.toUInt32 31)).toInt32 &&& 858993459)).toUInt32 >>> ((4 : Int32).toUInt32 &&& Int32.toUInt32 31)).toInt32) &&& 252645135).toUInt32 >>> ((8 : Int32).toUInt32 &&& Int32.toUInt32 31)).toInt32))]) hx hb dJ15_bitCount_40 rfl hl (by decide) rfl (fun ls hl => ?_)
  refine lv_iload_n hx hb dJ15_bitCount_41 rfl (lv_at hl 0 rfl) ?_
  refine lv_iload_n hx hb dJ15_bitCount_42 rfl (lv_at hl 0 rfl) ?_
  refine lv_bipush (v := 16) hx hb dJ15_bitCount_43 (by decide) ?_
  refine lv_iushr (v := (((((((p0 - ((p0.toUInt32 >>> ((1 : Int32).toUInt32 &&& Int32.toUInt32 31)).toInt32 &&& 1431655765)) &&& 858993459) + (((p0 - ((p0.toUInt32 >>> ((1 : Int32).toUInt32 &&& Int32.toUInt32 31)).toInt32 &&& 1431655765)).toUInt32 >>> ((2 : Int32).toUInt32 &&& Int32.toUInt32 31)).toInt32 &&& 858993459)) + ((((p0 - ((p0.toUInt32 >>> ((1 : Int32).toUInt32 &&& Int32.toUInt32 31)).toInt32 &&& 1431655765)) &&& 858993459) + (((p0 - ((p0.toUInt32 >>> ((1 : Int32).toUInt32 &&& Int32.toUInt32 31)).toInt32 &&& 1431655765)).toUInt32 >>> ((2 : Int32).toUInt32 &&& Int32.toUInt32 31)).toInt32 &&& 858993459)).toUInt32 >>> ((4 : Int32).toUInt32 &&& Int32.toUInt32 31)).toInt32) &&& 252645135) + ((((((p0 - ((p0.toUInt32 >>> ((1 : Int32).toUInt32 &&& Int32.toUInt32 31)).toInt32 &&& 1431655765)) &&& 858993459) + (((p0 - ((p0.toUInt32 >>> ((1 : Int32).toUInt32 &&& Int32.toUInt32 31)).toInt32 &&& 1431655765)).toUInt32 >>> ((2 : Int32).toUInt32 &&& Int32.toUInt32 31)).toInt32 &&& 858993459)) + ((((p0 - ((p0.toUInt32 >>> ((1 : Int32).toUInt32 &&& Int32.toUInt32 31)).toInt32 &&& 1431655765)) &&& 858993459) + (((p0 - ((p0.toUInt32 >>> ((1 : Int32).toUInt32 &&& Int32.toUInt32 31)).toInt32 &&& 1431655765)).toUInt32 >>> ((2 : Int32).toUInt32 &&& Int32.toUInt32 31)).toInt32 &&& 858993459)).toUInt32 >>> ((4 : Int32).toUInt32 &&& Int32.toUInt32 31)).toInt32) &&& 252645135).toUInt32 >>> ((8 : Int32).toUInt32 &&& Int32.toUInt32 31)).toInt32).toUInt32 >>> ((16 : Int32).toUInt32 &&& Int32.toUInt32 31)).toInt32) hx hb dJ15_bitCount_45 rfl ?_
  refine lv_iadd hx hb dJ15_bitCount_46 ?_
  refine lv_istore_n (lv' := [(0, .int (((((((p0 - ((p0.toUInt32 >>> ((1 : Int32).toUInt32 &&& Int32.toUInt32 31)).toInt32 &&& 1431655765)) &&& 858993459) + (((p0 - ((p0.toUInt32 >>> ((1 : Int32).toUInt32 &&& Int32.toUInt32 31)).toInt32 &&& 1431655765)).toUInt32 >>> ((2 : Int32).toUInt32 &&& Int32.toUInt32 31)).toInt32 &&& 858993459)) + ((((p0 - ((p0.toUInt32 >>> ((1 : Int32).toUInt32 &&& Int32.toUInt32 31)).toInt32 &&& 1431655765)) &&& 858993459) + (((p0 - ((p0.toUInt32 >>> ((1 : Int32).toUInt32 &&& Int32.toUInt32 31)).toInt32 &&& 1431655765)).toUInt32 >>> ((2 : Int32).toUInt32 &&& Int32.toUInt32 31)).toInt32 &&& 858993459)).toUInt32 >>> ((4 : Int32).toUInt32 &&& Int32.toUInt32 31)).toInt32) &&& 252645135) + ((((((p0 - ((p0.toUInt32 >>> ((1 : Int32).toUInt32 &&& Int32.toUInt32 31)).toInt32 &&& 1431655765)) &&& 858993459) + (((p0 - ((p0.toUInt32 >>> ((1 : Int32).toUInt32 &&& Int32.toUInt32 31)).toInt32 &&& 1431655765)).toUInt32 >>> ((2 : Int32).toUInt32 &&& Int32.toUInt32 31)).toInt32 &&& 858993459)) + ((((p0 - ((p0.toUInt32 >>> ((1 : Int32).toUInt32 &&& Int32.toUInt32 31)).toInt32 &&& 1431655765)) &&& 858993459) + (((p0 - ((p0.toUInt32 >>> ((1 : Int32).toUInt32 &&& Int32.toUInt32 31)).toInt32 &&& 1431655765)).toUInt32 >>> ((2 : Int32).toUInt32 &&& Int32.toUInt32 31)).toInt32 &&& 858993459)).toUInt32 >>> ((4 : Int32).toUInt32 &&& Int32.toUInt32 31)).toInt32) &&& 252645135).toUInt32 >>> ((8 : Int32).toUInt32 &&& Int32.toUInt32 31)).toInt32) + (((((((p0 - ((p0.toUInt32 >>> ((1 : Int32).toUInt32 &&& Int32.toUInt32 31)).toInt32 &&& 1431655765)) &&& 858993459) + (((p0 - ((p0.toUInt32 >>> ((1 : Int32).toUInt32 &&& Int32.toUInt32 31)).toInt32 &&& 1431655765)).toUInt32 >>> ((2 : Int32).toUInt32 &&& Int32.toUInt32 31)).toInt32 &&& 858993459)) + ((((p0 - ((p0.toUInt32 >>> ((1 : Int32).toUInt32 &&& Int32.toUInt32 31)).toInt32 &&& 1431655765)) &&& 858993459) + (((p0 - ((p0.toUInt32 >>> ((1 : Int32).toUInt32 &&& Int32.toUInt32 31)).toInt32 &&& 1431655765)).toUInt32 >>> ((2 : Int32).toUInt32 &&& Int32.toUInt32 31)).toInt32 &&& 858993459)).toUInt32 >>> ((4 : Int32).toUInt32 &&& Int32.toUInt32 31)).toInt32) &&& 252645135) + ((((((p0 - ((p0.toUInt32 >>> ((1 : Int32).toUInt32 &&& Int32.toUInt32 31)).toInt32 &&& 1431655765)) &&& 858993459) + (((p0 - ((p0.toUInt32 >>> ((1 : Int32).toUInt32 &&& Int32.toUInt32 31)).toInt32 &&& 1431655765)).toUInt32 >>> ((2 : Int32).toUInt32 &&& Int32.toUInt32 31)).toInt32 &&& 858993459)) + ((((p0 - ((p0.toUInt32 >>> ((1 : Int32).toUInt32 &&& Int32.toUInt32 31)).toInt32 &&& 1431655765)) &&& 858993459) + (((p0 - ((p0.toUInt32 >>> ((1 : Int32).toUInt32 &&& Int32.toUInt32 31)).toInt32 &&& 1431655765)).toUInt32 >>> ((2 : Int32).toUInt32 &&& Int32.toUInt32 31)).toInt32 &&& 858993459)).toUInt32 >>> ((4 : Int32).toUInt32 &&& Int32.toUInt32 31)).toInt32) &&& 252645135).toUInt32 >>> ((8 : Int32).toUInt32 &&& Int32.toUInt32 31)).toInt32).toUInt32 >>> ((16 : Int32).toUInt32 &&& Int32.toUInt32 31)).toInt32))]) hx hb dJ15_bitCount_47 rfl hl (by decide) rfl (fun ls hl => ?_)
  refine lv_iload_n hx hb dJ15_bitCount_48 rfl (lv_at hl 0 rfl) ?_
  refine lv_bipush (v := 63) hx hb dJ15_bitCount_49 (by decide) ?_
  refine lv_iand hx hb dJ15_bitCount_51 ?_
  have hf := sm_e hf
  subst hf
  exact x_retI cx hw rfl () rfl [] rfl rfl (Nat.le_of_ble_eq_true rfl) (Nat.le_of_ble_eq_true rfl) dJ15_bitCount_52
theorem hd_J10_checkIndex : yJ10_checkIndex.cls ≠ "java/lang/invoke/MethodHandle" ∧ yJ10_checkIndex.cls ≠ "java/lang/invoke/VarHandle" ∧ (parseMethodDescriptor yJ10_checkIndex.desc).map (fun d => d.parameters.length) = some 3 := by decide +kernel
set_option maxHeartbeats 4000000 in
theorem mJ10_checkIndex (l : Launch) (X : XT) (hX : XOK X) (D : va_G) (d : Nat → ClassId)  (p0 : Int32) (p1 : Int32)  (res : Int32) (hf : fJ10_checkIndex p0 p1 = some res) : MetI l yJ10_checkIndex (ws_ yJ10_checkIndex cJ10_checkIndex 3 (some .int)) { frames := 0, cells := 0, slots := 0, locals := 0 } [.int p0, .int p1, .null] X D d [] (fun r (_ : Unit) => r = res) (fun _ => []) := by
  refine MetI.of (by decide +kernel) (Nat.le_of_ble_eq_true rfl) ?_
  intro p e s m below meth c A cx hw ls hl
  have cx : Cx p s m _ meth c X D d A "jdk/internal/util/Preconditions" cJ10_checkIndex 3 (some .int) "checkIndex" := cx
  have cx' := cx
  obtain ⟨hx, hb, hr, hlk, hml, hown, hts, hK, hA, hXs, hnm⟩ := cx'
  have hl : lv_has ls 3 [(0, .int p0), (1, .int p1), (2, .null)] := hl
  unfold fJ10_checkIndex at hf
  refine lv_iload_n hx hb dJ10_checkIndex_0 rfl (lv_at hl 0 rfl) ?_
  refine lv_if_lt (tgt := 9) hx hb dJ10_checkIndex_1 (by decide) (fun c1 => ?_) (fun c1 => ?_)
  · have hf := if_t hf c1
    refine lv_aload_nN hx hb dJ10_checkIndex_9 rfl (lv_at hl 2 rfl) ?_
    refine lv_iload_n hx hb dJ10_checkIndex_10 rfl (lv_at hl 0 rfl) ?_
    refine lv_iload_n hx hb dJ10_checkIndex_11 rfl (lv_at hl 1 rfl) ?_
    cases hf
  · have hf := if_f hf c1
    refine lv_iload_n hx hb dJ10_checkIndex_4 rfl (lv_at hl 0 rfl) ?_
    refine lv_iload_n hx hb dJ10_checkIndex_5 rfl (lv_at hl 1 rfl) ?_
    refine lv_icmp_lt (tgt := 16) hx hb dJ10_checkIndex_6 (by decide) (fun c6 => ?_) (fun c6 => ?_)
    · have hf := if_t hf c6
      refine lv_iload_n hx hb dJ10_checkIndex_16 rfl (lv_at hl 0 rfl) ?_
      have hf := sm_e hf
      subst hf
      exact x_retI cx hw rfl () rfl [] rfl rfl (Nat.le_of_ble_eq_true rfl) (Nat.le_of_ble_eq_true rfl) dJ10_checkIndex_17
    · have hf := if_f hf c6
      refine lv_aload_nN hx hb dJ10_checkIndex_9 rfl (lv_at hl 2 rfl) ?_
      refine lv_iload_n hx hb dJ10_checkIndex_10 rfl (lv_at hl 0 rfl) ?_
      refine lv_iload_n hx hb dJ10_checkIndex_11 rfl (lv_at hl 1 rfl) ?_
      cases hf
theorem hd_J16_checkIndex : yJ16_checkIndex.cls ≠ "java/lang/invoke/MethodHandle" ∧ yJ16_checkIndex.cls ≠ "java/lang/invoke/VarHandle" ∧ (parseMethodDescriptor yJ16_checkIndex.desc).map (fun d => d.parameters.length) = some 2 := by decide +kernel
set_option maxHeartbeats 4000000 in
theorem mJ16_checkIndex (l : Launch) (X : XT) (hX : XOK X) (D : va_G) (d : Nat → ClassId)  (p0 : Int32) (p1 : Int32)  (res : Int32) (hf : fJ16_checkIndex p0 p1 = some res) : MetI l yJ16_checkIndex (ws_ yJ16_checkIndex cJ16_checkIndex 2 (some .int)) { frames := 1, cells := 0, slots := 0, locals := 22 } [.int p0, .int p1] X D d [] (fun r (_ : Unit) => r = res) (fun _ => []) := by
  refine MetI.of (by decide +kernel) (Nat.le_of_ble_eq_true rfl) ?_
  intro p e s m below meth c A cx hw ls hl
  have cx : Cx p s m _ meth c X D d A "java/util/Objects" cJ16_checkIndex 2 (some .int) "checkIndex" := cx
  have cx' := cx
  obtain ⟨hx, hb, hr, hlk, hml, hown, hts, hK, hA, hXs, hnm⟩ := cx'
  have hl : lv_has ls 2 [(0, .int p0), (1, .int p1)] := hl
  unfold fJ16_checkIndex at hf
  refine lv_iload_n hx hb dJ16_checkIndex_0 rfl (lv_at hl 0 rfl) ?_
  refine lv_iload_n hx hb dJ16_checkIndex_1 rfl (lv_at hl 1 rfl) ?_
  refine lv_null hx hb dJ16_checkIndex_2 ?_
  obtain ⟨q1, hcq1, hf⟩ := op_e hf
  refine x_SI (wr := []) (rest := []) [.int p0, .int p1, .null] hX cx hw hl.1 (mJ10_checkIndex l X hX D d  p0 p1 q1 hcq1) (lw_S q829 q637 q107 q638) hd_J10_checkIndex ⟨(Nat.le_of_ble_eq_true rfl), (Nat.le_of_ble_eq_true rfl)⟩ rfl rfl (Nat.le_of_ble_eq_true rfl) dJ16_checkIndex_3 [] [] rfl rfl rfl rfl (by decide) ⟨(Nat.le_of_ble_eq_true rfl), (Nat.le_of_ble_eq_true rfl)⟩ (fun r u H locs hp hw => ?_)
  have hw : Wd D A s [] H locs := hw
  subst r
  have hf := sm_e hf
  subst hf
  exact x_retI cx hw rfl () rfl [] rfl rfl (Nat.le_of_ble_eq_true rfl) (Nat.le_of_ble_eq_true rfl) dJ16_checkIndex_6
theorem hd_X0_isIn : yX0_isIn.cls ≠ "java/lang/invoke/MethodHandle" ∧ yX0_isIn.cls ≠ "java/lang/invoke/VarHandle" ∧ (parseMethodDescriptor yX0_isIn.desc).map (fun d => d.parameters.length) = some 3 := by decide +kernel
set_option maxHeartbeats 4000000 in
theorem mX0_isIn (l : Launch) (X : XT) (hX : XOK X) (D : va_G) (d : Nat → ClassId)  (p0 : Int64) (p2 : Int64) (p4 : Int64)  (res : Int32) (hf : fX0_isIn p0 p2 p4 = some res) : MetI l yX0_isIn (ws_ yX0_isIn cX0_isIn 6 (some .boolean)) { frames := 0, cells := 0, slots := 0, locals := 0 } [.long p0, .long p2, .long p4] X D d [] (fun r (_ : Unit) => r = res) (fun _ => []) := by
  refine MetI.of (by decide +kernel) (Nat.le_of_ble_eq_true rfl) ?_
  intro p e s m below meth c A cx hw ls hl
  have cx : Cx p s m _ meth c X D d A "DishLift" cX0_isIn 6 (some .boolean) "isIn" := cx
  have cx' := cx
  obtain ⟨hx, hb, hr, hlk, hml, hown, hts, hK, hA, hXs, hnm⟩ := cx'
  have hl : lv_has ls 6 [(0, .long p0), (2, .long p2), (4, .long p4)] := hl
  unfold fX0_isIn at hf
  refine lv_lload_n hx hb dX0_isIn_0 rfl (lv_at hl 0 rfl) ?_
  refine lv_lload_n hx hb dX0_isIn_1 rfl (lv_at hl 1 rfl) ?_
  refine W.lcmp hx hb dX0_isIn_2 ?_
  refine lv_if_lt (tgt := 17) hx hb dX0_isIn_3 (by decide) (fun c3 => ?_) (fun c3 => ?_)
  · have hf := if_t hf ((lg_cmp_lt _ _).mp c3)
    refine lv_iconst (v := 0) hx hb dX0_isIn_17 (by decide) ?_
    have hf := sm_e hf
    subst hf
    exact x_retI cx hw rfl () rfl [] rfl rfl (Nat.le_of_ble_eq_true rfl) (Nat.le_of_ble_eq_true rfl) dX0_isIn_18
  · have hf := if_f hf (fun h => c3 ((lg_cmp_lt _ _).mpr h))
    refine lv_lload_n hx hb dX0_isIn_6 rfl (lv_at hl 0 rfl) ?_
    refine lv_lload hx hb dX0_isIn_7 (lv_at hl 2 rfl) ?_
    refine W.lcmp hx hb dX0_isIn_9 ?_
    refine lv_if_gt (tgt := 17) hx hb dX0_isIn_10 (by decide) (fun c10 => ?_) (fun c10 => ?_)
    · have hf := if_t hf ((lg_cmp_gt _ _).mp c10)
      refine lv_iconst (v := 0) hx hb dX0_isIn_17 (by decide) ?_
      have hf := sm_e hf
      subst hf
      exact x_retI cx hw rfl () rfl [] rfl rfl (Nat.le_of_ble_eq_true rfl) (Nat.le_of_ble_eq_true rfl) dX0_isIn_18
    · have hf := if_f hf (fun h => c10 ((lg_cmp_gt _ _).mpr h))
      refine lv_iconst (v := 1) hx hb dX0_isIn_13 (by decide) ?_
      refine lv_goto (tgt := 18) hx hb dX0_isIn_14 (by decide) ?_
      have hf := sm_e hf
      subst hf
      exact x_retI cx hw rfl () rfl [] rfl rfl (Nat.le_of_ble_eq_true rfl) (Nat.le_of_ble_eq_true rfl) dX0_isIn_18
theorem hd_X0_has : yX0_has.cls ≠ "java/lang/invoke/MethodHandle" ∧ yX0_has.cls ≠ "java/lang/invoke/VarHandle" ∧ (parseMethodDescriptor yX0_has.desc).map (fun d => d.parameters.length) = some 2 := by decide +kernel
set_option maxHeartbeats 4000000 in
theorem mX0_has (l : Launch) (X : XT) (hX : XOK X) (D : va_G) (d : Nat → ClassId)  (p0 : Int32) (p1 : Int32)  (res : Int32) (hf : fX0_has p0 p1 = some res) : MetI l yX0_has (ws_ yX0_has cX0_has 2 (some .boolean)) { frames := 0, cells := 0, slots := 0, locals := 0 } [.int p0, .int p1] X D d [] (fun r (_ : Unit) => r = res) (fun _ => []) := by
  refine MetI.of (by decide +kernel) (Nat.le_of_ble_eq_true rfl) ?_
  intro p e s m below meth c A cx hw ls hl
  have cx : Cx p s m _ meth c X D d A "DishLift" cX0_has 2 (some .boolean) "has" := cx
  have cx' := cx
  obtain ⟨hx, hb, hr, hlk, hml, hown, hts, hK, hA, hXs, hnm⟩ := cx'
  have hl : lv_has ls 2 [(0, .int p0), (1, .int p1)] := hl
  unfold fX0_has at hf
  refine lv_iload_n hx hb dX0_has_0 rfl (lv_at hl 0 rfl) ?_
  refine lv_iload_n hx hb dX0_has_1 rfl (lv_at hl 1 rfl) ?_
  refine lv_ishr hx hb dX0_has_2 ?_
  refine lv_iconst (v := 1) hx hb dX0_has_3 (by decide) ?_
  refine lv_iand hx hb dX0_has_4 ?_
  refine lv_iconst (v := 1) hx hb dX0_has_5 (by decide) ?_
  refine lv_icmp_ne (tgt := 13) hx hb dX0_has_6 (by decide) (fun c6 => ?_) (fun c6 => ?_)
  · have hf := if_f hf c6
    refine lv_iconst (v := 0) hx hb dX0_has_13 (by decide) ?_
    have hf := sm_e hf
    subst hf
    exact x_retI cx hw rfl () rfl [] rfl rfl (Nat.le_of_ble_eq_true rfl) (Nat.le_of_ble_eq_true rfl) dX0_has_14
  · have hf := if_t hf c6
    refine lv_iconst (v := 1) hx hb dX0_has_9 (by decide) ?_
    refine lv_goto (tgt := 14) hx hb dX0_has_10 (by decide) ?_
    have hf := sm_e hf
    subst hf
    exact x_retI cx hw rfl () rfl [] rfl rfl (Nat.le_of_ble_eq_true rfl) (Nat.le_of_ble_eq_true rfl) dX0_has_14
theorem hd_X0_isHalf : yX0_isHalf.cls ≠ "java/lang/invoke/MethodHandle" ∧ yX0_isHalf.cls ≠ "java/lang/invoke/VarHandle" ∧ (parseMethodDescriptor yX0_isHalf.desc).map (fun d => d.parameters.length) = some 1 := by decide +kernel
set_option maxHeartbeats 4000000 in
theorem mX0_isHalf (l : Launch) (X : XT) (hX : XOK X) (D : va_G) (d : Nat → ClassId)  (p0 : Int32)  (res : Int32) (hf : fX0_isHalf p0 = some res) : MetI l yX0_isHalf (ws_ yX0_isHalf cX0_isHalf 1 (some .boolean)) { frames := 1, cells := 0, slots := 0, locals := 25 } [.int p0] X D d [] (fun r (_ : Unit) => r = res) (fun _ => []) := by
  refine MetI.of (by decide +kernel) (Nat.le_of_ble_eq_true rfl) ?_
  intro p e s m below meth c A cx hw ls hl
  have cx : Cx p s m _ meth c X D d A "DishLift" cX0_isHalf 1 (some .boolean) "isHalf" := cx
  have cx' := cx
  obtain ⟨hx, hb, hr, hlk, hml, hown, hts, hK, hA, hXs, hnm⟩ := cx'
  have hl : lv_has ls 1 [(0, .int p0)] := hl
  unfold fX0_isHalf at hf
  refine lv_iload_n hx hb dX0_isHalf_0 rfl (lv_at hl 0 rfl) ?_
  refine lv_i2l (v := p0.toInt64) hx hb dX0_isHalf_1 rfl ?_
  refine lv_lconst (v := 0) hx hb dX0_isHalf_2 (by decide) ?_
  refine lv_lconst (v := 1) hx hb dX0_isHalf_3 (by decide) ?_
  obtain ⟨q1, hcq1, hf⟩ := op_e hf
  refine x_SI (wr := []) (rest := []) [.long p0.toInt64, .long 0, .long 1] hX cx hw hl.1 (mX0_isIn l X hX D d  p0.toInt64 0 1 q1 hcq1) (lw_S q346 q347 q82 q348) hd_X0_isIn ⟨(Nat.le_of_ble_eq_true rfl), (Nat.le_of_ble_eq_true rfl)⟩ rfl rfl (Nat.le_of_ble_eq_true rfl) dX0_isHalf_4 [] [] rfl rfl rfl rfl (by decide) ⟨(Nat.le_of_ble_eq_true rfl), (Nat.le_of_ble_eq_true rfl)⟩ (fun r u H locs hp hw => ?_)
  have hw : Wd D A s [] H locs := hw
  subst r
  obtain ⟨g2, hgb, hf⟩ := op_e hf
  have hf := sm_e hf
  subst hf
  exact x_retI cx hw (gb_spec hgb) () rfl [] rfl rfl (Nat.le_of_ble_eq_true rfl) (Nat.le_of_ble_eq_true rfl) dX0_isHalf_7
theorem hd_X0_isFar : yX0_isFar.cls ≠ "java/lang/invoke/MethodHandle" ∧ yX0_isFar.cls ≠ "java/lang/invoke/VarHandle" ∧ (parseMethodDescriptor yX0_isFar.desc).map (fun d => d.parameters.length) = some 1 := by decide +kernel
set_option maxHeartbeats 4000000 in
theorem mX0_isFar (l : Launch) (X : XT) (hX : XOK X) (D : va_G) (d : Nat → ClassId)  (p0 : Int32)  (res : Int32) (hf : fX0_isFar p0 = some res) : MetI l yX0_isFar (ws_ yX0_isFar cX0_isFar 1 (some .boolean)) { frames := 1, cells := 0, slots := 0, locals := 25 } [.int p0] X D d [] (fun r (_ : Unit) => r = res) (fun _ => []) := by
  refine MetI.of (by decide +kernel) (Nat.le_of_ble_eq_true rfl) ?_
  intro p e s m below meth c A cx hw ls hl
  have cx : Cx p s m _ meth c X D d A "DishLift" cX0_isFar 1 (some .boolean) "isFar" := cx
  have cx' := cx
  obtain ⟨hx, hb, hr, hlk, hml, hown, hts, hK, hA, hXs, hnm⟩ := cx'
  have hl : lv_has ls 1 [(0, .int p0)] := hl
  unfold fX0_isFar at hf
  refine lv_iload_n hx hb dX0_isFar_0 rfl (lv_at hl 0 rfl) ?_
  refine lv_i2l (v := p0.toInt64) hx hb dX0_isFar_1 rfl ?_
  refine lv_lconst (v := 0) hx hb dX0_isFar_2 (by decide) ?_
  refine lv_ldc2 (v := 60) hx hb hown (hts _ q894) dX0_isFar_3 ?_
  obtain ⟨q1, hcq1, hf⟩ := op_e hf
  refine x_SI (wr := []) (rest := []) [.long p0.toInt64, .long 0, .long 60] hX cx hw hl.1 (mX0_isIn l X hX D d  p0.toInt64 0 60 q1 hcq1) (lw_S q346 q347 q82 q348) hd_X0_isIn ⟨(Nat.le_of_ble_eq_true rfl), (Nat.le_of_ble_eq_true rfl)⟩ rfl rfl (Nat.le_of_ble_eq_true rfl) dX0_isFar_6 [] [] rfl rfl rfl rfl (by decide) ⟨(Nat.le_of_ble_eq_true rfl), (Nat.le_of_ble_eq_true rfl)⟩ (fun r u H locs hp hw => ?_)
  have hw : Wd D A s [] H locs := hw
  subst r
  obtain ⟨g2, hgb, hf⟩ := op_e hf
  have hf := sm_e hf
  subst hf
  exact x_retI cx hw (gb_spec hgb) () rfl [] rfl rfl (Nat.le_of_ble_eq_true rfl) (Nat.le_of_ble_eq_true rfl) dX0_isFar_9
theorem hd_X0_isNear : yX0_isNear.cls ≠ "java/lang/invoke/MethodHandle" ∧ yX0_isNear.cls ≠ "java/lang/invoke/VarHandle" ∧ (parseMethodDescriptor yX0_isNear.desc).map (fun d => d.parameters.length) = some 1 := by decide +kernel
set_option maxHeartbeats 4000000 in
theorem mX0_isNear (l : Launch) (X : XT) (hX : XOK X) (D : va_G) (d : Nat → ClassId)  (p0 : Int32)  (res : Int32) (hf : fX0_isNear p0 = some res) : MetI l yX0_isNear (ws_ yX0_isNear cX0_isNear 1 (some .boolean)) { frames := 1, cells := 0, slots := 0, locals := 25 } [.int p0] X D d [] (fun r (_ : Unit) => r = res) (fun _ => []) := by
  refine MetI.of (by decide +kernel) (Nat.le_of_ble_eq_true rfl) ?_
  intro p e s m below meth c A cx hw ls hl
  have cx : Cx p s m _ meth c X D d A "DishLift" cX0_isNear 1 (some .boolean) "isNear" := cx
  have cx' := cx
  obtain ⟨hx, hb, hr, hlk, hml, hown, hts, hK, hA, hXs, hnm⟩ := cx'
  have hl : lv_has ls 1 [(0, .int p0)] := hl
  unfold fX0_isNear at hf
  refine lv_iload_n hx hb dX0_isNear_0 rfl (lv_at hl 0 rfl) ?_
  refine lv_i2l (v := p0.toInt64) hx hb dX0_isNear_1 rfl ?_
  refine lv_lconst (v := 1) hx hb dX0_isNear_2 (by decide) ?_
  refine lv_ldc2 (v := 40) hx hb hown (hts _ q880) dX0_isNear_3 ?_
  obtain ⟨q1, hcq1, hf⟩ := op_e hf
  refine x_SI (wr := []) (rest := []) [.long p0.toInt64, .long 1, .long 40] hX cx hw hl.1 (mX0_isIn l X hX D d  p0.toInt64 1 40 q1 hcq1) (lw_S q346 q347 q82 q348) hd_X0_isIn ⟨(Nat.le_of_ble_eq_true rfl), (Nat.le_of_ble_eq_true rfl)⟩ rfl rfl (Nat.le_of_ble_eq_true rfl) dX0_isNear_6 [] [] rfl rfl rfl rfl (by decide) ⟨(Nat.le_of_ble_eq_true rfl), (Nat.le_of_ble_eq_true rfl)⟩ (fun r u H locs hp hw => ?_)
  have hw : Wd D A s [] H locs := hw
  subst r
  obtain ⟨g2, hgb, hf⟩ := op_e hf
  have hf := sm_e hf
  subst hf
  exact x_retI cx hw (gb_spec hgb) () rfl [] rfl rfl (Nat.le_of_ble_eq_true rfl) (Nat.le_of_ble_eq_true rfl) dX0_isNear_9
theorem hd_X0_isTold : yX0_isTold.cls ≠ "java/lang/invoke/MethodHandle" ∧ yX0_isTold.cls ≠ "java/lang/invoke/VarHandle" ∧ (parseMethodDescriptor yX0_isTold.desc).map (fun d => d.parameters.length) = some 1 := by decide +kernel
set_option maxHeartbeats 4000000 in
theorem mX0_isTold (l : Launch) (X : XT) (hX : XOK X) (D : va_G) (d : Nat → ClassId)  (p0 : Int32)  (res : Int32) (hf : fX0_isTold p0 = some res) : MetI l yX0_isTold (ws_ yX0_isTold cX0_isTold 1 (some .boolean)) { frames := 1, cells := 0, slots := 0, locals := 25 } [.int p0] X D d [] (fun r (_ : Unit) => r = res) (fun _ => []) := by
  refine MetI.of (by decide +kernel) (Nat.le_of_ble_eq_true rfl) ?_
  intro p e s m below meth c A cx hw ls hl
  have cx : Cx p s m _ meth c X D d A "DishLift" cX0_isTold 1 (some .boolean) "isTold" := cx
  have cx' := cx
  obtain ⟨hx, hb, hr, hlk, hml, hown, hts, hK, hA, hXs, hnm⟩ := cx'
  have hl : lv_has ls 1 [(0, .int p0)] := hl
  unfold fX0_isTold at hf
  refine lv_iload_n hx hb dX0_isTold_0 rfl (lv_at hl 0 rfl) ?_
  refine lv_i2l (v := p0.toInt64) hx hb dX0_isTold_1 rfl ?_
  refine lv_lconst (v := 1) hx hb dX0_isTold_2 (by decide) ?_
  refine lv_ldc2 (v := 12) hx hb hown (hts _ q1040) dX0_isTold_3 ?_
  obtain ⟨q1, hcq1, hf⟩ := op_e hf
  refine x_SI (wr := []) (rest := []) [.long p0.toInt64, .long 1, .long 12] hX cx hw hl.1 (mX0_isIn l X hX D d  p0.toInt64 1 12 q1 hcq1) (lw_S q346 q347 q82 q348) hd_X0_isIn ⟨(Nat.le_of_ble_eq_true rfl), (Nat.le_of_ble_eq_true rfl)⟩ rfl rfl (Nat.le_of_ble_eq_true rfl) dX0_isTold_6 [] [] rfl rfl rfl rfl (by decide) ⟨(Nat.le_of_ble_eq_true rfl), (Nat.le_of_ble_eq_true rfl)⟩ (fun r u H locs hp hw => ?_)
  have hw : Wd D A s [] H locs := hw
  subst r
  obtain ⟨g2, hgb, hf⟩ := op_e hf
  have hf := sm_e hf
  subst hf
  exact x_retI cx hw (gb_spec hgb) () rfl [] rfl rfl (Nat.le_of_ble_eq_true rfl) (Nat.le_of_ble_eq_true rfl) dX0_isTold_9
theorem hd_X0_isRow : yX0_isRow.cls ≠ "java/lang/invoke/MethodHandle" ∧ yX0_isRow.cls ≠ "java/lang/invoke/VarHandle" ∧ (parseMethodDescriptor yX0_isRow.desc).map (fun d => d.parameters.length) = some 1 := by decide +kernel
set_option maxHeartbeats 4000000 in
theorem mX0_isRow (l : Launch) (X : XT) (hX : XOK X) (D : va_G) (d : Nat → ClassId)  (p0 : Int32)  (res : Int32) (hf : fX0_isRow p0 = some res) : MetI l yX0_isRow (ws_ yX0_isRow cX0_isRow 1 (some .boolean)) { frames := 1, cells := 0, slots := 0, locals := 25 } [.int p0] X D d [] (fun r (_ : Unit) => r = res) (fun _ => []) := by
  refine MetI.of (by decide +kernel) (Nat.le_of_ble_eq_true rfl) ?_
  intro p e s m below meth c A cx hw ls hl
  have cx : Cx p s m _ meth c X D d A "DishLift" cX0_isRow 1 (some .boolean) "isRow" := cx
  have cx' := cx
  obtain ⟨hx, hb, hr, hlk, hml, hown, hts, hK, hA, hXs, hnm⟩ := cx'
  have hl : lv_has ls 1 [(0, .int p0)] := hl
  unfold fX0_isRow at hf
  refine lv_iload_n hx hb dX0_isRow_0 rfl (lv_at hl 0 rfl) ?_
  refine lv_i2l (v := p0.toInt64) hx hb dX0_isRow_1 rfl ?_
  refine lv_lconst (v := 0) hx hb dX0_isRow_2 (by decide) ?_
  refine lv_ldc2 (v := 7) hx hb hown (hts _ q345) dX0_isRow_3 ?_
  obtain ⟨q1, hcq1, hf⟩ := op_e hf
  refine x_SI (wr := []) (rest := []) [.long p0.toInt64, .long 0, .long 7] hX cx hw hl.1 (mX0_isIn l X hX D d  p0.toInt64 0 7 q1 hcq1) (lw_S q346 q347 q82 q348) hd_X0_isIn ⟨(Nat.le_of_ble_eq_true rfl), (Nat.le_of_ble_eq_true rfl)⟩ rfl rfl (Nat.le_of_ble_eq_true rfl) dX0_isRow_6 [] [] rfl rfl rfl rfl (by decide) ⟨(Nat.le_of_ble_eq_true rfl), (Nat.le_of_ble_eq_true rfl)⟩ (fun r u H locs hp hw => ?_)
  have hw : Wd D A s [] H locs := hw
  subst r
  obtain ⟨g2, hgb, hf⟩ := op_e hf
  have hf := sm_e hf
  subst hf
  exact x_retI cx hw (gb_spec hgb) () rfl [] rfl rfl (Nat.le_of_ble_eq_true rfl) (Nat.le_of_ble_eq_true rfl) dX0_isRow_9
theorem hd_X0_common : yX0_common.cls ≠ "java/lang/invoke/MethodHandle" ∧ yX0_common.cls ≠ "java/lang/invoke/VarHandle" ∧ (parseMethodDescriptor yX0_common.desc).map (fun d => d.parameters.length) = some 2 := by decide +kernel
set_option maxHeartbeats 4000000 in
theorem mX0_common (l : Launch) (X : XT) (hX : XOK X) (D : va_G) (d : Nat → ClassId)  (p0 : Int64) (p2 : Int64)  (res : Int64) (hf : fX0_common p0 p2 = some res) : MetL l yX0_common (ws_ yX0_common cX0_common 10 (some .long)) { frames := 0, cells := 0, slots := 0, locals := 0 } [.long p0, .long p2] X D d [] (fun r (_ : Unit) => r = res) (fun _ => []) := by
  refine MetL.of (by decide +kernel) (Nat.le_of_ble_eq_true rfl) ?_
  intro p e s m below meth c A cx hw ls hl
  have cx : Cx p s m _ meth c X D d A "DishLift" cX0_common 10 (some .long) "common" := cx
  have cx' := cx
  obtain ⟨hx, hb, hr, hlk, hml, hown, hts, hK, hA, hXs, hnm⟩ := cx'
  have hl : lv_has ls 10 [(0, .long p0), (2, .long p2)] := hl
  unfold fX0_common at hf
  refine lv_lload_n hx hb dX0_common_0 rfl (lv_at hl 0 rfl) ?_
  refine lv_lstore (lv' := [(4, .long p0), (0, .long p0), (2, .long p2)]) hx hb dX0_common_1 hl (by decide) rfl (fun ls hl => ?_)
  refine lv_lload_n hx hb dX0_common_3 rfl (lv_at hl 2 rfl) ?_
  refine lv_lstore (lv' := [(6, .long p2), (4, .long p0), (0, .long p0), (2, .long p2)]) hx hb dX0_common_4 hl (by decide) rfl (fun ls hl => ?_)
  obtain ⟨r1, hlp6, hf⟩ := op_e hf
  refine x_join (A := A) (D := D) (J := 31) (nL := 10) (cells' := 0) (slots' := 0) (st := []) [] [(4, .long r1)] (fun H locs ls hw hl => ?_) (fun hK6 => ?_)
  · refine lv_lload hx hb dX0_common_31 (lv_at hl 0 rfl) ?_
    have hf := sm_e hf
    subst hf
    exact x_retL cx hw () rfl [] rfl rfl (Nat.le_of_ble_eq_true rfl) (Nat.le_of_ble_eq_true rfl) dX0_common_33
  · refine x_lp hlp6 (fun x6 => []) (fun x6 => [(4, .long x6.1), (6, .long x6.2)]) hw (lv_sub hl [1, 0] rfl) (fun x6 y6 hf hin6 hout6 H locs ls hw hl => ?_)
    have hw : Wd D A s [] H locs := hw
    have hl : lv_has ls 10 [(4, .long x6.1), (6, .long x6.2)] := hl
    refine lv_lload hx hb dX0_common_6 (lv_at hl 1 rfl) ?_
    refine lv_lconst (v := 0) hx hb dX0_common_8 (by decide) ?_
    refine W.lcmp hx hb dX0_common_9 ?_
    refine lv_if_eq (tgt := 31) hx hb dX0_common_10 (by decide) (fun c10 => ?_) (fun c10 => ?_)
    · have hf := if_t hf ((lg_cmp_eq _ _).mp c10)
      have hf := sm_e hf
      subst hf
      have hz := hout6 _ rfl
      subst hz
      exact hK6 _ _ _ hw (lv_sub hl [0] rfl)
    · have hf := if_f hf (fun h => c10 ((lg_cmp_eq _ _).mpr h))
      refine lv_lload hx hb dX0_common_13 (lv_at hl 0 rfl) ?_
      refine lv_lload hx hb dX0_common_15 (lv_at hl 1 rfl) ?_
      obtain ⟨g2, hv, hf⟩ := op_e hf
      refine x_lrem cx hv dX0_common_17 ?_
      refine lv_lstore (lv' := [(8, .long (x6.1 - x6.1 / x6.2 * x6.2)), (4, .long x6.1), (6, .long x6.2)]) hx hb dX0_common_18 hl (by decide) rfl (fun ls hl => ?_)
      refine lv_lload hx hb dX0_common_20 (lv_at hl 2 rfl) ?_
      refine lv_lstore (lv' := [(4, .long x6.2), (8, .long (x6.1 - x6.1 / x6.2 * x6.2)), (6, .long x6.2)]) hx hb dX0_common_22 hl (by decide) rfl (fun ls hl => ?_)
      refine lv_lload hx hb dX0_common_24 (lv_at hl 1 rfl) ?_
      refine lv_lstore (lv' := [(6, .long (x6.1 - x6.1 / x6.2 * x6.2)), (4, .long x6.2), (8, .long (x6.1 - x6.1 / x6.2 * x6.2))]) hx hb dX0_common_26 hl (by decide) rfl (fun ls hl => ?_)
      refine lv_goto (tgt := 6) hx hb dX0_common_28 (by decide) ?_
      have hf := sm_e hf
      subst hf
      exact hin6 _ rfl _ _ _ hw (lv_sub hl [1, 0] rfl)
theorem hd_X3_weightBehind : yX3_weightBehind.cls = "DishLift$Dish" ∧ yX3_weightBehind.cls ≠ "java/lang/invoke/MethodHandle" ∧ yX3_weightBehind.cls ≠ "java/lang/invoke/VarHandle" ∧ (parseMethodDescriptor yX3_weightBehind.desc).map (fun d => d.parameters.length) = some 3 := by decide +kernel
set_option maxHeartbeats 4000000 in
theorem mX3_weightBehind (l : Launch) (X : XT) (hX : XOK X) (D : va_G) (d : Nat → ClassId)  (a : Nat) (p1 : Int32) (p2 : Int32) (p3 : Int32)  (res : Int32) (hf : fX3_weightBehind p1 = some res) : MetI l yX3_weightBehind (ws_ yX3_weightBehind cX3_weightBehind 4 (some .int)) { frames := 0, cells := 0, slots := 0, locals := 0 } [.ref a, .int p1, .int p2, .int p3] X D d [] (fun r (_ : Unit) => r = res) (fun _ => []) := by
  refine MetI.of (by decide +kernel) (Nat.le_of_ble_eq_true rfl) ?_
  intro p e s m below meth c A cx hw ls hl
  have cx : Cx p s m _ meth c X D d A "DishLift$Dish" cX3_weightBehind 4 (some .int) "weightBehind" := cx
  have cx' := cx
  obtain ⟨hx, hb, hr, hlk, hml, hown, hts, hK, hA, hXs, hnm⟩ := cx'
  have hl : lv_has ls 4 [(0, .ref a), (1, .int p1), (2, .int p2), (3, .int p3)] := hl
  unfold fX3_weightBehind at hf
  refine lv_iload_n hx hb dX3_weightBehind_0 rfl (lv_at hl 1 rfl) ?_
  have hf := sm_e hf
  subst hf
  exact x_retI cx hw rfl () rfl [] rfl rfl (Nat.le_of_ble_eq_true rfl) (Nat.le_of_ble_eq_true rfl) dX3_weightBehind_1
theorem hd_X4_kind : yX4_kind.cls = "DishLift$Hot" ∧ yX4_kind.cls ≠ "java/lang/invoke/MethodHandle" ∧ yX4_kind.cls ≠ "java/lang/invoke/VarHandle" ∧ (parseMethodDescriptor yX4_kind.desc).map (fun d => d.parameters.length) = some 0 := by decide +kernel
set_option maxHeartbeats 4000000 in
theorem mX4_kind (l : Launch) (X : XT) (hX : XOK X) (D : va_G) (d : Nat → ClassId)  (a : Nat)  (res : Int32) (hf : fX4_kind  = some res) : MetI l yX4_kind (ws_ yX4_kind cX4_kind 1 (some .int)) { frames := 0, cells := 0, slots := 0, locals := 0 } [.ref a] X D d [] (fun r (_ : Unit) => r = res) (fun _ => []) := by
  refine MetI.of (by decide +kernel) (Nat.le_of_ble_eq_true rfl) ?_
  intro p e s m below meth c A cx hw ls hl
  have cx : Cx p s m _ meth c X D d A "DishLift$Hot" cX4_kind 1 (some .int) "kind" := cx
  have cx' := cx
  obtain ⟨hx, hb, hr, hlk, hml, hown, hts, hK, hA, hXs, hnm⟩ := cx'
  have hl : lv_has ls 1 [(0, .ref a)] := hl
  unfold fX4_kind at hf
  refine lv_iconst (v := 1) hx hb dX4_kind_0 (by decide) ?_
  have hf := sm_e hf
  subst hf
  exact x_retI cx hw rfl () rfl [] rfl rfl (Nat.le_of_ble_eq_true rfl) (Nat.le_of_ble_eq_true rfl) dX4_kind_1
theorem hd_X4_heatBehind : yX4_heatBehind.cls = "DishLift$Hot" ∧ yX4_heatBehind.cls ≠ "java/lang/invoke/MethodHandle" ∧ yX4_heatBehind.cls ≠ "java/lang/invoke/VarHandle" ∧ (parseMethodDescriptor yX4_heatBehind.desc).map (fun d => d.parameters.length) = some 2 := by decide +kernel
set_option maxHeartbeats 4000000 in
theorem mX4_heatBehind (l : Launch) (X : XT) (hX : XOK X) (D : va_G) (d : Nat → ClassId)  (a : Nat) (p1 : Int32) (p2 : Int32)  (res : Int32) (hf : fX4_heatBehind p1 = some res) : MetI l yX4_heatBehind (ws_ yX4_heatBehind cX4_heatBehind 3 (some .int)) { frames := 1, cells := 0, slots := 0, locals := 40 } [.ref a, .int p1, .int p2] X D d [] (fun r (_ : Unit) => r = res) (fun _ => []) := by
  refine MetI.of (by decide +kernel) (Nat.le_of_ble_eq_true rfl) ?_
  intro p e s m below meth c A cx hw ls hl
  have cx : Cx p s m _ meth c X D d A "DishLift$Hot" cX4_heatBehind 3 (some .int) "heatBehind" := cx
  have cx' := cx
  obtain ⟨hx, hb, hr, hlk, hml, hown, hts, hK, hA, hXs, hnm⟩ := cx'
  have hl : lv_has ls 3 [(0, .ref a), (1, .int p1), (2, .int p2)] := hl
  unfold fX4_heatBehind at hf
  refine lv_iconst (v := 0) hx hb dX4_heatBehind_0 (by decide) ?_
  refine lv_iload_n hx hb dX4_heatBehind_1 rfl (lv_at hl 1 rfl) ?_
  refine lv_iconst (v := 1) hx hb dX4_heatBehind_2 (by decide) ?_
  refine lv_isub hx hb dX4_heatBehind_3 ?_
  refine va_mmax hx hb (hml.trans hl.1.symm) hown (hts _ q845) (hts _ q708) (hts _ q110) (hts _ q709) (Nat.le_of_ble_eq_true rfl) (Nat.le_of_ble_eq_true rfl) (Nat.le_of_ble_eq_true rfl) (Nat.le_of_ble_eq_true rfl) dX4_heatBehind_4 ?_
  have hf := sm_e hf
  subst hf
  exact x_retI cx hw rfl () rfl [] rfl rfl (Nat.le_of_ble_eq_true rfl) (Nat.le_of_ble_eq_true rfl) dX4_heatBehind_7
theorem hd_X4_isGood : yX4_isGood.cls = "DishLift$Hot" ∧ yX4_isGood.cls ≠ "java/lang/invoke/MethodHandle" ∧ yX4_isGood.cls ≠ "java/lang/invoke/VarHandle" ∧ (parseMethodDescriptor yX4_isGood.desc).map (fun d => d.parameters.length) = some 1 := by decide +kernel
set_option maxHeartbeats 4000000 in
theorem mX4_isGood (l : Launch) (X : XT) (hX : XOK X) (D : va_G) (d : Nat → ClassId)  (a : Nat) (p1 : Int32)  (res : Int32) (hf : fX4_isGood p1 = some res) : MetI l yX4_isGood (ws_ yX4_isGood cX4_isGood 2 (some .boolean)) { frames := 0, cells := 0, slots := 0, locals := 0 } [.ref a, .int p1] X D d [] (fun r (_ : Unit) => r = res) (fun _ => []) := by
  refine MetI.of (by decide +kernel) (Nat.le_of_ble_eq_true rfl) ?_
  intro p e s m below meth c A cx hw ls hl
  have cx : Cx p s m _ meth c X D d A "DishLift$Hot" cX4_isGood 2 (some .boolean) "isGood" := cx
  have cx' := cx
  obtain ⟨hx, hb, hr, hlk, hml, hown, hts, hK, hA, hXs, hnm⟩ := cx'
  have hl : lv_has ls 2 [(0, .ref a), (1, .int p1)] := hl
  unfold fX4_isGood at hf
  refine lv_iload_n hx hb dX4_isGood_0 rfl (lv_at hl 1 rfl) ?_
  refine lv_bipush (v := 20) hx hb dX4_isGood_1 (by decide) ?_
  refine lv_icmp_lt (tgt := 10) hx hb dX4_isGood_3 (by decide) (fun c3 => ?_) (fun c3 => ?_)
  · have hf := if_t hf c3
    refine lv_iconst (v := 0) hx hb dX4_isGood_10 (by decide) ?_
    have hf := sm_e hf
    subst hf
    exact x_retI cx hw rfl () rfl [] rfl rfl (Nat.le_of_ble_eq_true rfl) (Nat.le_of_ble_eq_true rfl) dX4_isGood_11
  · have hf := if_f hf c3
    refine lv_iconst (v := 1) hx hb dX4_isGood_6 (by decide) ?_
    refine lv_goto (tgt := 11) hx hb dX4_isGood_7 (by decide) ?_
    have hf := sm_e hf
    subst hf
    exact x_retI cx hw rfl () rfl [] rfl rfl (Nat.le_of_ble_eq_true rfl) (Nat.le_of_ble_eq_true rfl) dX4_isGood_11
theorem hd_X5_kind : yX5_kind.cls = "DishLift$Soup" ∧ yX5_kind.cls ≠ "java/lang/invoke/MethodHandle" ∧ yX5_kind.cls ≠ "java/lang/invoke/VarHandle" ∧ (parseMethodDescriptor yX5_kind.desc).map (fun d => d.parameters.length) = some 0 := by decide +kernel
set_option maxHeartbeats 4000000 in
theorem mX5_kind (l : Launch) (X : XT) (hX : XOK X) (D : va_G) (d : Nat → ClassId)  (a : Nat)  (res : Int32) (hf : fX5_kind  = some res) : MetI l yX5_kind (ws_ yX5_kind cX5_kind 1 (some .int)) { frames := 0, cells := 0, slots := 0, locals := 0 } [.ref a] X D d [] (fun r (_ : Unit) => r = res) (fun _ => []) := by
  refine MetI.of (by decide +kernel) (Nat.le_of_ble_eq_true rfl) ?_
  intro p e s m below meth c A cx hw ls hl
  have cx : Cx p s m _ meth c X D d A "DishLift$Soup" cX5_kind 1 (some .int) "kind" := cx
  have cx' := cx
  obtain ⟨hx, hb, hr, hlk, hml, hown, hts, hK, hA, hXs, hnm⟩ := cx'
  have hl : lv_has ls 1 [(0, .ref a)] := hl
  unfold fX5_kind at hf
  refine lv_iconst (v := 2) hx hb dX5_kind_0 (by decide) ?_
  have hf := sm_e hf
  subst hf
  exact x_retI cx hw rfl () rfl [] rfl rfl (Nat.le_of_ble_eq_true rfl) (Nat.le_of_ble_eq_true rfl) dX5_kind_1
theorem hd_X5_weightBehind : yX5_weightBehind.cls = "DishLift$Soup" ∧ yX5_weightBehind.cls ≠ "java/lang/invoke/MethodHandle" ∧ yX5_weightBehind.cls ≠ "java/lang/invoke/VarHandle" ∧ (parseMethodDescriptor yX5_weightBehind.desc).map (fun d => d.parameters.length) = some 3 := by decide +kernel
set_option maxHeartbeats 4000000 in
theorem mX5_weightBehind (l : Launch) (X : XT) (hX : XOK X) (D : va_G) (d : Nat → ClassId)  (a : Nat) (p1 : Int32) (p2 : Int32) (p3 : Int32)  (res : Int32) (hf : fX5_weightBehind p1 p3 = some res) : MetI l yX5_weightBehind (ws_ yX5_weightBehind cX5_weightBehind 4 (some .int)) { frames := 1, cells := 0, slots := 0, locals := 40 } [.ref a, .int p1, .int p2, .int p3] X D d [] (fun r (_ : Unit) => r = res) (fun _ => []) := by
  refine MetI.of (by decide +kernel) (Nat.le_of_ble_eq_true rfl) ?_
  intro p e s m below meth c A cx hw ls hl
  have cx : Cx p s m _ meth c X D d A "DishLift$Soup" cX5_weightBehind 4 (some .int) "weightBehind" := cx
  have cx' := cx
  obtain ⟨hx, hb, hr, hlk, hml, hown, hts, hK, hA, hXs, hnm⟩ := cx'
  have hl : lv_has ls 4 [(0, .ref a), (1, .int p1), (2, .int p2), (3, .int p3)] := hl
  unfold fX5_weightBehind at hf
  refine lv_iload_n hx hb dX5_weightBehind_0 rfl (lv_at hl 3 rfl) ?_
  refine lv_if_eq (tgt := 14) hx hb dX5_weightBehind_1 (by decide) (fun c1 => ?_) (fun c1 => ?_)
  · have hf := if_t hf c1
    refine lv_iload_n hx hb dX5_weightBehind_14 rfl (lv_at hl 1 rfl) ?_
    have hf := sm_e hf
    subst hf
    exact x_retI cx hw rfl () rfl [] rfl rfl (Nat.le_of_ble_eq_true rfl) (Nat.le_of_ble_eq_true rfl) dX5_weightBehind_15
  · have hf := if_f hf c1
    refine lv_iconst (v := 1) hx hb dX5_weightBehind_4 (by decide) ?_
    refine lv_iload_n hx hb dX5_weightBehind_5 rfl (lv_at hl 1 rfl) ?_
    refine lv_iconst (v := 1) hx hb dX5_weightBehind_6 (by decide) ?_
    refine lv_isub hx hb dX5_weightBehind_7 ?_
    refine va_mmax hx hb (hml.trans hl.1.symm) hown (hts _ q865) (hts _ q708) (hts _ q110) (hts _ q709) (Nat.le_of_ble_eq_true rfl) (Nat.le_of_ble_eq_true rfl) (Nat.le_of_ble_eq_true rfl) (Nat.le_of_ble_eq_true rfl) dX5_weightBehind_8 ?_
    refine lv_goto (tgt := 15) hx hb dX5_weightBehind_11 (by decide) ?_
    have hf := sm_e hf
    subst hf
    exact x_retI cx hw rfl () rfl [] rfl rfl (Nat.le_of_ble_eq_true rfl) (Nat.le_of_ble_eq_true rfl) dX5_weightBehind_15
theorem hd_X6_kind : yX6_kind.cls = "DishLift$Roast" ∧ yX6_kind.cls ≠ "java/lang/invoke/MethodHandle" ∧ yX6_kind.cls ≠ "java/lang/invoke/VarHandle" ∧ (parseMethodDescriptor yX6_kind.desc).map (fun d => d.parameters.length) = some 0 := by decide +kernel
set_option maxHeartbeats 4000000 in
theorem mX6_kind (l : Launch) (X : XT) (hX : XOK X) (D : va_G) (d : Nat → ClassId)  (a : Nat)  (res : Int32) (hf : fX6_kind  = some res) : MetI l yX6_kind (ws_ yX6_kind cX6_kind 1 (some .int)) { frames := 0, cells := 0, slots := 0, locals := 0 } [.ref a] X D d [] (fun r (_ : Unit) => r = res) (fun _ => []) := by
  refine MetI.of (by decide +kernel) (Nat.le_of_ble_eq_true rfl) ?_
  intro p e s m below meth c A cx hw ls hl
  have cx : Cx p s m _ meth c X D d A "DishLift$Roast" cX6_kind 1 (some .int) "kind" := cx
  have cx' := cx
  obtain ⟨hx, hb, hr, hlk, hml, hown, hts, hK, hA, hXs, hnm⟩ := cx'
  have hl : lv_has ls 1 [(0, .ref a)] := hl
  unfold fX6_kind at hf
  refine lv_iconst (v := 3) hx hb dX6_kind_0 (by decide) ?_
  have hf := sm_e hf
  subst hf
  exact x_retI cx hw rfl () rfl [] rfl rfl (Nat.le_of_ble_eq_true rfl) (Nat.le_of_ble_eq_true rfl) dX6_kind_1
theorem hd_X7_kind : yX7_kind.cls = "DishLift$Cold" ∧ yX7_kind.cls ≠ "java/lang/invoke/MethodHandle" ∧ yX7_kind.cls ≠ "java/lang/invoke/VarHandle" ∧ (parseMethodDescriptor yX7_kind.desc).map (fun d => d.parameters.length) = some 0 := by decide +kernel
set_option maxHeartbeats 4000000 in
theorem mX7_kind (l : Launch) (X : XT) (hX : XOK X) (D : va_G) (d : Nat → ClassId)  (a : Nat)  (res : Int32) (hf : fX7_kind  = some res) : MetI l yX7_kind (ws_ yX7_kind cX7_kind 1 (some .int)) { frames := 0, cells := 0, slots := 0, locals := 0 } [.ref a] X D d [] (fun r (_ : Unit) => r = res) (fun _ => []) := by
  refine MetI.of (by decide +kernel) (Nat.le_of_ble_eq_true rfl) ?_
  intro p e s m below meth c A cx hw ls hl
  have cx : Cx p s m _ meth c X D d A "DishLift$Cold" cX7_kind 1 (some .int) "kind" := cx
  have cx' := cx
  obtain ⟨hx, hb, hr, hlk, hml, hown, hts, hK, hA, hXs, hnm⟩ := cx'
  have hl : lv_has ls 1 [(0, .ref a)] := hl
  unfold fX7_kind at hf
  refine lv_iconst (v := 4) hx hb dX7_kind_0 (by decide) ?_
  have hf := sm_e hf
  subst hf
  exact x_retI cx hw rfl () rfl [] rfl rfl (Nat.le_of_ble_eq_true rfl) (Nat.le_of_ble_eq_true rfl) dX7_kind_1
theorem hd_X7_heatBehind : yX7_heatBehind.cls = "DishLift$Cold" ∧ yX7_heatBehind.cls ≠ "java/lang/invoke/MethodHandle" ∧ yX7_heatBehind.cls ≠ "java/lang/invoke/VarHandle" ∧ (parseMethodDescriptor yX7_heatBehind.desc).map (fun d => d.parameters.length) = some 2 := by decide +kernel
set_option maxHeartbeats 4000000 in
theorem mX7_heatBehind (l : Launch) (X : XT) (hX : XOK X) (D : va_G) (d : Nat → ClassId)  (a : Nat) (p1 : Int32) (p2 : Int32)  (res : Int32) (hf : fX7_heatBehind p1 = some res) : MetI l yX7_heatBehind (ws_ yX7_heatBehind cX7_heatBehind 3 (some .int)) { frames := 1, cells := 0, slots := 0, locals := 40 } [.ref a, .int p1, .int p2] X D d [] (fun r (_ : Unit) => r = res) (fun _ => []) := by
  refine MetI.of (by decide +kernel) (Nat.le_of_ble_eq_true rfl) ?_
  intro p e s m below meth c A cx hw ls hl
  have cx : Cx p s m _ meth c X D d A "DishLift$Cold" cX7_heatBehind 3 (some .int) "heatBehind" := cx
  have cx' := cx
  obtain ⟨hx, hb, hr, hlk, hml, hown, hts, hK, hA, hXs, hnm⟩ := cx'
  have hl : lv_has ls 3 [(0, .ref a), (1, .int p1), (2, .int p2)] := hl
  unfold fX7_heatBehind at hf
  refine lv_bipush (v := 60) hx hb dX7_heatBehind_0 (by decide) ?_
  refine lv_iload_n hx hb dX7_heatBehind_2 rfl (lv_at hl 1 rfl) ?_
  refine lv_iconst (v := 1) hx hb dX7_heatBehind_3 (by decide) ?_
  refine lv_iadd hx hb dX7_heatBehind_4 ?_
  refine va_mmin hx hb (hml.trans hl.1.symm) hown (hts _ q841) (hts _ q744) (hts _ q110) (hts _ q745) (Nat.le_of_ble_eq_true rfl) (Nat.le_of_ble_eq_true rfl) (Nat.le_of_ble_eq_true rfl) (Nat.le_of_ble_eq_true rfl) dX7_heatBehind_5 ?_
  have hf := sm_e hf
  subst hf
  exact x_retI cx hw rfl () rfl [] rfl rfl (Nat.le_of_ble_eq_true rfl) (Nat.le_of_ble_eq_true rfl) dX7_heatBehind_8
theorem hd_X7_isGood : yX7_isGood.cls = "DishLift$Cold" ∧ yX7_isGood.cls ≠ "java/lang/invoke/MethodHandle" ∧ yX7_isGood.cls ≠ "java/lang/invoke/VarHandle" ∧ (parseMethodDescriptor yX7_isGood.desc).map (fun d => d.parameters.length) = some 1 := by decide +kernel
set_option maxHeartbeats 4000000 in
theorem mX7_isGood (l : Launch) (X : XT) (hX : XOK X) (D : va_G) (d : Nat → ClassId)  (a : Nat) (p1 : Int32)  (res : Int32) (hf : fX7_isGood p1 = some res) : MetI l yX7_isGood (ws_ yX7_isGood cX7_isGood 2 (some .boolean)) { frames := 0, cells := 0, slots := 0, locals := 0 } [.ref a, .int p1] X D d [] (fun r (_ : Unit) => r = res) (fun _ => []) := by
  refine MetI.of (by decide +kernel) (Nat.le_of_ble_eq_true rfl) ?_
  intro p e s m below meth c A cx hw ls hl
  have cx : Cx p s m _ meth c X D d A "DishLift$Cold" cX7_isGood 2 (some .boolean) "isGood" := cx
  have cx' := cx
  obtain ⟨hx, hb, hr, hlk, hml, hown, hts, hK, hA, hXs, hnm⟩ := cx'
  have hl : lv_has ls 2 [(0, .ref a), (1, .int p1)] := hl
  unfold fX7_isGood at hf
  refine lv_iload_n hx hb dX7_isGood_0 rfl (lv_at hl 1 rfl) ?_
  refine lv_bipush (v := 10) hx hb dX7_isGood_1 (by decide) ?_
  refine lv_icmp_gt (tgt := 10) hx hb dX7_isGood_3 (by decide) (fun c3 => ?_) (fun c3 => ?_)
  · have hf := if_t hf c3
    refine lv_iconst (v := 0) hx hb dX7_isGood_10 (by decide) ?_
    have hf := sm_e hf
    subst hf
    exact x_retI cx hw rfl () rfl [] rfl rfl (Nat.le_of_ble_eq_true rfl) (Nat.le_of_ble_eq_true rfl) dX7_isGood_11
  · have hf := if_f hf c3
    refine lv_iconst (v := 1) hx hb dX7_isGood_6 (by decide) ?_
    refine lv_goto (tgt := 11) hx hb dX7_isGood_7 (by decide) ?_
    have hf := sm_e hf
    subst hf
    exact x_retI cx hw rfl () rfl [] rfl rfl (Nat.le_of_ble_eq_true rfl) (Nat.le_of_ble_eq_true rfl) dX7_isGood_11
theorem hd_X8_kind : yX8_kind.cls = "DishLift$Ice" ∧ yX8_kind.cls ≠ "java/lang/invoke/MethodHandle" ∧ yX8_kind.cls ≠ "java/lang/invoke/VarHandle" ∧ (parseMethodDescriptor yX8_kind.desc).map (fun d => d.parameters.length) = some 0 := by decide +kernel
set_option maxHeartbeats 4000000 in
theorem mX8_kind (l : Launch) (X : XT) (hX : XOK X) (D : va_G) (d : Nat → ClassId)  (a : Nat)  (res : Int32) (hf : fX8_kind  = some res) : MetI l yX8_kind (ws_ yX8_kind cX8_kind 1 (some .int)) { frames := 0, cells := 0, slots := 0, locals := 0 } [.ref a] X D d [] (fun r (_ : Unit) => r = res) (fun _ => []) := by
  refine MetI.of (by decide +kernel) (Nat.le_of_ble_eq_true rfl) ?_
  intro p e s m below meth c A cx hw ls hl
  have cx : Cx p s m _ meth c X D d A "DishLift$Ice" cX8_kind 1 (some .int) "kind" := cx
  have cx' := cx
  obtain ⟨hx, hb, hr, hlk, hml, hown, hts, hK, hA, hXs, hnm⟩ := cx'
  have hl : lv_has ls 1 [(0, .ref a)] := hl
  unfold fX8_kind at hf
  refine lv_iconst (v := 5) hx hb dX8_kind_0 (by decide) ?_
  have hf := sm_e hf
  subst hf
  exact x_retI cx hw rfl () rfl [] rfl rfl (Nat.le_of_ble_eq_true rfl) (Nat.le_of_ble_eq_true rfl) dX8_kind_1
theorem hd_X8_weightBehind : yX8_weightBehind.cls = "DishLift$Ice" ∧ yX8_weightBehind.cls ≠ "java/lang/invoke/MethodHandle" ∧ yX8_weightBehind.cls ≠ "java/lang/invoke/VarHandle" ∧ (parseMethodDescriptor yX8_weightBehind.desc).map (fun d => d.parameters.length) = some 3 := by decide +kernel
set_option maxHeartbeats 4000000 in
theorem mX8_weightBehind (l : Launch) (X : XT) (hX : XOK X) (D : va_G) (d : Nat → ClassId)  (a : Nat) (p1 : Int32) (p2 : Int32) (p3 : Int32)  (res : Int32) (hf : fX8_weightBehind p1 p2 = some res) : MetI l yX8_weightBehind (ws_ yX8_weightBehind cX8_weightBehind 4 (some .int)) { frames := 1, cells := 0, slots := 0, locals := 40 } [.ref a, .int p1, .int p2, .int p3] X D d [] (fun r (_ : Unit) => r = res) (fun _ => []) := by
  refine MetI.of (by decide +kernel) (Nat.le_of_ble_eq_true rfl) ?_
  intro p e s m below meth c A cx hw ls hl
  have cx : Cx p s m _ meth c X D d A "DishLift$Ice" cX8_weightBehind 4 (some .int) "weightBehind" := cx
  have cx' := cx
  obtain ⟨hx, hb, hr, hlk, hml, hown, hts, hK, hA, hXs, hnm⟩ := cx'
  have hl : lv_has ls 4 [(0, .ref a), (1, .int p1), (2, .int p2), (3, .int p3)] := hl
  unfold fX8_weightBehind at hf
  refine lv_iload_n hx hb dX8_weightBehind_0 rfl (lv_at hl 2 rfl) ?_
  refine lv_bipush (v := 10) hx hb dX8_weightBehind_1 (by decide) ?_
  refine lv_icmp_lt (tgt := 16) hx hb dX8_weightBehind_3 (by decide) (fun c3 => ?_) (fun c3 => ?_)
  · have hf := if_t hf c3
    refine lv_iload_n hx hb dX8_weightBehind_16 rfl (lv_at hl 1 rfl) ?_
    have hf := sm_e hf
    subst hf
    exact x_retI cx hw rfl () rfl [] rfl rfl (Nat.le_of_ble_eq_true rfl) (Nat.le_of_ble_eq_true rfl) dX8_weightBehind_17
  · have hf := if_f hf c3
    refine lv_iconst (v := 1) hx hb dX8_weightBehind_6 (by decide) ?_
    refine lv_iload_n hx hb dX8_weightBehind_7 rfl (lv_at hl 1 rfl) ?_
    refine lv_iconst (v := 1) hx hb dX8_weightBehind_8 (by decide) ?_
    refine lv_isub hx hb dX8_weightBehind_9 ?_
    refine va_mmax hx hb (hml.trans hl.1.symm) hown (hts _ q860) (hts _ q708) (hts _ q110) (hts _ q709) (Nat.le_of_ble_eq_true rfl) (Nat.le_of_ble_eq_true rfl) (Nat.le_of_ble_eq_true rfl) (Nat.le_of_ble_eq_true rfl) dX8_weightBehind_10 ?_
    refine lv_goto (tgt := 17) hx hb dX8_weightBehind_13 (by decide) ?_
    have hf := sm_e hf
    subst hf
    exact x_retI cx hw rfl () rfl [] rfl rfl (Nat.le_of_ble_eq_true rfl) (Nat.le_of_ble_eq_true rfl) dX8_weightBehind_17
theorem hd_X6_heatBehind : yX6_heatBehind.cls = "DishLift$Roast" ∧ yX6_heatBehind.cls ≠ "java/lang/invoke/MethodHandle" ∧ yX6_heatBehind.cls ≠ "java/lang/invoke/VarHandle" ∧ (parseMethodDescriptor yX6_heatBehind.desc).map (fun d => d.parameters.length) = some 2 := by decide +kernel
set_option maxHeartbeats 4000000 in
theorem mX6_heatBehind (l : Launch)  (D : va_G) (d : Nat → ClassId) (cs : Nat → Nat) (wi : va_W) (ln : Nat → Option Int32) (lf : Nat → Nat → Option Nat) (dk : Nat → Option Nat) (dn : Nat → Int32) (him : ImF d wi ln lf dk dn) (a : Nat) (p1 : Int32) (p2 : Int32) (hrc : ∃ nn : Int32, (a, .inr (7, [.int nn])) ∈ wi) (res : Int32) (hf : fX6_heatBehind p1 p2 = some res) : MetI l yX6_heatBehind (ws_ yX6_heatBehind cX6_heatBehind 3 (some .int)) { frames := 2, cells := 0, slots := 0, locals := 62 } [.ref a, .int p1, .int p2] (XI D cs wi) D d [] (fun r (_ : Unit) => r = res) (fun _ => []) := by
  have hX := XI.ok (D := D) (cs := cs) (wi := wi)
  refine MetI.of (by decide +kernel) (Nat.le_of_ble_eq_true rfl) ?_
  intro p e s m below meth c A cx hw ls hl
  have cx : Cx p s m _ meth c (XI D cs wi) D d A "DishLift$Roast" cX6_heatBehind 3 (some .int) "heatBehind" := cx
  have cx' := cx
  obtain ⟨hx, hb, hr, hlk, hml, hown, hts, hK, hA, hXs, hnm⟩ := cx'
  have hl : lv_has ls 3 [(0, .ref a), (1, .int p1), (2, .int p2)] := hl
  unfold fX6_heatBehind at hf
  obtain ⟨nn, hrc⟩ := hrc
  refine lv_iload_n hx hb dX6_heatBehind_0 rfl (lv_at hl 2 rfl) ?_
  refine lv_iconst (v := 2) hx hb dX6_heatBehind_1 (by decide) ?_
  refine lv_irem hx hb dX6_heatBehind_2 (by decide) ?_
  refine lv_if_ne (tgt := 10) hx hb dX6_heatBehind_3 (by decide) (fun c3 => ?_) (fun c3 => ?_)
  · have hf := if_f hf c3
    refine lv_aload_n hx hb dX6_heatBehind_10 rfl (lv_at hl 0 rfl) ?_
    refine lv_iload_n hx hb dX6_heatBehind_11 rfl (lv_at hl 1 rfl) ?_
    refine lv_iload_n hx hb dX6_heatBehind_12 rfl (lv_at hl 2 rfl) ?_
    obtain ⟨q1, hcq1, hf⟩ := op_e hf
    refine x_PI0 (n := 2) (rest := []) (C := "DishLift$Roast") [.int p1, .int p2] hX cx hw hl.1 (hK.1 7 _ rfl).2 (mX4_heatBehind l (XI D cs wi) hX D d a p1 p2 q1 hcq1) (lw_SU q850 q1684 q277 q843 q89 q844) ⟨by decide +kernel, by decide +kernel⟩ ⟨(Nat.le_of_ble_eq_true rfl), (Nat.le_of_ble_eq_true rfl)⟩ (dish_recv hXs hK hw hrc rfl) rfl rfl (Nat.le_of_ble_eq_true rfl) dX6_heatBehind_13 ⟨(Nat.le_of_ble_eq_true rfl), (Nat.le_of_ble_eq_true rfl)⟩ (fun r u H locs hp hw => ?_)
    subst r
    have hf := sm_e hf
    subst hf
    exact x_retI cx hw rfl () rfl [] rfl rfl (Nat.le_of_ble_eq_true rfl) (Nat.le_of_ble_eq_true rfl) dX6_heatBehind_16
  · have hf := if_t hf c3
    refine lv_iload_n hx hb dX6_heatBehind_6 rfl (lv_at hl 1 rfl) ?_
    refine lv_goto (tgt := 16) hx hb dX6_heatBehind_7 (by decide) ?_
    have hf := sm_e hf
    subst hf
    exact x_retI cx hw rfl () rfl [] rfl rfl (Nat.le_of_ble_eq_true rfl) (Nat.le_of_ble_eq_true rfl) dX6_heatBehind_16
