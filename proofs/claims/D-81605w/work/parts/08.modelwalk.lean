set_option maxRecDepth 100000
theorem hd_X9_in : yX9_in.cls ≠ "java/lang/invoke/MethodHandle" ∧ yX9_in.cls ≠ "java/lang/invoke/VarHandle" ∧ (parseMethodDescriptor yX9_in.desc).map (fun d => d.parameters.length) = some 3 := by decide +kernel
set_option maxHeartbeats 4000000 in
theorem mX9_in (l : Launch) (X : XT) (hX : XOK X) (D : va_G) (d : Nat → ClassId) (p0 : Int64) (p2 : Int64) (p4 : Int64) (res : Int32) (hf : fX9_in p0 p2 p4 = some res) : MetI l yX9_in (ws_ yX9_in cX9_in 6 (some .boolean)) { frames := 0, cells := 0, slots := 0, locals := 0 } [.long p0, .long p2, .long p4] X D d [] (fun r (_ : Unit) => r = res) (fun _ => []) := by
  refine MetI.of (by decide +kernel) (Nat.le_of_ble_eq_true rfl) ?_
  intro p e s m below meth c A cx hw ls hl
  have cx : Cx p s m _ meth c X D d A "DishLiftModel" cX9_in 6 (some .boolean) "in" := cx
  have cx' := cx
  obtain ⟨hx, hb, hr, hlk, hml, hown, hts, hK, hA, hXs, hnm⟩ := cx'
  have hl : lv_has ls 6 [(0, .long p0), (2, .long p2), (4, .long p4)] := hl
  unfold fX9_in at hf
  refine lv_lload_n hx hb dX9_in_0 rfl (lv_at hl 0 rfl) ?_
  refine lv_lload_n hx hb dX9_in_1 rfl (lv_at hl 1 rfl) ?_
  refine W.lcmp hx hb dX9_in_2 ?_
  refine lv_if_lt (tgt := 17) hx hb dX9_in_3 (by decide) (fun c3 => ?_) (fun c3 => ?_)
  · have hf := if_t hf ((lg_cmp_lt _ _).mp c3)
    refine lv_iconst (v := 0) hx hb dX9_in_17 (by decide) ?_
    have hf := sm_e hf
    subst hf
    exact x_retI cx hw rfl () rfl [] rfl rfl (Nat.le_of_ble_eq_true rfl) (Nat.le_of_ble_eq_true rfl) dX9_in_18
  · have hf := if_f hf (fun h => c3 ((lg_cmp_lt _ _).mpr h))
    refine lv_lload_n hx hb dX9_in_6 rfl (lv_at hl 0 rfl) ?_
    refine lv_lload hx hb dX9_in_7 (lv_at hl 2 rfl) ?_
    refine W.lcmp hx hb dX9_in_9 ?_
    refine lv_if_gt (tgt := 17) hx hb dX9_in_10 (by decide) (fun c10 => ?_) (fun c10 => ?_)
    · have hf := if_t hf ((lg_cmp_gt _ _).mp c10)
      refine lv_iconst (v := 0) hx hb dX9_in_17 (by decide) ?_
      have hf := sm_e hf
      subst hf
      exact x_retI cx hw rfl () rfl [] rfl rfl (Nat.le_of_ble_eq_true rfl) (Nat.le_of_ble_eq_true rfl) dX9_in_18
    · have hf := if_f hf (fun h => c10 ((lg_cmp_gt _ _).mpr h))
      refine lv_iconst (v := 1) hx hb dX9_in_13 (by decide) ?_
      refine lv_goto (tgt := 18) hx hb dX9_in_14 (by decide) ?_
      have hf := sm_e hf
      subst hf
      exact x_retI cx hw rfl () rfl [] rfl rfl (Nat.le_of_ble_eq_true rfl) (Nat.le_of_ble_eq_true rfl) dX9_in_18
theorem hd_X9_isRow : yX9_isRow.cls ≠ "java/lang/invoke/MethodHandle" ∧ yX9_isRow.cls ≠ "java/lang/invoke/VarHandle" ∧ (parseMethodDescriptor yX9_isRow.desc).map (fun d => d.parameters.length) = some 1 := by decide +kernel
set_option maxHeartbeats 4000000 in
theorem mX9_isRow (l : Launch) (X : XT) (hX : XOK X) (D : va_G) (d : Nat → ClassId) (p0 : Int32) (res : Int32) (hf : fX9_isRow p0 = some res) : MetI l yX9_isRow (ws_ yX9_isRow cX9_isRow 1 (some .boolean)) { frames := 1, cells := 0, slots := 0, locals := 25 } [.int p0] X D d [] (fun r (_ : Unit) => r = res) (fun _ => []) := by
  refine MetI.of (by decide +kernel) (Nat.le_of_ble_eq_true rfl) ?_
  intro p e s m below meth c A cx hw ls hl
  have cx : Cx p s m _ meth c X D d A "DishLiftModel" cX9_isRow 1 (some .boolean) "isRow" := cx
  have cx' := cx
  obtain ⟨hx, hb, hr, hlk, hml, hown, hts, hK, hA, hXs, hnm⟩ := cx'
  have hl : lv_has ls 1 [(0, .int p0)] := hl
  unfold fX9_isRow at hf
  refine lv_iload_n hx hb dX9_isRow_0 rfl (lv_at hl 0 rfl) ?_
  refine lv_i2l (v := p0.toInt64) hx hb dX9_isRow_1 rfl ?_
  refine lv_lconst (v := 0) hx hb dX9_isRow_2 (by decide) ?_
  refine lv_ldc2 (v := 7) hx hb hown (hts _ q1314) dX9_isRow_3 ?_
  obtain ⟨q1, hcq1, hf⟩ := op_e hf
  refine x_SI (wr := []) (rest := []) [.long p0.toInt64, .long 0, .long 7] hX cx hw hl.1 (mX9_in l X hX D d p0.toInt64 0 7 q1 hcq1) (lw_S q1315 q1316 q94 q1317) hd_X9_in ⟨Nat.le_of_ble_eq_true rfl, Nat.le_of_ble_eq_true rfl⟩ rfl rfl (Nat.le_of_ble_eq_true rfl) dX9_isRow_6 [] [] rfl rfl rfl rfl (by decide) ⟨(Nat.le_of_ble_eq_true rfl), (Nat.le_of_ble_eq_true rfl)⟩ (fun r u H locs hp hw => ?_)
  have hw : Wd D A s [] H locs := hw
  subst r
  obtain ⟨g2, hgb, hf⟩ := op_e hf
  have hf := sm_e hf
  subst hf
  exact x_retI cx hw (gb_spec hgb) () rfl [] rfl rfl (Nat.le_of_ble_eq_true rfl) (Nat.le_of_ble_eq_true rfl) dX9_isRow_9
theorem hd_X9_finds : yX9_finds.cls = "DishLiftModel" ∧ yX9_finds.cls ≠ "java/lang/invoke/MethodHandle" ∧ yX9_finds.cls ≠ "java/lang/invoke/VarHandle" ∧ (parseMethodDescriptor yX9_finds.desc).map (fun d => d.parameters.length) = some 1 := by decide +kernel
set_option maxHeartbeats 4000000 in
theorem mX9_finds (l : Launch) (X : XT) (hX : XOK X) (D : va_G) (d : Nat → ClassId) (ad : Nat → Nat) (fu : Int32) (ft : Int32) (ff : Int32) (fs : Int32) (fa : Int32) (fb : Int32) (fn : Int32) (fr : Int32) (p1 : Int32) (res : Int32 × Int32) (hf : fX9_finds p1 = some res) : MetI l yX9_finds (ws_ yX9_finds cX9_finds 2 (some .int)) { frames := 0, cells := 0, slots := 0, locals := 0 } [.ref (ad 0), .int p1] X D d [oM ad fu ft ff fs fa fb fn fr] (fun r (_ : Unit) => r = res.1) (fun _ => [oM ad fu ft ff res.2 fa fb fn fr]) := by
  refine MetI.of (by decide +kernel) (Nat.le_of_ble_eq_true rfl) ?_
  intro p e s m below meth c A cx hw ls hl
  have cx : Cx p s m _ meth c X D d A "DishLiftModel" cX9_finds 2 (some .int) "finds" := cx
  have cx' := cx
  obtain ⟨hx, hb, hr, hlk, hml, hown, hts, hK, hA, hXs, hnm⟩ := cx'
  have hl : lv_has ls 2 [(0, .ref (ad 0)), (1, .int p1)] := hl
  unfold fX9_finds at hf
  refine lv_aload_n hx hb dX9_finds_0 rfl (lv_at hl 0 rfl) ?_
  refine lv_iload_n hx hb dX9_finds_1 rfl (lv_at hl 1 rfl) ?_
  refine va_put (ci := 0) (v := .int p1) (ty := .int) (C := RX9) (T := TX9) (N := 19) hx hb hts in_X9 tyX9 tyX9_ok nmX9 hown hK hw.1 hw.2.1 hw.2.2 0 rfl rfl 5 (by decide) (hts _ q1253) (fun _ h9 => h9) rfl (by decide +kernel) rfl rfl (Nat.le_of_ble_eq_true rfl) dX9_finds_2 (fun H locs hP hD hS => ?_)
  have hw : Wd D A s [oM ad fu ft ff p1 fa fb fn fr] H locs := ⟨hP, hD, hS⟩
  refine lv_ldc (v := (-1000010)) hx hb hown (hts _ q1324) dX9_finds_5 ?_
  refine lv_iload_n hx hb dX9_finds_7 rfl (lv_at hl 1 rfl) ?_
  refine lv_isub hx hb dX9_finds_8 ?_
  have hf := sm_e hf
  subst hf
  exact x_retI cx hw rfl () rfl [0] rfl rfl (Nat.le_of_ble_eq_true rfl) (Nat.le_of_ble_eq_true rfl) dX9_finds_9
theorem hd_X9_row : yX9_row.cls = "DishLiftModel" ∧ yX9_row.cls ≠ "java/lang/invoke/MethodHandle" ∧ yX9_row.cls ≠ "java/lang/invoke/VarHandle" ∧ (parseMethodDescriptor yX9_row.desc).map (fun d => d.parameters.length) = some 3 := by decide +kernel
set_option maxHeartbeats 4000000 in
theorem mX9_row (l : Launch) (X : XT) (hX : XOK X) (D : va_G) (d : Nat → ClassId) (ad : Nat → Nat) (fu : Int32) (ft : Int32) (ff : Int32) (fs : Int32) (fa : Int32) (fb : Int32) (fn : Int32) (fr : Int32) (MA : Nat → Int32) (LA : Nat → Int32) (IT : Nat → Int32) (p1 : Int32) (p2 : Int32) (p3 : Int32) (res : Int32 × Int32 × (Nat → Int32) × (Nat → Int32) × (Nat → Int32)) (hf : fX9_row MA LA IT fs p1 p2 p3 = some res) : MetI l yX9_row (ws_ yX9_row cX9_row 5 (some .int)) { frames := 2, cells := 0, slots := 0, locals := 45 } [.ref (ad 0), .int p1, .int p2, .int p3] X D d [oM ad fu ft ff fs fa fb fn fr, ((ad 3), .inl (d 0, 8, .inl MA)), ((ad 4), .inl (d 0, 8, .inl LA)), ((ad 5), .inl (d 0, 320, .inl IT))] (fun r (_ : Unit) => r = res.1) (fun _ => [oM ad fu ft ff res.2.1 fa fb fn fr, ((ad 3), .inl (d 0, 8, .inl res.2.2.1)), ((ad 4), .inl (d 0, 8, .inl res.2.2.2.1)), ((ad 5), .inl (d 0, 320, .inl res.2.2.2.2))]) := by
  refine MetI.of (by decide +kernel) (Nat.le_of_ble_eq_true rfl) ?_
  intro p e s m below meth c A cx hw ls hl
  have cx : Cx p s m _ meth c X D d A "DishLiftModel" cX9_row 5 (some .int) "row" := cx
  have cx' := cx
  obtain ⟨hx, hb, hr, hlk, hml, hown, hts, hK, hA, hXs, hnm⟩ := cx'
  have hl : lv_has ls 5 [(0, .ref (ad 0)), (1, .int p1), (2, .int p2), (3, .int p3)] := hl
  unfold fX9_row at hf
  refine lv_iload_n hx hb dX9_row_0 rfl (lv_at hl 1 rfl) ?_
  obtain ⟨q1, hcq1, hf⟩ := op_e hf
  refine x_SI (wr := [oM ad fu ft ff fs fa fb fn fr, ((ad 3), .inl (d 0, 8, .inl MA)), ((ad 4), .inl (d 0, 8, .inl LA)), ((ad 5), .inl (d 0, 320, .inl IT))]) (rest := []) [.int p1] hX cx hw hl.1 (mX9_isRow l X hX D d p1 q1 hcq1) (lw_S q1311 q1312 q94 q1313) hd_X9_isRow ⟨Nat.le_of_ble_eq_true rfl, Nat.le_of_ble_eq_true rfl⟩ rfl rfl (Nat.le_of_ble_eq_true rfl) dX9_row_1 [] [0, 1, 2, 3] rfl rfl rfl rfl (by decide) ⟨(Nat.le_of_ble_eq_true rfl), (Nat.le_of_ble_eq_true rfl)⟩ (fun r u H locs hp hw => ?_)
  have hw : Wd D A s [oM ad fu ft ff fs fa fb fn fr, ((ad 3), .inl (d 0, 8, .inl MA)), ((ad 4), .inl (d 0, 8, .inl LA)), ((ad 5), .inl (d 0, 320, .inl IT))] H locs := hw
  subst r
  refine lv_if_eq (tgt := 25) hx hb dX9_row_4 (by decide) (fun c4 => ?_) (fun c4 => ?_)
  · have hf := if_t hf c4
    refine lv_ldc (v := (-1000001)) hx hb hown (hts _ q1319) dX9_row_25 ?_
    have hf := sm_e hf
    subst hf
    exact x_retI cx hw rfl () rfl [0, 1, 2, 3] rfl rfl (Nat.le_of_ble_eq_true rfl) (Nat.le_of_ble_eq_true rfl) dX9_row_27
  · have hf := if_f hf c4
    refine lv_iload_n hx hb dX9_row_7 rfl (lv_at hl 2 rfl) ?_
    refine lv_i2l (v := p2.toInt64) hx hb dX9_row_8 rfl ?_
    refine lv_lconst (v := 0) hx hb dX9_row_9 (by decide) ?_
    refine lv_ldc2 (v := 2) hx hb hown (hts _ q1318) dX9_row_10 ?_
    obtain ⟨q2, hcq2, hf⟩ := op_e hf
    refine x_SI (wr := [oM ad fu ft ff fs fa fb fn fr, ((ad 3), .inl (d 0, 8, .inl MA)), ((ad 4), .inl (d 0, 8, .inl LA)), ((ad 5), .inl (d 0, 320, .inl IT))]) (rest := []) [.long p2.toInt64, .long 0, .long 2] hX cx hw hl.1 (mX9_in l X hX D d p2.toInt64 0 2 q2 hcq2) (lw_S q1315 q1316 q94 q1317) hd_X9_in ⟨Nat.le_of_ble_eq_true rfl, Nat.le_of_ble_eq_true rfl⟩ rfl rfl (Nat.le_of_ble_eq_true rfl) dX9_row_13 [] [0, 1, 2, 3] rfl rfl rfl rfl (by decide) ⟨(Nat.le_of_ble_eq_true rfl), (Nat.le_of_ble_eq_true rfl)⟩ (fun r u H locs hp hw => ?_)
    have hw : Wd D A s [oM ad fu ft ff fs fa fb fn fr, ((ad 3), .inl (d 0, 8, .inl MA)), ((ad 4), .inl (d 0, 8, .inl LA)), ((ad 5), .inl (d 0, 320, .inl IT))] H locs := hw
    subst r
    refine lv_if_eq (tgt := 25) hx hb dX9_row_16 (by decide) (fun c16 => ?_) (fun c16 => ?_)
    · have hf := if_t hf c16
      refine lv_ldc (v := (-1000001)) hx hb hown (hts _ q1319) dX9_row_25 ?_
      have hf := sm_e hf
      subst hf
      exact x_retI cx hw rfl () rfl [0, 1, 2, 3] rfl rfl (Nat.le_of_ble_eq_true rfl) (Nat.le_of_ble_eq_true rfl) dX9_row_27
    · have hf := if_f hf c16
      refine lv_iload_n hx hb dX9_row_19 rfl (lv_at hl 3 rfl) ?_
      refine lv_bipush (v := 40) hx hb dX9_row_20 (by decide) ?_
      refine lv_icmp_le (tgt := 28) hx hb dX9_row_22 (by decide) (fun c22 => ?_) (fun c22 => ?_)
      · have hf := if_t hf c22
        refine lv_iload_n hx hb dX9_row_28 rfl (lv_at hl 3 rfl) ?_
        refine lv_if_ge (tgt := 38) hx hb dX9_row_29 (by decide) (fun c29 => ?_) (fun c29 => ?_)
        · have hf := if_t hf c29
          refine lv_aload_n hx hb dX9_row_38 rfl (lv_at hl 0 rfl) ?_
          refine lv_iconst (v := 0) hx hb dX9_row_39 (by decide) ?_
          refine va_put (ci := 0) (v := .int 0) (ty := .int) (C := RX9) (T := TX9) (N := 19) hx hb hts in_X9 tyX9 tyX9_ok nmX9 hown hK hw.1 hw.2.1 hw.2.2 0 rfl rfl 5 (by decide) (hts _ q1253) (fun _ h9 => h9) rfl (by decide +kernel) rfl rfl (Nat.le_of_ble_eq_true rfl) dX9_row_40 (fun H locs hP hD hS => ?_)
          have hw : Wd D A s [oM ad fu ft ff 0 fa fb fn fr, ((ad 3), .inl (d 0, 8, .inl MA)), ((ad 4), .inl (d 0, 8, .inl LA)), ((ad 5), .inl (d 0, 320, .inl IT))] H locs := ⟨hP, hD, hS⟩
          refine lv_aload_n hx hb dX9_row_43 rfl (lv_at hl 0 rfl) ?_
          refine va_get (ci := 0) (C := RX9) (T := TX9) (N := 19) hx hb hts in_X9 hown hK hw.1 0 rfl rfl 6 (by decide) (hts _ q1254) (fun _ h9 => h9) rfl dX9_row_44 ?_
          refine lv_iload_n hx hb dX9_row_47 rfl (lv_at hl 1 rfl) ?_
          refine lv_iload_n hx hb dX9_row_48 rfl (lv_at hl 3 rfl) ?_
          obtain ⟨w3, hv, hf⟩ := op_e hf
          refine x_iast (q0 := 1) cx hw rfl hv dX9_row_49 (fun H locs hw => ?_)
          have hw : Wd D A s [oM ad fu ft ff 0 fa fb fn fr, ((ad 3), .inl (d 0, 8, .inl w3)), ((ad 4), .inl (d 0, 8, .inl LA)), ((ad 5), .inl (d 0, 320, .inl IT))] H locs := hw
          refine lv_aload_n hx hb dX9_row_50 rfl (lv_at hl 0 rfl) ?_
          refine va_get (ci := 0) (C := RX9) (T := TX9) (N := 19) hx hb hts in_X9 hown hK hw.1 0 rfl rfl 7 (by decide) (hts _ q1255) (fun _ h9 => h9) rfl dX9_row_51 ?_
          refine lv_iload_n hx hb dX9_row_54 rfl (lv_at hl 1 rfl) ?_
          refine lv_iload_n hx hb dX9_row_55 rfl (lv_at hl 2 rfl) ?_
          obtain ⟨w4, hv, hf⟩ := op_e hf
          refine x_iast (q0 := 2) cx hw rfl hv dX9_row_56 (fun H locs hw => ?_)
          have hw : Wd D A s [oM ad fu ft ff 0 fa fb fn fr, ((ad 3), .inl (d 0, 8, .inl w3)), ((ad 4), .inl (d 0, 8, .inl w4)), ((ad 5), .inl (d 0, 320, .inl IT))] H locs := hw
          refine lv_iconst (v := 0) hx hb dX9_row_57 (by decide) ?_
          refine lv_istore (lv' := [(4, .int 0), (0, .ref (ad 0)), (1, .int p1), (2, .int p2), (3, .int p3)]) hx hb dX9_row_58 hl (by decide) rfl (fun ls hl => ?_)
          obtain ⟨r5, hlp60, hf⟩ := op_e hf
          refine x_join (A := A) (D := D) (J := 86) (nL := 5) (cells' := 0) (slots' := 0) (st := []) [oM ad fu ft ff 0 fa fb fn fr, ((ad 3), .inl (d 0, 8, .inl w3)), ((ad 4), .inl (d 0, 8, .inl w4)), ((ad 5), .inl (d 0, 320, .inl r5))] [(3, .int p3)] (fun H locs ls hw hl => ?_) (fun hK60 => ?_)
          · refine lv_iload_n hx hb dX9_row_86 rfl (lv_at hl 0 rfl) ?_
            have hf := sm_e hf
            subst hf
            exact x_retI cx hw rfl () rfl [0, 1, 2, 3] rfl rfl (Nat.le_of_ble_eq_true rfl) (Nat.le_of_ble_eq_true rfl) dX9_row_87
          · refine x_lp hlp60 (fun x60 => [oM ad fu ft ff 0 fa fb fn fr, ((ad 3), .inl (d 0, 8, .inl w3)), ((ad 4), .inl (d 0, 8, .inl w4)), ((ad 5), .inl (d 0, 320, .inl x60.2))]) (fun x60 => [(0, .ref (ad 0)), (1, .int p1), (3, .int p3), (4, .int x60.1)]) hw (lv_sub hl [1, 2, 4, 0] rfl) (fun x60 y60 hf hin60 hout60 H locs ls hw hl => ?_)
            have hw : Wd D A s [oM ad fu ft ff 0 fa fb fn fr, ((ad 3), .inl (d 0, 8, .inl w3)), ((ad 4), .inl (d 0, 8, .inl w4)), ((ad 5), .inl (d 0, 320, .inl x60.2))] H locs := hw
            have hl : lv_has ls 5 [(0, .ref (ad 0)), (1, .int p1), (3, .int p3), (4, .int x60.1)] := hl
            refine lv_iload hx hb dX9_row_60 (lv_at hl 3 rfl) ?_
            refine lv_bipush (v := 40) hx hb dX9_row_62 (by decide) ?_
            refine lv_icmp_ge (tgt := 86) hx hb dX9_row_64 (by decide) (fun c64 => ?_) (fun c64 => ?_)
            · have hf := if_t hf c64
              have hf := sm_e hf
              subst hf
              have hz := hout60 _ rfl
              subst hz
              exact hK60 _ _ _ hw (lv_sub hl [2] rfl)
            · have hf := if_f hf c64
              refine lv_aload_n hx hb dX9_row_67 rfl (lv_at hl 0 rfl) ?_
              refine va_get (ci := 0) (C := RX9) (T := TX9) (N := 19) hx hb hts in_X9 hown hK hw.1 0 rfl rfl 8 (by decide) (hts _ q1256) (fun _ h9 => h9) rfl dX9_row_68 ?_
              refine lv_bipush (v := 40) hx hb dX9_row_71 (by decide) ?_
              refine lv_iload_n hx hb dX9_row_73 rfl (lv_at hl 1 rfl) ?_
              refine lv_imul hx hb dX9_row_74 ?_
              refine lv_iload hx hb dX9_row_75 (lv_at hl 3 rfl) ?_
              refine lv_iadd hx hb dX9_row_77 ?_
              refine lv_iconst (v := 0) hx hb dX9_row_78 (by decide) ?_
              obtain ⟨w6, hv, hf⟩ := op_e hf
              refine x_iast (q0 := 3) cx hw rfl hv dX9_row_79 (fun H locs hw => ?_)
              have hw : Wd D A s [oM ad fu ft ff 0 fa fb fn fr, ((ad 3), .inl (d 0, 8, .inl w3)), ((ad 4), .inl (d 0, 8, .inl w4)), ((ad 5), .inl (d 0, 320, .inl w6))] H locs := hw
              refine lv_iinc (v := (x60.1 + 1)) (lv' := [(4, .int (x60.1 + 1)), (0, .ref (ad 0)), (1, .int p1), (3, .int p3)]) hx hb dX9_row_80 hl (k := 3) rfl (by first | rfl | decide) (by decide) rfl (fun ls hl => ?_)
              refine lv_goto (tgt := 60) hx hb dX9_row_83 (by decide) ?_
              have hf := sm_e hf
              subst hf
              exact hin60 _ rfl _ _ _ hw (lv_sub hl [1, 2, 3, 0] rfl)
        · have hf := if_f hf c29
          refine lv_aload_n hx hb dX9_row_32 rfl (lv_at hl 0 rfl) ?_
          refine lv_iconst (v := 4) hx hb dX9_row_33 (by decide) ?_
          obtain ⟨q7, hcq7, hf⟩ := op_e hf
          refine x_VI (wr := [((ad 3), .inl (d 0, 8, .inl MA)), ((ad 4), .inl (d 0, 8, .inl LA)), ((ad 5), .inl (d 0, 320, .inl IT))]) (rest := []) [.int 4] hX cx hw hl.1 (mX9_finds l X hX D d ad fu ft ff fs fa fb fn fr 4 q7 hcq7) (lw_V q1320 q1322 qs36 q94 q1323) hd_X9_finds ⟨Nat.le_of_ble_eq_true rfl, Nat.le_of_ble_eq_true rfl⟩ (va_recv hK hw.1 (ci := 0) (q0 := 0) rfl rfl) rfl rfl (Nat.le_of_ble_eq_true rfl) dX9_row_34 [0] [1, 2, 3] rfl rfl rfl rfl (by decide) ⟨(Nat.le_of_ble_eq_true rfl), (Nat.le_of_ble_eq_true rfl)⟩ (fun r u H locs hp hw => ?_)
          have hw : Wd D A s [((ad 3), .inl (d 0, 8, .inl MA)), ((ad 4), .inl (d 0, 8, .inl LA)), ((ad 5), .inl (d 0, 320, .inl IT)), oM ad fu ft ff q7.2 fa fb fn fr] H locs := hw
          subst r
          have hf := sm_e hf
          subst hf
          exact x_retI cx hw rfl () rfl [3, 0, 1, 2] rfl rfl (Nat.le_of_ble_eq_true rfl) (Nat.le_of_ble_eq_true rfl) dX9_row_37
      · have hf := if_f hf c22
        refine lv_ldc (v := (-1000001)) hx hb hown (hts _ q1319) dX9_row_25 ?_
        have hf := sm_e hf
        subst hf
        exact x_retI cx hw rfl () rfl [0, 1, 2, 3] rfl rfl (Nat.le_of_ble_eq_true rfl) (Nat.le_of_ble_eq_true rfl) dX9_row_27
theorem hd_X9_against : yX9_against.cls = "DishLiftModel" ∧ yX9_against.cls ≠ "java/lang/invoke/MethodHandle" ∧ yX9_against.cls ≠ "java/lang/invoke/VarHandle" ∧ (parseMethodDescriptor yX9_against.desc).map (fun d => d.parameters.length) = some 3 := by decide +kernel
set_option maxHeartbeats 4000000 in
theorem mX9_against (l : Launch) (X : XT) (hX : XOK X) (D : va_G) (d : Nat → ClassId) (ad : Nat → Nat) (fu : Int32) (ft : Int32) (ff : Int32) (fs : Int32) (fa : Int32) (fb : Int32) (fn : Int32) (fr : Int32) (MA : Nat → Int32) (p1 : Int32) (p2 : Int32) (p3 : Int32) (res : Int32) (hf : fX9_against MA p1 p2 p3 = some res) : MetI l yX9_against (ws_ yX9_against cX9_against 4 (some .int)) { frames := 0, cells := 0, slots := 0, locals := 0 } [.ref (ad 0), .int p1, .int p2, .int p3] X D d [oM ad fu ft ff fs fa fb fn fr, ((ad 3), .inl (d 0, 8, .inl MA))] (fun r (_ : Unit) => r = res) (fun _ => [oM ad fu ft ff fs fa fb fn fr, ((ad 3), .inl (d 0, 8, .inl MA))]) := by
  refine MetI.of (by decide +kernel) (Nat.le_of_ble_eq_true rfl) ?_
  intro p e s m below meth c A cx hw ls hl
  have cx : Cx p s m _ meth c X D d A "DishLiftModel" cX9_against 4 (some .int) "against" := cx
  have cx' := cx
  obtain ⟨hx, hb, hr, hlk, hml, hown, hts, hK, hA, hXs, hnm⟩ := cx'
  have hl : lv_has ls 4 [(0, .ref (ad 0)), (1, .int p1), (2, .int p2), (3, .int p3)] := hl
  unfold fX9_against at hf
  refine lv_aload_n hx hb dX9_against_0 rfl (lv_at hl 0 rfl) ?_
  refine va_get (ci := 0) (C := RX9) (T := TX9) (N := 19) hx hb hts in_X9 hown hK hw.1 0 rfl rfl 6 (by decide) (hts _ q1254) (fun _ h9 => h9) rfl dX9_against_1 ?_
  refine lv_iload_n hx hb dX9_against_4 rfl (lv_at hl 1 rfl) ?_
  obtain ⟨v1, hv, hf⟩ := op_e hf
  refine x_iald (q0 := 1) cx hw rfl hv dX9_against_5 ?_
  refine lv_if_ge (tgt := 13) hx hb dX9_against_6 (by decide) (fun c6 => ?_) (fun c6 => ?_)
  · have hf := if_t hf c6
    refine lv_iload_n hx hb dX9_against_13 rfl (lv_at hl 2 rfl) ?_
    refine lv_if_lt (tgt := 37) hx hb dX9_against_14 (by decide) (fun c14 => ?_) (fun c14 => ?_)
    · have hf := if_t hf c14
      refine lv_iconst (v := 2) hx hb dX9_against_37 (by decide) ?_
      refine lv_goto (tgt := 42) hx hb dX9_against_38 (by decide) ?_
      have hf := sm_e hf
      subst hf
      exact x_retI cx hw rfl () rfl [0, 1] rfl rfl (Nat.le_of_ble_eq_true rfl) (Nat.le_of_ble_eq_true rfl) dX9_against_42
    · have hf := if_f hf c14
      refine lv_iload_n hx hb dX9_against_17 rfl (lv_at hl 3 rfl) ?_
      refine lv_if_lt (tgt := 37) hx hb dX9_against_18 (by decide) (fun c18 => ?_) (fun c18 => ?_)
      · have hf := if_t hf c18
        refine lv_iconst (v := 2) hx hb dX9_against_37 (by decide) ?_
        refine lv_goto (tgt := 42) hx hb dX9_against_38 (by decide) ?_
        have hf := sm_e hf
        subst hf
        exact x_retI cx hw rfl () rfl [0, 1] rfl rfl (Nat.le_of_ble_eq_true rfl) (Nat.le_of_ble_eq_true rfl) dX9_against_42
      · have hf := if_f hf c18
        refine lv_iload_n hx hb dX9_against_21 rfl (lv_at hl 2 rfl) ?_
        refine lv_i2l (v := p2.toInt64) hx hb dX9_against_22 rfl ?_
        refine lv_iload_n hx hb dX9_against_23 rfl (lv_at hl 3 rfl) ?_
        refine lv_i2l (v := p3.toInt64) hx hb dX9_against_24 rfl ?_
        refine lv_ladd hx hb dX9_against_25 ?_
        refine lv_aload_n hx hb dX9_against_26 rfl (lv_at hl 0 rfl) ?_
        refine va_get (ci := 0) (C := RX9) (T := TX9) (N := 19) hx hb hts in_X9 hown hK hw.1 0 rfl rfl 6 (by decide) (hts _ q1254) (fun _ h9 => h9) rfl dX9_against_27 ?_
        refine lv_iload_n hx hb dX9_against_30 rfl (lv_at hl 1 rfl) ?_
        obtain ⟨v2, hv, hf⟩ := op_e hf
        refine x_iald (q0 := 1) cx hw rfl hv dX9_against_31 ?_
        refine lv_i2l (v := v2.toInt64) hx hb dX9_against_32 rfl ?_
        refine W.lcmp hx hb dX9_against_33 ?_
        refine lv_if_le (tgt := 41) hx hb dX9_against_34 (by decide) (fun c34 => ?_) (fun c34 => ?_)
        · have hf := if_t hf ((lg_cmp_le _ _).mp c34)
          refine lv_iconst (v := 0) hx hb dX9_against_41 (by decide) ?_
          have hf := sm_e hf
          subst hf
          exact x_retI cx hw rfl () rfl [0, 1] rfl rfl (Nat.le_of_ble_eq_true rfl) (Nat.le_of_ble_eq_true rfl) dX9_against_42
        · have hf := if_f hf (fun h => c34 ((lg_cmp_le _ _).mpr h))
          refine lv_iconst (v := 2) hx hb dX9_against_37 (by decide) ?_
          refine lv_goto (tgt := 42) hx hb dX9_against_38 (by decide) ?_
          have hf := sm_e hf
          subst hf
          exact x_retI cx hw rfl () rfl [0, 1] rfl rfl (Nat.le_of_ble_eq_true rfl) (Nat.le_of_ble_eq_true rfl) dX9_against_42
  · have hf := if_f hf c6
    refine lv_iconst (v := 1) hx hb dX9_against_9 (by decide) ?_
    refine lv_goto (tgt := 42) hx hb dX9_against_10 (by decide) ?_
    have hf := sm_e hf
    subst hf
    exact x_retI cx hw rfl () rfl [0, 1] rfl rfl (Nat.le_of_ble_eq_true rfl) (Nat.le_of_ble_eq_true rfl) dX9_against_42
theorem hd_X9_set : yX9_set.cls = "DishLiftModel" ∧ yX9_set.cls ≠ "java/lang/invoke/MethodHandle" ∧ yX9_set.cls ≠ "java/lang/invoke/VarHandle" ∧ (parseMethodDescriptor yX9_set.desc).map (fun d => d.parameters.length) = some 3 := by decide +kernel
set_option maxHeartbeats 4000000 in
theorem mX9_set (l : Launch) (X : XT) (hX : XOK X) (D : va_G) (d : Nat → ClassId) (ad : Nat → Nat) (fu : Int32) (ft : Int32) (ff : Int32) (fs : Int32) (fa : Int32) (fb : Int32) (fn : Int32) (fr : Int32) (MA : Nat → Int32) (LA : Nat → Int32) (IT : Nat → Int32) (p1 : Int32) (p2 : Int32) (p3 : Int32) (res : Int32 × Int32 × (Nat → Int32)) (hf : fX9_set MA LA IT fs p1 p2 p3 = some res) : MetI l yX9_set (ws_ yX9_set cX9_set 5 (some .int)) { frames := 2, cells := 0, slots := 0, locals := 45 } [.ref (ad 0), .int p1, .int p2, .int p3] X D d [oM ad fu ft ff fs fa fb fn fr, ((ad 3), .inl (d 0, 8, .inl MA)), ((ad 4), .inl (d 0, 8, .inl LA)), ((ad 5), .inl (d 0, 320, .inl IT))] (fun r (_ : Unit) => r = res.1) (fun _ => [oM ad fu ft ff res.2.1 fa fb fn fr, ((ad 3), .inl (d 0, 8, .inl MA)), ((ad 4), .inl (d 0, 8, .inl LA)), ((ad 5), .inl (d 0, 320, .inl res.2.2))]) := by
  refine MetI.of (by decide +kernel) (Nat.le_of_ble_eq_true rfl) ?_
  intro p e s m below meth c A cx hw ls hl
  have cx : Cx p s m _ meth c X D d A "DishLiftModel" cX9_set 5 (some .int) "set" := cx
  have cx' := cx
  obtain ⟨hx, hb, hr, hlk, hml, hown, hts, hK, hA, hXs, hnm⟩ := cx'
  have hl : lv_has ls 5 [(0, .ref (ad 0)), (1, .int p1), (2, .int p2), (3, .int p3)] := hl
  unfold fX9_set at hf
  refine lv_iload_n hx hb dX9_set_0 rfl (lv_at hl 1 rfl) ?_
  obtain ⟨q1, hcq1, hf⟩ := op_e hf
  refine x_SI (wr := [oM ad fu ft ff fs fa fb fn fr, ((ad 3), .inl (d 0, 8, .inl MA)), ((ad 4), .inl (d 0, 8, .inl LA)), ((ad 5), .inl (d 0, 320, .inl IT))]) (rest := []) [.int p1] hX cx hw hl.1 (mX9_isRow l X hX D d p1 q1 hcq1) (lw_S q1311 q1312 q94 q1313) hd_X9_isRow ⟨Nat.le_of_ble_eq_true rfl, Nat.le_of_ble_eq_true rfl⟩ rfl rfl (Nat.le_of_ble_eq_true rfl) dX9_set_1 [] [0, 1, 2, 3] rfl rfl rfl rfl (by decide) ⟨(Nat.le_of_ble_eq_true rfl), (Nat.le_of_ble_eq_true rfl)⟩ (fun r u H locs hp hw => ?_)
  have hw : Wd D A s [oM ad fu ft ff fs fa fb fn fr, ((ad 3), .inl (d 0, 8, .inl MA)), ((ad 4), .inl (d 0, 8, .inl LA)), ((ad 5), .inl (d 0, 320, .inl IT))] H locs := hw
  subst r
  refine lv_if_ne (tgt := 10) hx hb dX9_set_4 (by decide) (fun c4 => ?_) (fun c4 => ?_)
  · have hf := if_f hf c4
    refine lv_aload_n hx hb dX9_set_10 rfl (lv_at hl 0 rfl) ?_
    refine lv_iload_n hx hb dX9_set_11 rfl (lv_at hl 1 rfl) ?_
    refine lv_iload_n hx hb dX9_set_12 rfl (lv_at hl 2 rfl) ?_
    refine lv_iconst (v := 1) hx hb dX9_set_13 (by decide) ?_
    obtain ⟨q2, hcq2, hf⟩ := op_e hf
    refine x_VI (wr := [((ad 4), .inl (d 0, 8, .inl LA)), ((ad 5), .inl (d 0, 320, .inl IT))]) (rest := []) [.int p1, .int p2, .int 1] hX cx hw hl.1 (mX9_against l X hX D d ad fu ft ff fs fa fb fn fr MA p1 p2 1 q2 hcq2) (lw_V q1329 q1331 qs37 q94 q1332) hd_X9_against ⟨Nat.le_of_ble_eq_true rfl, Nat.le_of_ble_eq_true rfl⟩ (va_recv hK hw.1 (ci := 0) (q0 := 0) rfl rfl) rfl rfl (Nat.le_of_ble_eq_true rfl) dX9_set_14 [0, 1] [2, 3] rfl rfl rfl rfl (by decide) ⟨(Nat.le_of_ble_eq_true rfl), (Nat.le_of_ble_eq_true rfl)⟩ (fun r u H locs hp hw => ?_)
    have hw : Wd D A s [((ad 4), .inl (d 0, 8, .inl LA)), ((ad 5), .inl (d 0, 320, .inl IT)), oM ad fu ft ff fs fa fb fn fr, ((ad 3), .inl (d 0, 8, .inl MA))] H locs := hw
    subst r
    refine lv_istore (lv' := [(4, .int q2), (0, .ref (ad 0)), (1, .int p1), (2, .int p2), (3, .int p3)]) hx hb dX9_set_17 hl (by decide) rfl (fun ls hl => ?_)
    refine lv_iload hx hb dX9_set_19 (lv_at hl 0 rfl) ?_
    refine lv_if_le (tgt := 31) hx hb dX9_set_21 (by decide) (fun c21 => ?_) (fun c21 => ?_)
    · have hf := if_t hf c21
      refine lv_aload_n hx hb dX9_set_31 rfl (lv_at hl 1 rfl) ?_
      refine lv_iconst (v := 0) hx hb dX9_set_32 (by decide) ?_
      refine va_put (ci := 0) (v := .int 0) (ty := .int) (C := RX9) (T := TX9) (N := 19) hx hb hts in_X9 tyX9 tyX9_ok nmX9 hown hK hw.1 hw.2.1 hw.2.2 2 rfl rfl 5 (by decide) (hts _ q1253) (fun _ h9 => h9) rfl (by decide +kernel) rfl rfl (Nat.le_of_ble_eq_true rfl) dX9_set_33 (fun H locs hP hD hS => ?_)
      have hw : Wd D A s [((ad 4), .inl (d 0, 8, .inl LA)), ((ad 5), .inl (d 0, 320, .inl IT)), oM ad fu ft ff 0 fa fb fn fr, ((ad 3), .inl (d 0, 8, .inl MA))] H locs := ⟨hP, hD, hS⟩
      refine lv_aload_n hx hb dX9_set_36 rfl (lv_at hl 1 rfl) ?_
      refine va_get (ci := 0) (C := RX9) (T := TX9) (N := 19) hx hb hts in_X9 hown hK hw.1 2 rfl rfl 8 (by decide) (hts _ q1256) (fun _ h9 => h9) rfl dX9_set_37 ?_
      refine lv_bipush (v := 40) hx hb dX9_set_40 (by decide) ?_
      refine lv_iload_n hx hb dX9_set_42 rfl (lv_at hl 2 rfl) ?_
      refine lv_imul hx hb dX9_set_43 ?_
      refine lv_iload_n hx hb dX9_set_44 rfl (lv_at hl 3 rfl) ?_
      refine lv_iadd hx hb dX9_set_45 ?_
      refine lv_aload_n hx hb dX9_set_46 rfl (lv_at hl 1 rfl) ?_
      refine va_get (ci := 0) (C := RX9) (T := TX9) (N := 19) hx hb hts in_X9 hown hK hw.1 2 rfl rfl 7 (by decide) (hts _ q1255) (fun _ h9 => h9) rfl dX9_set_47 ?_
      refine lv_iload_n hx hb dX9_set_50 rfl (lv_at hl 2 rfl) ?_
      obtain ⟨v3, hv, hf⟩ := op_e hf
      refine x_iald (q0 := 0) cx hw rfl hv dX9_set_51 ?_
      obtain ⟨j4, ha, hr⟩ := op_e hf
      refine x_join (A := A) (D := D) (J := 76) (nL := 5) (cells' := 0) (slots' := 0) (st := [.int j4, .int ((40 * p1) + p2), .ref (ad 5)]) [oM ad fu ft ff 0 fa fb fn fr, ((ad 3), .inl (d 0, 8, .inl MA)), ((ad 4), .inl (d 0, 8, .inl LA)), ((ad 5), .inl (d 0, 320, .inl IT))] [(0, .ref (ad 0)), (1, .int p1), (2, .int p2)] (fun H locs ls hw hl => ?_) (fun hKj76_j4 => ?_)
      · have hf := hr
        obtain ⟨w5, hv, hf⟩ := op_e hf
        refine x_iast (q0 := 3) cx hw rfl hv dX9_set_76 (fun H locs hw => ?_)
        have hw : Wd D A s [oM ad fu ft ff 0 fa fb fn fr, ((ad 3), .inl (d 0, 8, .inl MA)), ((ad 4), .inl (d 0, 8, .inl LA)), ((ad 5), .inl (d 0, 320, .inl w5))] H locs := hw
        refine lv_aload_n hx hb dX9_set_77 rfl (lv_at hl 0 rfl) ?_
        refine va_get (ci := 0) (C := RX9) (T := TX9) (N := 19) hx hb hts in_X9 hown hK hw.1 0 rfl rfl 8 (by decide) (hts _ q1256) (fun _ h9 => h9) rfl dX9_set_78 ?_
        refine lv_bipush (v := 40) hx hb dX9_set_81 (by decide) ?_
        refine lv_iload_n hx hb dX9_set_83 rfl (lv_at hl 1 rfl) ?_
        refine lv_imul hx hb dX9_set_84 ?_
        refine lv_iload_n hx hb dX9_set_85 rfl (lv_at hl 2 rfl) ?_
        refine lv_iadd hx hb dX9_set_86 ?_
        obtain ⟨v6, hv, hf⟩ := op_e hf
        refine x_iald (q0 := 3) cx hw rfl hv dX9_set_87 ?_
        have hf := sm_e hf
        subst hf
        exact x_retI cx hw rfl () rfl [0, 1, 2, 3] rfl rfl (Nat.le_of_ble_eq_true rfl) (Nat.le_of_ble_eq_true rfl) dX9_set_88
      · have hf := ha
        refine lv_if_ne (tgt := 60) hx hb dX9_set_52 (by decide) (fun c52 => ?_) (fun c52 => ?_)
        · have hf := if_f hf c52
          refine lv_aload_n hx hb dX9_set_60 rfl (lv_at hl 1 rfl) ?_
          refine va_get (ci := 0) (C := RX9) (T := TX9) (N := 19) hx hb hts in_X9 hown hK hw.1 2 rfl rfl 7 (by decide) (hts _ q1255) (fun _ h9 => h9) rfl dX9_set_61 ?_
          refine lv_iload_n hx hb dX9_set_64 rfl (lv_at hl 2 rfl) ?_
          obtain ⟨v7, hv, hf⟩ := op_e hf
          refine x_iald (q0 := 0) cx hw rfl hv dX9_set_65 ?_
          refine lv_iconst (v := 1) hx hb dX9_set_66 (by decide) ?_
          refine lv_icmp_ne (tgt := 75) hx hb dX9_set_67 (by decide) (fun c67 => ?_) (fun c67 => ?_)
          · have hf := if_f hf c67
            refine lv_iload_n hx hb dX9_set_75 rfl (lv_at hl 4 rfl) ?_
            have hf := sm_e hf
            subst hf
            exact hKj76_j4 _ _ _ (hw.sub [2, 3, 0, 1] rfl rfl) (lv_sub hl [1, 2, 3] rfl)
          · have hf := if_t hf c67
            refine lv_iload_n hx hb dX9_set_70 rfl (lv_at hl 4 rfl) ?_
            refine lv_i2s (v := p3.toInt16.toInt32) hx hb dX9_set_71 rfl ?_
            refine lv_goto (tgt := 76) hx hb dX9_set_72 (by decide) ?_
            have hf := sm_e hf
            subst hf
            exact hKj76_j4 _ _ _ (hw.sub [2, 3, 0, 1] rfl rfl) (lv_sub hl [1, 2, 3] rfl)
        · have hf := if_t hf c52
          refine lv_iload_n hx hb dX9_set_55 rfl (lv_at hl 4 rfl) ?_
          refine lv_i2b (v := p3.toInt8.toInt32) hx hb dX9_set_56 rfl ?_
          refine lv_goto (tgt := 76) hx hb dX9_set_57 (by decide) ?_
          have hf := sm_e hf
          subst hf
          exact hKj76_j4 _ _ _ (hw.sub [2, 3, 0, 1] rfl rfl) (lv_sub hl [1, 2, 3] rfl)
    · have hf := if_f hf c21
      refine lv_aload_n hx hb dX9_set_24 rfl (lv_at hl 1 rfl) ?_
      refine lv_iload hx hb dX9_set_25 (lv_at hl 0 rfl) ?_
      obtain ⟨q8, hcq8, hf⟩ := op_e hf
      refine x_VI (wr := [((ad 4), .inl (d 0, 8, .inl LA)), ((ad 5), .inl (d 0, 320, .inl IT)), ((ad 3), .inl (d 0, 8, .inl MA))]) (rest := []) [.int q2] hX cx hw hl.1 (mX9_finds l X hX D d ad fu ft ff fs fa fb fn fr q2 q8 hcq8) (lw_V q1320 q1322 qs36 q94 q1323) hd_X9_finds ⟨Nat.le_of_ble_eq_true rfl, Nat.le_of_ble_eq_true rfl⟩ (va_recv hK hw.1 (ci := 0) (q0 := 2) rfl rfl) rfl rfl (Nat.le_of_ble_eq_true rfl) dX9_set_27 [2] [0, 1, 3] rfl rfl rfl rfl (by decide) ⟨(Nat.le_of_ble_eq_true rfl), (Nat.le_of_ble_eq_true rfl)⟩ (fun r u H locs hp hw => ?_)
      have hw : Wd D A s [((ad 4), .inl (d 0, 8, .inl LA)), ((ad 5), .inl (d 0, 320, .inl IT)), ((ad 3), .inl (d 0, 8, .inl MA)), oM ad fu ft ff q8.2 fa fb fn fr] H locs := hw
      subst r
      have hf := sm_e hf
      subst hf
      exact x_retI cx hw rfl () rfl [3, 2, 0, 1] rfl rfl (Nat.le_of_ble_eq_true rfl) (Nat.le_of_ble_eq_true rfl) dX9_set_30
  · have hf := if_t hf c4
    refine lv_ldc (v := (-1000001)) hx hb hown (hts _ q1319) dX9_set_7 ?_
    have hf := sm_e hf
    subst hf
    exact x_retI cx hw rfl () rfl [0, 1, 2, 3] rfl rfl (Nat.le_of_ble_eq_true rfl) (Nat.le_of_ble_eq_true rfl) dX9_set_9
theorem hd_X9_copy : yX9_copy.cls = "DishLiftModel" ∧ yX9_copy.cls ≠ "java/lang/invoke/MethodHandle" ∧ yX9_copy.cls ≠ "java/lang/invoke/VarHandle" ∧ (parseMethodDescriptor yX9_copy.desc).map (fun d => d.parameters.length) = some 5 := by decide +kernel
set_option maxHeartbeats 4000000 in
theorem mX9_copy (l : Launch) (X : XT) (hX : XOK X) (D : va_G) (d : Nat → ClassId) (ad : Nat → Nat) (fu : Int32) (ft : Int32) (ff : Int32) (fs : Int32) (fa : Int32) (fb : Int32) (fn : Int32) (fr : Int32) (MA : Nat → Int32) (LA : Nat → Int32) (IT : Nat → Int32) (HE : Nat → Int32) (p1 : Int32) (p2 : Int32) (p3 : Int32) (p4 : Int32) (p5 : Int32) (res : Int32 × Int32 × (Nat → Int32) × (Nat → Int32)) (hf : fX9_copy MA LA IT HE fs p1 p2 p3 p4 p5 = some res) : MetI l yX9_copy (ws_ yX9_copy cX9_copy 7 (some .int)) { frames := 2, cells := 0, slots := 0, locals := 45 } [.ref (ad 0), .int p1, .int p2, .int p3, .int p4, .int p5] X D d [oM ad fu ft ff fs fa fb fn fr, ((ad 3), .inl (d 0, 8, .inl MA)), ((ad 4), .inl (d 0, 8, .inl LA)), ((ad 5), .inl (d 0, 320, .inl IT)), ((ad 6), .inl (d 0, 40, .inl HE))] (fun r (_ : Unit) => r = res.1) (fun _ => [oM ad fu ft ff res.2.1 fa fb fn fr, ((ad 3), .inl (d 0, 8, .inl MA)), ((ad 4), .inl (d 0, 8, .inl LA)), ((ad 5), .inl (d 0, 320, .inl res.2.2.1)), ((ad 6), .inl (d 0, 40, .inl res.2.2.2))]) := by
  refine MetI.of (by decide +kernel) (Nat.le_of_ble_eq_true rfl) ?_
  intro p e s m below meth c A cx hw ls hl
  have cx : Cx p s m _ meth c X D d A "DishLiftModel" cX9_copy 7 (some .int) "copy" := cx
  have cx' := cx
  obtain ⟨hx, hb, hr, hlk, hml, hown, hts, hK, hA, hXs, hnm⟩ := cx'
  have hl : lv_has ls 7 [(0, .ref (ad 0)), (1, .int p1), (2, .int p2), (3, .int p3), (4, .int p4), (5, .int p5)] := hl
  unfold fX9_copy at hf
  refine lv_iload_n hx hb dX9_copy_0 rfl (lv_at hl 1 rfl) ?_
  obtain ⟨q1, hcq1, hf⟩ := op_e hf
  refine x_SI (wr := [oM ad fu ft ff fs fa fb fn fr, ((ad 3), .inl (d 0, 8, .inl MA)), ((ad 4), .inl (d 0, 8, .inl LA)), ((ad 5), .inl (d 0, 320, .inl IT)), ((ad 6), .inl (d 0, 40, .inl HE))]) (rest := []) [.int p1] hX cx hw hl.1 (mX9_isRow l X hX D d p1 q1 hcq1) (lw_S q1311 q1312 q94 q1313) hd_X9_isRow ⟨Nat.le_of_ble_eq_true rfl, Nat.le_of_ble_eq_true rfl⟩ rfl rfl (Nat.le_of_ble_eq_true rfl) dX9_copy_1 [] [0, 1, 2, 3, 4] rfl rfl rfl rfl (by decide) ⟨(Nat.le_of_ble_eq_true rfl), (Nat.le_of_ble_eq_true rfl)⟩ (fun r u H locs hp hw => ?_)
  have hw : Wd D A s [oM ad fu ft ff fs fa fb fn fr, ((ad 3), .inl (d 0, 8, .inl MA)), ((ad 4), .inl (d 0, 8, .inl LA)), ((ad 5), .inl (d 0, 320, .inl IT)), ((ad 6), .inl (d 0, 40, .inl HE))] H locs := hw
  subst r
  refine lv_if_eq (tgt := 14) hx hb dX9_copy_4 (by decide) (fun c4 => ?_) (fun c4 => ?_)
  · have hf := if_t hf c4
    refine lv_ldc (v := (-1000001)) hx hb hown (hts _ q1319) dX9_copy_14 ?_
    have hf := sm_e hf
    subst hf
    exact x_retI cx hw rfl () rfl [0, 1, 2, 3, 4] rfl rfl (Nat.le_of_ble_eq_true rfl) (Nat.le_of_ble_eq_true rfl) dX9_copy_16
  · have hf := if_f hf c4
    refine lv_iload_n hx hb dX9_copy_7 rfl (lv_at hl 3 rfl) ?_
    obtain ⟨q2, hcq2, hf⟩ := op_e hf
    refine x_SI (wr := [oM ad fu ft ff fs fa fb fn fr, ((ad 3), .inl (d 0, 8, .inl MA)), ((ad 4), .inl (d 0, 8, .inl LA)), ((ad 5), .inl (d 0, 320, .inl IT)), ((ad 6), .inl (d 0, 40, .inl HE))]) (rest := []) [.int p3] hX cx hw hl.1 (mX9_isRow l X hX D d p3 q2 hcq2) (lw_S q1311 q1312 q94 q1313) hd_X9_isRow ⟨Nat.le_of_ble_eq_true rfl, Nat.le_of_ble_eq_true rfl⟩ rfl rfl (Nat.le_of_ble_eq_true rfl) dX9_copy_8 [] [0, 1, 2, 3, 4] rfl rfl rfl rfl (by decide) ⟨(Nat.le_of_ble_eq_true rfl), (Nat.le_of_ble_eq_true rfl)⟩ (fun r u H locs hp hw => ?_)
    have hw : Wd D A s [oM ad fu ft ff fs fa fb fn fr, ((ad 3), .inl (d 0, 8, .inl MA)), ((ad 4), .inl (d 0, 8, .inl LA)), ((ad 5), .inl (d 0, 320, .inl IT)), ((ad 6), .inl (d 0, 40, .inl HE))] H locs := hw
    subst r
    refine lv_if_ne (tgt := 17) hx hb dX9_copy_11 (by decide) (fun c11 => ?_) (fun c11 => ?_)
    · have hf := if_f hf c11
      refine lv_aload_n hx hb dX9_copy_17 rfl (lv_at hl 0 rfl) ?_
      refine va_get (ci := 0) (C := RX9) (T := TX9) (N := 19) hx hb hts in_X9 hown hK hw.1 0 rfl rfl 6 (by decide) (hts _ q1254) (fun _ h9 => h9) rfl dX9_copy_18 ?_
      refine lv_iload_n hx hb dX9_copy_21 rfl (lv_at hl 1 rfl) ?_
      obtain ⟨v3, hv, hf⟩ := op_e hf
      refine x_iald (q0 := 1) cx hw rfl hv dX9_copy_22 ?_
      refine lv_if_lt (tgt := 35) hx hb dX9_copy_23 (by decide) (fun c23 => ?_) (fun c23 => ?_)
      · have hf := if_t hf c23
        refine lv_aload_n hx hb dX9_copy_35 rfl (lv_at hl 0 rfl) ?_
        refine lv_iconst (v := 1) hx hb dX9_copy_36 (by decide) ?_
        obtain ⟨q4, hcq4, hf⟩ := op_e hf
        refine x_VI (wr := [((ad 3), .inl (d 0, 8, .inl MA)), ((ad 4), .inl (d 0, 8, .inl LA)), ((ad 5), .inl (d 0, 320, .inl IT)), ((ad 6), .inl (d 0, 40, .inl HE))]) (rest := []) [.int 1] hX cx hw hl.1 (mX9_finds l X hX D d ad fu ft ff fs fa fb fn fr 1 q4 hcq4) (lw_V q1320 q1322 qs36 q94 q1323) hd_X9_finds ⟨Nat.le_of_ble_eq_true rfl, Nat.le_of_ble_eq_true rfl⟩ (va_recv hK hw.1 (ci := 0) (q0 := 0) rfl rfl) rfl rfl (Nat.le_of_ble_eq_true rfl) dX9_copy_37 [0] [1, 2, 3, 4] rfl rfl rfl rfl (by decide) ⟨(Nat.le_of_ble_eq_true rfl), (Nat.le_of_ble_eq_true rfl)⟩ (fun r u H locs hp hw => ?_)
        have hw : Wd D A s [((ad 3), .inl (d 0, 8, .inl MA)), ((ad 4), .inl (d 0, 8, .inl LA)), ((ad 5), .inl (d 0, 320, .inl IT)), ((ad 6), .inl (d 0, 40, .inl HE)), oM ad fu ft ff q4.2 fa fb fn fr] H locs := hw
        subst r
        have hf := sm_e hf
        subst hf
        exact x_retI cx hw rfl () rfl [4, 0, 1, 2, 3] rfl rfl (Nat.le_of_ble_eq_true rfl) (Nat.le_of_ble_eq_true rfl) dX9_copy_40
      · have hf := if_f hf c23
        refine lv_aload_n hx hb dX9_copy_26 rfl (lv_at hl 0 rfl) ?_
        refine va_get (ci := 0) (C := RX9) (T := TX9) (N := 19) hx hb hts in_X9 hown hK hw.1 0 rfl rfl 6 (by decide) (hts _ q1254) (fun _ h9 => h9) rfl dX9_copy_27 ?_
        refine lv_iload_n hx hb dX9_copy_30 rfl (lv_at hl 3 rfl) ?_
        obtain ⟨v5, hv, hf⟩ := op_e hf
        refine x_iald (q0 := 1) cx hw rfl hv dX9_copy_31 ?_
        refine lv_if_ge (tgt := 41) hx hb dX9_copy_32 (by decide) (fun c32 => ?_) (fun c32 => ?_)
        · have hf := if_t hf c32
          refine lv_aload_n hx hb dX9_copy_41 rfl (lv_at hl 0 rfl) ?_
          refine va_get (ci := 0) (C := RX9) (T := TX9) (N := 19) hx hb hts in_X9 hown hK hw.1 0 rfl rfl 7 (by decide) (hts _ q1255) (fun _ h9 => h9) rfl dX9_copy_42 ?_
          refine lv_iload_n hx hb dX9_copy_45 rfl (lv_at hl 1 rfl) ?_
          obtain ⟨v6, hv, hf⟩ := op_e hf
          refine x_iald (q0 := 2) cx hw rfl hv dX9_copy_46 ?_
          refine lv_aload_n hx hb dX9_copy_47 rfl (lv_at hl 0 rfl) ?_
          refine va_get (ci := 0) (C := RX9) (T := TX9) (N := 19) hx hb hts in_X9 hown hK hw.1 0 rfl rfl 7 (by decide) (hts _ q1255) (fun _ h9 => h9) rfl dX9_copy_48 ?_
          refine lv_iload_n hx hb dX9_copy_51 rfl (lv_at hl 3 rfl) ?_
          obtain ⟨v7, hv, hf⟩ := op_e hf
          refine x_iald (q0 := 2) cx hw rfl hv dX9_copy_52 ?_
          refine lv_icmp_eq (tgt := 62) hx hb dX9_copy_53 (by decide) (fun c53 => ?_) (fun c53 => ?_)
          · have hf := if_t hf c53
            refine lv_aload_n hx hb dX9_copy_62 rfl (lv_at hl 0 rfl) ?_
            refine lv_iload_n hx hb dX9_copy_63 rfl (lv_at hl 1 rfl) ?_
            refine lv_iload_n hx hb dX9_copy_64 rfl (lv_at hl 2 rfl) ?_
            refine lv_iload hx hb dX9_copy_65 (lv_at hl 5 rfl) ?_
            obtain ⟨q8, hcq8, hf⟩ := op_e hf
            refine x_VI (wr := [((ad 4), .inl (d 0, 8, .inl LA)), ((ad 5), .inl (d 0, 320, .inl IT)), ((ad 6), .inl (d 0, 40, .inl HE))]) (rest := []) [.int p1, .int p2, .int p5] hX cx hw hl.1 (mX9_against l X hX D d ad fu ft ff fs fa fb fn fr MA p1 p2 p5 q8 hcq8) (lw_V q1329 q1331 qs37 q94 q1332) hd_X9_against ⟨Nat.le_of_ble_eq_true rfl, Nat.le_of_ble_eq_true rfl⟩ (va_recv hK hw.1 (ci := 0) (q0 := 0) rfl rfl) rfl rfl (Nat.le_of_ble_eq_true rfl) dX9_copy_67 [0, 1] [2, 3, 4] rfl rfl rfl rfl (by decide) ⟨(Nat.le_of_ble_eq_true rfl), (Nat.le_of_ble_eq_true rfl)⟩ (fun r u H locs hp hw => ?_)
            have hw : Wd D A s [((ad 4), .inl (d 0, 8, .inl LA)), ((ad 5), .inl (d 0, 320, .inl IT)), ((ad 6), .inl (d 0, 40, .inl HE)), oM ad fu ft ff fs fa fb fn fr, ((ad 3), .inl (d 0, 8, .inl MA))] H locs := hw
            subst r
            refine lv_if_gt (tgt := 85) hx hb dX9_copy_70 (by decide) (fun c70 => ?_) (fun c70 => ?_)
            · have hf := if_t hf c70
              refine lv_aload_n hx hb dX9_copy_85 rfl (lv_at hl 0 rfl) ?_
              refine lv_iconst (v := 2) hx hb dX9_copy_86 (by decide) ?_
              obtain ⟨q9, hcq9, hf⟩ := op_e hf
              refine x_VI (wr := [((ad 4), .inl (d 0, 8, .inl LA)), ((ad 5), .inl (d 0, 320, .inl IT)), ((ad 6), .inl (d 0, 40, .inl HE)), ((ad 3), .inl (d 0, 8, .inl MA))]) (rest := []) [.int 2] hX cx hw hl.1 (mX9_finds l X hX D d ad fu ft ff fs fa fb fn fr 2 q9 hcq9) (lw_V q1320 q1322 qs36 q94 q1323) hd_X9_finds ⟨Nat.le_of_ble_eq_true rfl, Nat.le_of_ble_eq_true rfl⟩ (va_recv hK hw.1 (ci := 0) (q0 := 3) rfl rfl) rfl rfl (Nat.le_of_ble_eq_true rfl) dX9_copy_87 [3] [0, 1, 2, 4] rfl rfl rfl rfl (by decide) ⟨(Nat.le_of_ble_eq_true rfl), (Nat.le_of_ble_eq_true rfl)⟩ (fun r u H locs hp hw => ?_)
              have hw : Wd D A s [((ad 4), .inl (d 0, 8, .inl LA)), ((ad 5), .inl (d 0, 320, .inl IT)), ((ad 6), .inl (d 0, 40, .inl HE)), ((ad 3), .inl (d 0, 8, .inl MA)), oM ad fu ft ff q9.2 fa fb fn fr] H locs := hw
              subst r
              have hf := sm_e hf
              subst hf
              exact x_retI cx hw rfl () rfl [4, 3, 0, 1, 2] rfl rfl (Nat.le_of_ble_eq_true rfl) (Nat.le_of_ble_eq_true rfl) dX9_copy_90
            · have hf := if_f hf c70
              refine lv_aload_n hx hb dX9_copy_73 rfl (lv_at hl 0 rfl) ?_
              refine lv_iload_n hx hb dX9_copy_74 rfl (lv_at hl 3 rfl) ?_
              refine lv_iload hx hb dX9_copy_75 (lv_at hl 4 rfl) ?_
              refine lv_iload hx hb dX9_copy_77 (lv_at hl 5 rfl) ?_
              obtain ⟨q10, hcq10, hf⟩ := op_e hf
              refine x_VI (wr := [((ad 4), .inl (d 0, 8, .inl LA)), ((ad 5), .inl (d 0, 320, .inl IT)), ((ad 6), .inl (d 0, 40, .inl HE))]) (rest := []) [.int p3, .int p4, .int p5] hX cx hw hl.1 (mX9_against l X hX D d ad fu ft ff fs fa fb fn fr MA p3 p4 p5 q10 hcq10) (lw_V q1329 q1331 qs37 q94 q1332) hd_X9_against ⟨Nat.le_of_ble_eq_true rfl, Nat.le_of_ble_eq_true rfl⟩ (va_recv hK hw.1 (ci := 0) (q0 := 3) rfl rfl) rfl rfl (Nat.le_of_ble_eq_true rfl) dX9_copy_79 [3, 4] [0, 1, 2] rfl rfl rfl rfl (by decide) ⟨(Nat.le_of_ble_eq_true rfl), (Nat.le_of_ble_eq_true rfl)⟩ (fun r u H locs hp hw => ?_)
              have hw : Wd D A s [((ad 4), .inl (d 0, 8, .inl LA)), ((ad 5), .inl (d 0, 320, .inl IT)), ((ad 6), .inl (d 0, 40, .inl HE)), oM ad fu ft ff fs fa fb fn fr, ((ad 3), .inl (d 0, 8, .inl MA))] H locs := hw
              subst r
              refine lv_if_le (tgt := 91) hx hb dX9_copy_82 (by decide) (fun c82 => ?_) (fun c82 => ?_)
              · have hf := if_t hf c82
                refine lv_aload_n hx hb dX9_copy_91 rfl (lv_at hl 0 rfl) ?_
                refine lv_iconst (v := 0) hx hb dX9_copy_92 (by decide) ?_
                refine va_put (ci := 0) (v := .int 0) (ty := .int) (C := RX9) (T := TX9) (N := 19) hx hb hts in_X9 tyX9 tyX9_ok nmX9 hown hK hw.1 hw.2.1 hw.2.2 3 rfl rfl 5 (by decide) (hts _ q1253) (fun _ h9 => h9) rfl (by decide +kernel) rfl rfl (Nat.le_of_ble_eq_true rfl) dX9_copy_93 (fun H locs hP hD hS => ?_)
                have hw : Wd D A s [((ad 4), .inl (d 0, 8, .inl LA)), ((ad 5), .inl (d 0, 320, .inl IT)), ((ad 6), .inl (d 0, 40, .inl HE)), oM ad fu ft ff 0 fa fb fn fr, ((ad 3), .inl (d 0, 8, .inl MA))] H locs := ⟨hP, hD, hS⟩
                refine lv_iconst (v := 0) hx hb dX9_copy_96 (by decide) ?_
                refine lv_istore (lv' := [(6, .int 0), (0, .ref (ad 0)), (1, .int p1), (2, .int p2), (3, .int p3), (4, .int p4), (5, .int p5)]) hx hb dX9_copy_97 hl (by decide) rfl (fun ls hl => ?_)
                obtain ⟨r11, hlp99, hf⟩ := op_e hf
                refine x_join (A := A) (D := D) (J := 133) (nL := 7) (cells' := 0) (slots' := 0) (st := []) [oM ad fu ft ff 0 fa fb fn fr, ((ad 3), .inl (d 0, 8, .inl MA)), ((ad 4), .inl (d 0, 8, .inl LA)), ((ad 5), .inl (d 0, 320, .inl IT)), ((ad 6), .inl (d 0, 40, .inl r11))] [(0, .ref (ad 0)), (3, .int p3), (4, .int p4), (5, .int p5)] (fun H locs ls hw hl => ?_) (fun hK99 => ?_)
                · refine lv_iconst (v := 0) hx hb dX9_copy_133 (by decide) ?_
                  refine lv_istore (lv' := [(6, .int 0), (0, .ref (ad 0)), (3, .int p3), (4, .int p4), (5, .int p5)]) hx hb dX9_copy_134 hl (by decide) rfl (fun ls hl => ?_)
                  obtain ⟨r12, hlp136, hf⟩ := op_e hf
                  refine x_join (A := A) (D := D) (J := 171) (nL := 7) (cells' := 0) (slots' := 0) (st := []) [oM ad fu ft ff 0 fa fb fn fr, ((ad 3), .inl (d 0, 8, .inl MA)), ((ad 4), .inl (d 0, 8, .inl LA)), ((ad 5), .inl (d 0, 320, .inl r12)), ((ad 6), .inl (d 0, 40, .inl r11))] [(5, .int p5)] (fun H locs ls hw hl => ?_) (fun hK136 => ?_)
                  · refine lv_iload hx hb dX9_copy_171 (lv_at hl 0 rfl) ?_
                    have hf := sm_e hf
                    subst hf
                    exact x_retI cx hw rfl () rfl [0, 1, 2, 3, 4] rfl rfl (Nat.le_of_ble_eq_true rfl) (Nat.le_of_ble_eq_true rfl) dX9_copy_173
                  · refine x_lp hlp136 (fun x136 => [oM ad fu ft ff 0 fa fb fn fr, ((ad 3), .inl (d 0, 8, .inl MA)), ((ad 4), .inl (d 0, 8, .inl LA)), ((ad 5), .inl (d 0, 320, .inl x136.2)), ((ad 6), .inl (d 0, 40, .inl r11))]) (fun x136 => [(0, .ref (ad 0)), (3, .int p3), (4, .int p4), (5, .int p5), (6, .int x136.1)]) hw (lv_sub hl [1, 2, 3, 4, 0] rfl) (fun x136 y136 hf hin136 hout136 H locs ls hw hl => ?_)
                    have hw : Wd D A s [oM ad fu ft ff 0 fa fb fn fr, ((ad 3), .inl (d 0, 8, .inl MA)), ((ad 4), .inl (d 0, 8, .inl LA)), ((ad 5), .inl (d 0, 320, .inl x136.2)), ((ad 6), .inl (d 0, 40, .inl r11))] H locs := hw
                    have hl : lv_has ls 7 [(0, .ref (ad 0)), (3, .int p3), (4, .int p4), (5, .int p5), (6, .int x136.1)] := hl
                    refine lv_iload hx hb dX9_copy_136 (lv_at hl 4 rfl) ?_
                    refine lv_iload hx hb dX9_copy_138 (lv_at hl 3 rfl) ?_
                    refine lv_icmp_ge (tgt := 171) hx hb dX9_copy_140 (by decide) (fun c140 => ?_) (fun c140 => ?_)
                    · have hf := if_t hf c140
                      have hf := sm_e hf
                      subst hf
                      have hz := hout136 _ rfl
                      subst hz
                      exact hK136 _ _ _ hw (lv_sub hl [3] rfl)
                    · have hf := if_f hf c140
                      refine lv_aload_n hx hb dX9_copy_143 rfl (lv_at hl 0 rfl) ?_
                      refine va_get (ci := 0) (C := RX9) (T := TX9) (N := 19) hx hb hts in_X9 hown hK hw.1 0 rfl rfl 8 (by decide) (hts _ q1256) (fun _ h9 => h9) rfl dX9_copy_144 ?_
                      refine lv_bipush (v := 40) hx hb dX9_copy_147 (by decide) ?_
                      refine lv_iload_n hx hb dX9_copy_149 rfl (lv_at hl 1 rfl) ?_
                      refine lv_imul hx hb dX9_copy_150 ?_
                      refine lv_iload hx hb dX9_copy_151 (lv_at hl 2 rfl) ?_
                      refine lv_iadd hx hb dX9_copy_153 ?_
                      refine lv_iload hx hb dX9_copy_154 (lv_at hl 4 rfl) ?_
                      refine lv_iadd hx hb dX9_copy_156 ?_
                      refine lv_aload_n hx hb dX9_copy_157 rfl (lv_at hl 0 rfl) ?_
                      refine va_get (ci := 0) (C := RX9) (T := TX9) (N := 19) hx hb hts in_X9 hown hK hw.1 0 rfl rfl 9 (by decide) (hts _ q1257) (fun _ h9 => h9) rfl dX9_copy_158 ?_
                      refine lv_iload hx hb dX9_copy_161 (lv_at hl 4 rfl) ?_
                      obtain ⟨v13, hv, hf⟩ := op_e hf
                      refine x_iald (q0 := 4) cx hw rfl hv dX9_copy_163 ?_
                      obtain ⟨w14, hv, hf⟩ := op_e hf
                      refine x_iast (q0 := 3) cx hw rfl hv dX9_copy_164 (fun H locs hw => ?_)
                      have hw : Wd D A s [oM ad fu ft ff 0 fa fb fn fr, ((ad 3), .inl (d 0, 8, .inl MA)), ((ad 4), .inl (d 0, 8, .inl LA)), ((ad 5), .inl (d 0, 320, .inl w14)), ((ad 6), .inl (d 0, 40, .inl r11))] H locs := hw
                      refine lv_iinc (v := (x136.1 + 1)) (lv' := [(6, .int (x136.1 + 1)), (0, .ref (ad 0)), (3, .int p3), (4, .int p4), (5, .int p5)]) hx hb dX9_copy_165 hl (k := 4) rfl (by first | rfl | decide) (by decide) rfl (fun ls hl => ?_)
                      refine lv_goto (tgt := 136) hx hb dX9_copy_168 (by decide) ?_
                      have hf := sm_e hf
                      subst hf
                      exact hin136 _ rfl _ _ _ hw (lv_sub hl [1, 2, 3, 4, 0] rfl)
                · refine x_lp hlp99 (fun x99 => [oM ad fu ft ff 0 fa fb fn fr, ((ad 3), .inl (d 0, 8, .inl MA)), ((ad 4), .inl (d 0, 8, .inl LA)), ((ad 5), .inl (d 0, 320, .inl IT)), ((ad 6), .inl (d 0, 40, .inl x99.2))]) (fun x99 => [(0, .ref (ad 0)), (1, .int p1), (2, .int p2), (3, .int p3), (4, .int p4), (5, .int p5), (6, .int x99.1)]) (hw.sub [3, 4, 0, 1, 2] rfl rfl) (lv_sub hl [1, 2, 3, 4, 5, 6, 0] rfl) (fun x99 y99 hf hin99 hout99 H locs ls hw hl => ?_)
                  have hw : Wd D A s [oM ad fu ft ff 0 fa fb fn fr, ((ad 3), .inl (d 0, 8, .inl MA)), ((ad 4), .inl (d 0, 8, .inl LA)), ((ad 5), .inl (d 0, 320, .inl IT)), ((ad 6), .inl (d 0, 40, .inl x99.2))] H locs := hw
                  have hl : lv_has ls 7 [(0, .ref (ad 0)), (1, .int p1), (2, .int p2), (3, .int p3), (4, .int p4), (5, .int p5), (6, .int x99.1)] := hl
                  refine lv_iload hx hb dX9_copy_99 (lv_at hl 6 rfl) ?_
                  refine lv_iload hx hb dX9_copy_101 (lv_at hl 5 rfl) ?_
                  refine lv_icmp_ge (tgt := 133) hx hb dX9_copy_103 (by decide) (fun c103 => ?_) (fun c103 => ?_)
                  · have hf := if_t hf c103
                    have hf := sm_e hf
                    subst hf
                    have hz := hout99 _ rfl
                    subst hz
                    exact hK99 _ _ _ hw (lv_sub hl [0, 3, 4, 5] rfl)
                  · have hf := if_f hf c103
                    refine lv_aload_n hx hb dX9_copy_106 rfl (lv_at hl 0 rfl) ?_
                    refine va_get (ci := 0) (C := RX9) (T := TX9) (N := 19) hx hb hts in_X9 hown hK hw.1 0 rfl rfl 9 (by decide) (hts _ q1257) (fun _ h9 => h9) rfl dX9_copy_107 ?_
                    refine lv_iload hx hb dX9_copy_110 (lv_at hl 6 rfl) ?_
                    refine lv_aload_n hx hb dX9_copy_112 rfl (lv_at hl 0 rfl) ?_
                    refine va_get (ci := 0) (C := RX9) (T := TX9) (N := 19) hx hb hts in_X9 hown hK hw.1 0 rfl rfl 8 (by decide) (hts _ q1256) (fun _ h9 => h9) rfl dX9_copy_113 ?_
                    refine lv_bipush (v := 40) hx hb dX9_copy_116 (by decide) ?_
                    refine lv_iload_n hx hb dX9_copy_118 rfl (lv_at hl 1 rfl) ?_
                    refine lv_imul hx hb dX9_copy_119 ?_
                    refine lv_iload_n hx hb dX9_copy_120 rfl (lv_at hl 2 rfl) ?_
                    refine lv_iadd hx hb dX9_copy_121 ?_
                    refine lv_iload hx hb dX9_copy_122 (lv_at hl 6 rfl) ?_
                    refine lv_iadd hx hb dX9_copy_124 ?_
                    obtain ⟨v15, hv, hf⟩ := op_e hf
                    refine x_iald (q0 := 3) cx hw rfl hv dX9_copy_125 ?_
                    obtain ⟨w16, hv, hf⟩ := op_e hf
                    refine x_iast (q0 := 4) cx hw rfl hv dX9_copy_126 (fun H locs hw => ?_)
                    have hw : Wd D A s [oM ad fu ft ff 0 fa fb fn fr, ((ad 3), .inl (d 0, 8, .inl MA)), ((ad 4), .inl (d 0, 8, .inl LA)), ((ad 5), .inl (d 0, 320, .inl IT)), ((ad 6), .inl (d 0, 40, .inl w16))] H locs := hw
                    refine lv_iinc (v := (x99.1 + 1)) (lv' := [(6, .int (x99.1 + 1)), (0, .ref (ad 0)), (1, .int p1), (2, .int p2), (3, .int p3), (4, .int p4), (5, .int p5)]) hx hb dX9_copy_127 hl (k := 6) rfl (by first | rfl | decide) (by decide) rfl (fun ls hl => ?_)
                    refine lv_goto (tgt := 99) hx hb dX9_copy_130 (by decide) ?_
                    have hf := sm_e hf
                    subst hf
                    exact hin99 _ rfl _ _ _ hw (lv_sub hl [1, 2, 3, 4, 5, 6, 0] rfl)
              · have hf := if_f hf c82
                refine lv_aload_n hx hb dX9_copy_85 rfl (lv_at hl 0 rfl) ?_
                refine lv_iconst (v := 2) hx hb dX9_copy_86 (by decide) ?_
                obtain ⟨q17, hcq17, hf⟩ := op_e hf
                refine x_VI (wr := [((ad 4), .inl (d 0, 8, .inl LA)), ((ad 5), .inl (d 0, 320, .inl IT)), ((ad 6), .inl (d 0, 40, .inl HE)), ((ad 3), .inl (d 0, 8, .inl MA))]) (rest := []) [.int 2] hX cx hw hl.1 (mX9_finds l X hX D d ad fu ft ff fs fa fb fn fr 2 q17 hcq17) (lw_V q1320 q1322 qs36 q94 q1323) hd_X9_finds ⟨Nat.le_of_ble_eq_true rfl, Nat.le_of_ble_eq_true rfl⟩ (va_recv hK hw.1 (ci := 0) (q0 := 3) rfl rfl) rfl rfl (Nat.le_of_ble_eq_true rfl) dX9_copy_87 [3] [0, 1, 2, 4] rfl rfl rfl rfl (by decide) ⟨(Nat.le_of_ble_eq_true rfl), (Nat.le_of_ble_eq_true rfl)⟩ (fun r u H locs hp hw => ?_)
                have hw : Wd D A s [((ad 4), .inl (d 0, 8, .inl LA)), ((ad 5), .inl (d 0, 320, .inl IT)), ((ad 6), .inl (d 0, 40, .inl HE)), ((ad 3), .inl (d 0, 8, .inl MA)), oM ad fu ft ff q17.2 fa fb fn fr] H locs := hw
                subst r
                have hf := sm_e hf
                subst hf
                exact x_retI cx hw rfl () rfl [4, 3, 0, 1, 2] rfl rfl (Nat.le_of_ble_eq_true rfl) (Nat.le_of_ble_eq_true rfl) dX9_copy_90
          · have hf := if_f hf c53
            refine lv_aload_n hx hb dX9_copy_56 rfl (lv_at hl 0 rfl) ?_
            refine lv_iconst (v := 5) hx hb dX9_copy_57 (by decide) ?_
            obtain ⟨q18, hcq18, hf⟩ := op_e hf
            refine x_VI (wr := [((ad 3), .inl (d 0, 8, .inl MA)), ((ad 4), .inl (d 0, 8, .inl LA)), ((ad 5), .inl (d 0, 320, .inl IT)), ((ad 6), .inl (d 0, 40, .inl HE))]) (rest := []) [.int 5] hX cx hw hl.1 (mX9_finds l X hX D d ad fu ft ff fs fa fb fn fr 5 q18 hcq18) (lw_V q1320 q1322 qs36 q94 q1323) hd_X9_finds ⟨Nat.le_of_ble_eq_true rfl, Nat.le_of_ble_eq_true rfl⟩ (va_recv hK hw.1 (ci := 0) (q0 := 0) rfl rfl) rfl rfl (Nat.le_of_ble_eq_true rfl) dX9_copy_58 [0] [1, 2, 3, 4] rfl rfl rfl rfl (by decide) ⟨(Nat.le_of_ble_eq_true rfl), (Nat.le_of_ble_eq_true rfl)⟩ (fun r u H locs hp hw => ?_)
            have hw : Wd D A s [((ad 3), .inl (d 0, 8, .inl MA)), ((ad 4), .inl (d 0, 8, .inl LA)), ((ad 5), .inl (d 0, 320, .inl IT)), ((ad 6), .inl (d 0, 40, .inl HE)), oM ad fu ft ff q18.2 fa fb fn fr] H locs := hw
            subst r
            have hf := sm_e hf
            subst hf
            exact x_retI cx hw rfl () rfl [4, 0, 1, 2, 3] rfl rfl (Nat.le_of_ble_eq_true rfl) (Nat.le_of_ble_eq_true rfl) dX9_copy_61
        · have hf := if_f hf c32
          refine lv_aload_n hx hb dX9_copy_35 rfl (lv_at hl 0 rfl) ?_
          refine lv_iconst (v := 1) hx hb dX9_copy_36 (by decide) ?_
          obtain ⟨q19, hcq19, hf⟩ := op_e hf
          refine x_VI (wr := [((ad 3), .inl (d 0, 8, .inl MA)), ((ad 4), .inl (d 0, 8, .inl LA)), ((ad 5), .inl (d 0, 320, .inl IT)), ((ad 6), .inl (d 0, 40, .inl HE))]) (rest := []) [.int 1] hX cx hw hl.1 (mX9_finds l X hX D d ad fu ft ff fs fa fb fn fr 1 q19 hcq19) (lw_V q1320 q1322 qs36 q94 q1323) hd_X9_finds ⟨Nat.le_of_ble_eq_true rfl, Nat.le_of_ble_eq_true rfl⟩ (va_recv hK hw.1 (ci := 0) (q0 := 0) rfl rfl) rfl rfl (Nat.le_of_ble_eq_true rfl) dX9_copy_37 [0] [1, 2, 3, 4] rfl rfl rfl rfl (by decide) ⟨(Nat.le_of_ble_eq_true rfl), (Nat.le_of_ble_eq_true rfl)⟩ (fun r u H locs hp hw => ?_)
          have hw : Wd D A s [((ad 3), .inl (d 0, 8, .inl MA)), ((ad 4), .inl (d 0, 8, .inl LA)), ((ad 5), .inl (d 0, 320, .inl IT)), ((ad 6), .inl (d 0, 40, .inl HE)), oM ad fu ft ff q19.2 fa fb fn fr] H locs := hw
          subst r
          have hf := sm_e hf
          subst hf
          exact x_retI cx hw rfl () rfl [4, 0, 1, 2, 3] rfl rfl (Nat.le_of_ble_eq_true rfl) (Nat.le_of_ble_eq_true rfl) dX9_copy_40
    · have hf := if_t hf c11
      refine lv_ldc (v := (-1000001)) hx hb hown (hts _ q1319) dX9_copy_14 ?_
      have hf := sm_e hf
      subst hf
      exact x_retI cx hw rfl () rfl [0, 1, 2, 3, 4] rfl rfl (Nat.le_of_ble_eq_true rfl) (Nat.le_of_ble_eq_true rfl) dX9_copy_16
theorem hd_X9_drop : yX9_drop.cls = "DishLiftModel" ∧ yX9_drop.cls ≠ "java/lang/invoke/MethodHandle" ∧ yX9_drop.cls ≠ "java/lang/invoke/VarHandle" ∧ (parseMethodDescriptor yX9_drop.desc).map (fun d => d.parameters.length) = some 1 := by decide +kernel
set_option maxHeartbeats 4000000 in
theorem mX9_drop (l : Launch) (X : XT) (hX : XOK X) (D : va_G) (d : Nat → ClassId) (ad : Nat → Nat) (fu : Int32) (ft : Int32) (ff : Int32) (fs : Int32) (fa : Int32) (fb : Int32) (fn : Int32) (fr : Int32) (MA : Nat → Int32) (p1 : Int32) (res : Int32 × Int32 × (Nat → Int32)) (hf : fX9_drop MA fs p1 = some res) : MetI l yX9_drop (ws_ yX9_drop cX9_drop 3 (some .int)) { frames := 2, cells := 0, slots := 0, locals := 45 } [.ref (ad 0), .int p1] X D d [oM ad fu ft ff fs fa fb fn fr, ((ad 3), .inl (d 0, 8, .inl MA))] (fun r (_ : Unit) => r = res.1) (fun _ => [oM ad fu ft ff res.2.1 fa fb fn fr, ((ad 3), .inl (d 0, 8, .inl res.2.2))]) := by
  refine MetI.of (by decide +kernel) (Nat.le_of_ble_eq_true rfl) ?_
  intro p e s m below meth c A cx hw ls hl
  have cx : Cx p s m _ meth c X D d A "DishLiftModel" cX9_drop 3 (some .int) "drop" := cx
  have cx' := cx
  obtain ⟨hx, hb, hr, hlk, hml, hown, hts, hK, hA, hXs, hnm⟩ := cx'
  have hl : lv_has ls 3 [(0, .ref (ad 0)), (1, .int p1)] := hl
  unfold fX9_drop at hf
  refine lv_iload_n hx hb dX9_drop_0 rfl (lv_at hl 1 rfl) ?_
  obtain ⟨q1, hcq1, hf⟩ := op_e hf
  refine x_SI (wr := [oM ad fu ft ff fs fa fb fn fr, ((ad 3), .inl (d 0, 8, .inl MA))]) (rest := []) [.int p1] hX cx hw hl.1 (mX9_isRow l X hX D d p1 q1 hcq1) (lw_S q1311 q1312 q94 q1313) hd_X9_isRow ⟨Nat.le_of_ble_eq_true rfl, Nat.le_of_ble_eq_true rfl⟩ rfl rfl (Nat.le_of_ble_eq_true rfl) dX9_drop_1 [] [0, 1] rfl rfl rfl rfl (by decide) ⟨(Nat.le_of_ble_eq_true rfl), (Nat.le_of_ble_eq_true rfl)⟩ (fun r u H locs hp hw => ?_)
  have hw : Wd D A s [oM ad fu ft ff fs fa fb fn fr, ((ad 3), .inl (d 0, 8, .inl MA))] H locs := hw
  subst r
  refine lv_if_ne (tgt := 10) hx hb dX9_drop_4 (by decide) (fun c4 => ?_) (fun c4 => ?_)
  · have hf := if_f hf c4
    refine lv_aload_n hx hb dX9_drop_10 rfl (lv_at hl 0 rfl) ?_
    refine va_get (ci := 0) (C := RX9) (T := TX9) (N := 19) hx hb hts in_X9 hown hK hw.1 0 rfl rfl 6 (by decide) (hts _ q1254) (fun _ h9 => h9) rfl dX9_drop_11 ?_
    refine lv_iload_n hx hb dX9_drop_14 rfl (lv_at hl 1 rfl) ?_
    obtain ⟨v2, hv, hf⟩ := op_e hf
    refine x_iald (q0 := 1) cx hw rfl hv dX9_drop_15 ?_
    refine lv_if_ge (tgt := 25) hx hb dX9_drop_16 (by decide) (fun c16 => ?_) (fun c16 => ?_)
    · have hf := if_t hf c16
      refine lv_aload_n hx hb dX9_drop_25 rfl (lv_at hl 0 rfl) ?_
      refine lv_iconst (v := 0) hx hb dX9_drop_26 (by decide) ?_
      refine va_put (ci := 0) (v := .int 0) (ty := .int) (C := RX9) (T := TX9) (N := 19) hx hb hts in_X9 tyX9 tyX9_ok nmX9 hown hK hw.1 hw.2.1 hw.2.2 0 rfl rfl 5 (by decide) (hts _ q1253) (fun _ h9 => h9) rfl (by decide +kernel) rfl rfl (Nat.le_of_ble_eq_true rfl) dX9_drop_27 (fun H locs hP hD hS => ?_)
      have hw : Wd D A s [oM ad fu ft ff 0 fa fb fn fr, ((ad 3), .inl (d 0, 8, .inl MA))] H locs := ⟨hP, hD, hS⟩
      refine lv_aload_n hx hb dX9_drop_30 rfl (lv_at hl 0 rfl) ?_
      refine va_get (ci := 0) (C := RX9) (T := TX9) (N := 19) hx hb hts in_X9 hown hK hw.1 0 rfl rfl 6 (by decide) (hts _ q1254) (fun _ h9 => h9) rfl dX9_drop_31 ?_
      refine lv_iload_n hx hb dX9_drop_34 rfl (lv_at hl 1 rfl) ?_
      obtain ⟨v3, hv, hf⟩ := op_e hf
      refine x_iald (q0 := 1) cx hw rfl hv dX9_drop_35 ?_
      refine lv_istore_n (lv' := [(2, .int v3), (0, .ref (ad 0)), (1, .int p1)]) hx hb dX9_drop_36 rfl hl (by decide) rfl (fun ls hl => ?_)
      refine lv_aload_n hx hb dX9_drop_37 rfl (lv_at hl 1 rfl) ?_
      refine va_get (ci := 0) (C := RX9) (T := TX9) (N := 19) hx hb hts in_X9 hown hK hw.1 0 rfl rfl 6 (by decide) (hts _ q1254) (fun _ h9 => h9) rfl dX9_drop_38 ?_
      refine lv_iload_n hx hb dX9_drop_41 rfl (lv_at hl 2 rfl) ?_
      refine lv_iconst (v := (-1)) hx hb dX9_drop_42 (by decide) ?_
      obtain ⟨w4, hv, hf⟩ := op_e hf
      refine x_iast (q0 := 1) cx hw rfl hv dX9_drop_43 (fun H locs hw => ?_)
      have hw : Wd D A s [oM ad fu ft ff 0 fa fb fn fr, ((ad 3), .inl (d 0, 8, .inl w4))] H locs := hw
      refine lv_iload_n hx hb dX9_drop_44 rfl (lv_at hl 0 rfl) ?_
      have hf := sm_e hf
      subst hf
      exact x_retI cx hw rfl () rfl [0, 1] rfl rfl (Nat.le_of_ble_eq_true rfl) (Nat.le_of_ble_eq_true rfl) dX9_drop_45
    · have hf := if_f hf c16
      refine lv_aload_n hx hb dX9_drop_19 rfl (lv_at hl 0 rfl) ?_
      refine lv_iconst (v := 1) hx hb dX9_drop_20 (by decide) ?_
      obtain ⟨q5, hcq5, hf⟩ := op_e hf
      refine x_VI (wr := [((ad 3), .inl (d 0, 8, .inl MA))]) (rest := []) [.int 1] hX cx hw hl.1 (mX9_finds l X hX D d ad fu ft ff fs fa fb fn fr 1 q5 hcq5) (lw_V q1320 q1322 qs36 q94 q1323) hd_X9_finds ⟨Nat.le_of_ble_eq_true rfl, Nat.le_of_ble_eq_true rfl⟩ (va_recv hK hw.1 (ci := 0) (q0 := 0) rfl rfl) rfl rfl (Nat.le_of_ble_eq_true rfl) dX9_drop_21 [0] [1] rfl rfl rfl rfl (by decide) ⟨(Nat.le_of_ble_eq_true rfl), (Nat.le_of_ble_eq_true rfl)⟩ (fun r u H locs hp hw => ?_)
      have hw : Wd D A s [((ad 3), .inl (d 0, 8, .inl MA)), oM ad fu ft ff q5.2 fa fb fn fr] H locs := hw
      subst r
      have hf := sm_e hf
      subst hf
      exact x_retI cx hw rfl () rfl [1, 0] rfl rfl (Nat.le_of_ble_eq_true rfl) (Nat.le_of_ble_eq_true rfl) dX9_drop_24
  · have hf := if_t hf c4
    refine lv_ldc (v := (-1000001)) hx hb hown (hts _ q1319) dX9_drop_7 ?_
    have hf := sm_e hf
    subst hf
    exact x_retI cx hw rfl () rfl [0, 1] rfl rfl (Nat.le_of_ble_eq_true rfl) (Nat.le_of_ble_eq_true rfl) dX9_drop_9
theorem hd_X9_feed : yX9_feed.cls = "DishLiftModel" ∧ yX9_feed.cls ≠ "java/lang/invoke/MethodHandle" ∧ yX9_feed.cls ≠ "java/lang/invoke/VarHandle" ∧ (parseMethodDescriptor yX9_feed.desc).map (fun d => d.parameters.length) = some 1 := by decide +kernel
set_option maxHeartbeats 4000000 in
theorem mX9_feed (l : Launch) (X : XT) (hX : XOK X) (D : va_G) (d : Nat → ClassId) (ad : Nat → Nat) (fu : Int32) (ft : Int32) (ff : Int32) (fs : Int32) (fa : Int32) (fb : Int32) (fn : Int32) (fr : Int32) (TP : Nat → Int32) (p1 : Int32) (res : Int32 × Int32 × (Nat → Int32)) (hf : fX9_feed TP ft p1 = some res) : MetI l yX9_feed (ws_ yX9_feed cX9_feed 2 (some .int)) { frames := 1, cells := 0, slots := 0, locals := 25 } [.ref (ad 0), .int p1] X D d [oM ad fu ft ff fs fa fb fn fr, ((ad 2), .inl (d 0, 110, .inl TP))] (fun r (_ : Unit) => r = res.1) (fun _ => [oM ad fu res.2.1 ff fs fa fb fn fr, ((ad 2), .inl (d 0, 110, .inl res.2.2))]) := by
  refine MetI.of (by decide +kernel) (Nat.le_of_ble_eq_true rfl) ?_
  intro p e s m below meth c A cx hw ls hl
  have cx : Cx p s m _ meth c X D d A "DishLiftModel" cX9_feed 2 (some .int) "feed" := cx
  have cx' := cx
  obtain ⟨hx, hb, hr, hlk, hml, hown, hts, hK, hA, hXs, hnm⟩ := cx'
  have hl : lv_has ls 2 [(0, .ref (ad 0)), (1, .int p1)] := hl
  unfold fX9_feed at hf
  refine lv_iload_n hx hb dX9_feed_0 rfl (lv_at hl 1 rfl) ?_
  refine lv_i2l (v := p1.toInt64) hx hb dX9_feed_1 rfl ?_
  refine lv_lconst (v := 0) hx hb dX9_feed_2 (by decide) ?_
  refine lv_ldc2 (v := 255) hx hb hown (hts _ q1345) dX9_feed_3 ?_
  obtain ⟨q1, hcq1, hf⟩ := op_e hf
  refine x_SI (wr := [oM ad fu ft ff fs fa fb fn fr, ((ad 2), .inl (d 0, 110, .inl TP))]) (rest := []) [.long p1.toInt64, .long 0, .long 255] hX cx hw hl.1 (mX9_in l X hX D d p1.toInt64 0 255 q1 hcq1) (lw_S q1315 q1316 q94 q1317) hd_X9_in ⟨Nat.le_of_ble_eq_true rfl, Nat.le_of_ble_eq_true rfl⟩ rfl rfl (Nat.le_of_ble_eq_true rfl) dX9_feed_6 [] [0, 1] rfl rfl rfl rfl (by decide) ⟨(Nat.le_of_ble_eq_true rfl), (Nat.le_of_ble_eq_true rfl)⟩ (fun r u H locs hp hw => ?_)
  have hw : Wd D A s [oM ad fu ft ff fs fa fb fn fr, ((ad 2), .inl (d 0, 110, .inl TP))] H locs := hw
  subst r
  refine lv_if_ne (tgt := 15) hx hb dX9_feed_9 (by decide) (fun c9 => ?_) (fun c9 => ?_)
  · have hf := if_f hf c9
    refine lv_aload_n hx hb dX9_feed_15 rfl (lv_at hl 0 rfl) ?_
    refine va_get (ci := 0) (C := RX9) (T := TX9) (N := 19) hx hb hts in_X9 hown hK hw.1 0 rfl rfl 3 (by decide) (hts _ q1251) (fun _ h9 => h9) rfl dX9_feed_16 ?_
    refine lv_bipush (v := 110) hx hb dX9_feed_19 (by decide) ?_
    refine lv_icmp_ne (tgt := 27) hx hb dX9_feed_21 (by decide) (fun c21 => ?_) (fun c21 => ?_)
    · have hf := if_f hf c21
      refine lv_aload_n hx hb dX9_feed_27 rfl (lv_at hl 0 rfl) ?_
      refine va_get (ci := 0) (C := RX9) (T := TX9) (N := 19) hx hb hts in_X9 hown hK hw.1 0 rfl rfl 2 (by decide) (hts _ q1250) (fun _ h9 => h9) rfl dX9_feed_28 ?_
      refine lv_aload_n hx hb dX9_feed_31 rfl (lv_at hl 0 rfl) ?_
      refine va_get (ci := 0) (C := RX9) (T := TX9) (N := 19) hx hb hts in_X9 hown hK hw.1 0 rfl rfl 3 (by decide) (hts _ q1251) (fun _ h9 => h9) rfl dX9_feed_32 ?_
      refine lv_iload_n hx hb dX9_feed_35 rfl (lv_at hl 1 rfl) ?_
      obtain ⟨w2, hv, hf⟩ := op_e hf
      refine x_iast (q0 := 1) cx hw rfl hv dX9_feed_36 (fun H locs hw => ?_)
      have hw : Wd D A s [oM ad fu ft ff fs fa fb fn fr, ((ad 2), .inl (d 0, 110, .inl w2))] H locs := hw
      refine lv_aload_n hx hb dX9_feed_37 rfl (lv_at hl 0 rfl) ?_
      refine lv_dup hx hb dX9_feed_38 rfl ?_
      refine va_get (ci := 0) (C := RX9) (T := TX9) (N := 19) hx hb hts in_X9 hown hK hw.1 0 rfl rfl 3 (by decide) (hts _ q1251) (fun _ h9 => h9) rfl dX9_feed_39 ?_
      refine lv_iconst (v := 1) hx hb dX9_feed_42 (by decide) ?_
      refine lv_iadd hx hb dX9_feed_43 ?_
      refine va_put (ci := 0) (v := .int (ft + 1)) (ty := .int) (C := RX9) (T := TX9) (N := 19) hx hb hts in_X9 tyX9 tyX9_ok nmX9 hown hK hw.1 hw.2.1 hw.2.2 0 rfl rfl 3 (by decide) (hts _ q1251) (fun _ h9 => h9) rfl (by decide +kernel) rfl rfl (Nat.le_of_ble_eq_true rfl) dX9_feed_44 (fun H locs hP hD hS => ?_)
      have hw : Wd D A s [oM ad fu (ft + 1) ff fs fa fb fn fr, ((ad 2), .inl (d 0, 110, .inl w2))] H locs := ⟨hP, hD, hS⟩
      refine lv_aload_n hx hb dX9_feed_47 rfl (lv_at hl 0 rfl) ?_
      refine va_get (ci := 0) (C := RX9) (T := TX9) (N := 19) hx hb hts in_X9 hown hK hw.1 0 rfl rfl 3 (by decide) (hts _ q1251) (fun _ h9 => h9) rfl dX9_feed_48 ?_
      have hf := sm_e hf
      subst hf
      exact x_retI cx hw rfl () rfl [0, 1] rfl rfl (Nat.le_of_ble_eq_true rfl) (Nat.le_of_ble_eq_true rfl) dX9_feed_51
    · have hf := if_t hf c21
      refine lv_ldc (v := (-1000003)) hx hb hown (hts _ q1346) dX9_feed_24 ?_
      have hf := sm_e hf
      subst hf
      exact x_retI cx hw rfl () rfl [0, 1] rfl rfl (Nat.le_of_ble_eq_true rfl) (Nat.le_of_ble_eq_true rfl) dX9_feed_26
  · have hf := if_t hf c9
    refine lv_ldc (v := (-1000001)) hx hb hown (hts _ q1319) dX9_feed_12 ?_
    have hf := sm_e hf
    subst hf
    exact x_retI cx hw rfl () rfl [0, 1] rfl rfl (Nat.le_of_ble_eq_true rfl) (Nat.le_of_ble_eq_true rfl) dX9_feed_14
theorem hd_X9_here : yX9_here.cls = "DishLiftModel" ∧ yX9_here.cls ≠ "java/lang/invoke/MethodHandle" ∧ yX9_here.cls ≠ "java/lang/invoke/VarHandle" ∧ (parseMethodDescriptor yX9_here.desc).map (fun d => d.parameters.length) = some 0 := by decide +kernel
set_option maxHeartbeats 4000000 in
theorem mX9_here (l : Launch) (X : XT) (hX : XOK X) (D : va_G) (d : Nat → ClassId) (ad : Nat → Nat) (fu : Int32) (ft : Int32) (ff : Int32) (fs : Int32) (fa : Int32) (fb : Int32) (fn : Int32) (fr : Int32) (TP : Nat → Int32) (res : Int32) (hf : fX9_here TP ft fa = some res) : MetI l yX9_here (ws_ yX9_here cX9_here 1 (some .int)) { frames := 0, cells := 0, slots := 0, locals := 0 } [.ref (ad 0)] X D d [oM ad fu ft ff fs fa fb fn fr, ((ad 2), .inl (d 0, 110, .inl TP))] (fun r (_ : Unit) => r = res) (fun _ => [oM ad fu ft ff fs fa fb fn fr, ((ad 2), .inl (d 0, 110, .inl TP))]) := by
  refine MetI.of (by decide +kernel) (Nat.le_of_ble_eq_true rfl) ?_
  intro p e s m below meth c A cx hw ls hl
  have cx : Cx p s m _ meth c X D d A "DishLiftModel" cX9_here 1 (some .int) "here" := cx
  have cx' := cx
  obtain ⟨hx, hb, hr, hlk, hml, hown, hts, hK, hA, hXs, hnm⟩ := cx'
  have hl : lv_has ls 1 [(0, .ref (ad 0))] := hl
  unfold fX9_here at hf
  refine lv_aload_n hx hb dX9_here_0 rfl (lv_at hl 0 rfl) ?_
  refine va_get (ci := 0) (C := RX9) (T := TX9) (N := 19) hx hb hts in_X9 hown hK hw.1 0 rfl rfl 10 (by decide) (hts _ q1258) (fun _ h9 => h9) rfl dX9_here_1 ?_
  refine lv_aload_n hx hb dX9_here_4 rfl (lv_at hl 0 rfl) ?_
  refine va_get (ci := 0) (C := RX9) (T := TX9) (N := 19) hx hb hts in_X9 hown hK hw.1 0 rfl rfl 3 (by decide) (hts _ q1251) (fun _ h9 => h9) rfl dX9_here_5 ?_
  refine lv_icmp_ge (tgt := 23) hx hb dX9_here_8 (by decide) (fun c8 => ?_) (fun c8 => ?_)
  · have hf := if_t hf c8
    refine lv_iconst (v := (-1)) hx hb dX9_here_23 (by decide) ?_
    have hf := sm_e hf
    subst hf
    exact x_retI cx hw rfl () rfl [0, 1] rfl rfl (Nat.le_of_ble_eq_true rfl) (Nat.le_of_ble_eq_true rfl) dX9_here_24
  · have hf := if_f hf c8
    refine lv_aload_n hx hb dX9_here_11 rfl (lv_at hl 0 rfl) ?_
    refine va_get (ci := 0) (C := RX9) (T := TX9) (N := 19) hx hb hts in_X9 hown hK hw.1 0 rfl rfl 2 (by decide) (hts _ q1250) (fun _ h9 => h9) rfl dX9_here_12 ?_
    refine lv_aload_n hx hb dX9_here_15 rfl (lv_at hl 0 rfl) ?_
    refine va_get (ci := 0) (C := RX9) (T := TX9) (N := 19) hx hb hts in_X9 hown hK hw.1 0 rfl rfl 10 (by decide) (hts _ q1258) (fun _ h9 => h9) rfl dX9_here_16 ?_
    obtain ⟨v1, hv, hf⟩ := op_e hf
    refine x_iald (q0 := 1) cx hw rfl hv dX9_here_19 ?_
    refine lv_goto (tgt := 24) hx hb dX9_here_20 (by decide) ?_
    have hf := sm_e hf
    subst hf
    exact x_retI cx hw rfl () rfl [0, 1] rfl rfl (Nat.le_of_ble_eq_true rfl) (Nat.le_of_ble_eq_true rfl) dX9_here_24
theorem hd_X9_fails : yX9_fails.cls = "DishLiftModel" ∧ yX9_fails.cls ≠ "java/lang/invoke/MethodHandle" ∧ yX9_fails.cls ≠ "java/lang/invoke/VarHandle" ∧ (parseMethodDescriptor yX9_fails.desc).map (fun d => d.parameters.length) = some 2 := by decide +kernel
set_option maxHeartbeats 4000000 in
theorem mX9_fails (l : Launch) (X : XT) (hX : XOK X) (D : va_G) (d : Nat → ClassId) (ad : Nat → Nat) (fu : Int32) (ft : Int32) (ff : Int32) (fs : Int32) (fa : Int32) (fb : Int32) (fn : Int32) (fr : Int32) (p1 : Int32) (p2 : Int32) (res : Int32 × Int32 × Int32) (hf : fX9_fails p1 p2 = some res) : MetI l yX9_fails (ws_ yX9_fails cX9_fails 3 (some .boolean)) { frames := 0, cells := 0, slots := 0, locals := 0 } [.ref (ad 0), .int p1, .int p2] X D d [oM ad fu ft ff fs fa fb fn fr] (fun r (_ : Unit) => r = res.1) (fun _ => [oM ad fu ft res.2.1 fs fa res.2.2 fn fr]) := by
  refine MetI.of (by decide +kernel) (Nat.le_of_ble_eq_true rfl) ?_
  intro p e s m below meth c A cx hw ls hl
  have cx : Cx p s m _ meth c X D d A "DishLiftModel" cX9_fails 3 (some .boolean) "fails" := cx
  have cx' := cx
  obtain ⟨hx, hb, hr, hlk, hml, hown, hts, hK, hA, hXs, hnm⟩ := cx'
  have hl : lv_has ls 3 [(0, .ref (ad 0)), (1, .int p1), (2, .int p2)] := hl
  unfold fX9_fails at hf
  refine lv_aload_n hx hb dX9_fails_0 rfl (lv_at hl 0 rfl) ?_
  refine lv_iload_n hx hb dX9_fails_1 rfl (lv_at hl 1 rfl) ?_
  refine va_put (ci := 0) (v := .int p1) (ty := .int) (C := RX9) (T := TX9) (N := 19) hx hb hts in_X9 tyX9 tyX9_ok nmX9 hown hK hw.1 hw.2.1 hw.2.2 0 rfl rfl 4 (by decide) (hts _ q1252) (fun _ h9 => h9) rfl (by decide +kernel) rfl rfl (Nat.le_of_ble_eq_true rfl) dX9_fails_2 (fun H locs hP hD hS => ?_)
  have hw : Wd D A s [oM ad fu ft p1 fs fa fb fn fr] H locs := ⟨hP, hD, hS⟩
  refine lv_aload_n hx hb dX9_fails_5 rfl (lv_at hl 0 rfl) ?_
  refine lv_iload_n hx hb dX9_fails_6 rfl (lv_at hl 2 rfl) ?_
  refine va_put (ci := 0) (v := .int p2) (ty := .int) (C := RX9) (T := TX9) (N := 19) hx hb hts in_X9 tyX9 tyX9_ok nmX9 hown hK hw.1 hw.2.1 hw.2.2 0 rfl rfl 11 (by decide) (hts _ q1259) (fun _ h9 => h9) rfl (by decide +kernel) rfl rfl (Nat.le_of_ble_eq_true rfl) dX9_fails_7 (fun H locs hP hD hS => ?_)
  have hw : Wd D A s [oM ad fu ft p1 fs fa p2 fn fr] H locs := ⟨hP, hD, hS⟩
  refine lv_iconst (v := 0) hx hb dX9_fails_10 (by decide) ?_
  have hf := sm_e hf
  subst hf
  exact x_retI cx hw rfl () rfl [0] rfl rfl (Nat.le_of_ble_eq_true rfl) (Nat.le_of_ble_eq_true rfl) dX9_fails_11
theorem hd_X9_takes : yX9_takes.cls = "DishLiftModel" ∧ yX9_takes.cls ≠ "java/lang/invoke/MethodHandle" ∧ yX9_takes.cls ≠ "java/lang/invoke/VarHandle" ∧ (parseMethodDescriptor yX9_takes.desc).map (fun d => d.parameters.length) = some 1 := by decide +kernel
set_option maxHeartbeats 4000000 in
theorem mX9_takes (l : Launch) (X : XT) (hX : XOK X) (D : va_G) (d : Nat → ClassId) (ad : Nat → Nat) (fu : Int32) (ft : Int32) (ff : Int32) (fs : Int32) (fa : Int32) (fb : Int32) (fn : Int32) (fr : Int32) (TP : Nat → Int32) (p1 : Int32) (res : Int32 × Int32 × Int32 × Int32) (hf : fX9_takes TP ft ff fa fb p1 = some res) : MetI l yX9_takes (ws_ yX9_takes cX9_takes 2 (some .boolean)) { frames := 1, cells := 0, slots := 0, locals := 22 } [.ref (ad 0), .int p1] X D d [oM ad fu ft ff fs fa fb fn fr, ((ad 2), .inl (d 0, 110, .inl TP))] (fun r (_ : Unit) => r = res.1) (fun _ => [oM ad fu ft res.2.1 fs res.2.2.1 res.2.2.2 fn fr, ((ad 2), .inl (d 0, 110, .inl TP))]) := by
  refine MetI.of (by decide +kernel) (Nat.le_of_ble_eq_true rfl) ?_
  intro p e s m below meth c A cx hw ls hl
  have cx : Cx p s m _ meth c X D d A "DishLiftModel" cX9_takes 2 (some .boolean) "takes" := cx
  have cx' := cx
  obtain ⟨hx, hb, hr, hlk, hml, hown, hts, hK, hA, hXs, hnm⟩ := cx'
  have hl : lv_has ls 2 [(0, .ref (ad 0)), (1, .int p1)] := hl
  unfold fX9_takes at hf
  refine lv_aload_n hx hb dX9_takes_0 rfl (lv_at hl 0 rfl) ?_
  obtain ⟨q1, hcq1, hf⟩ := op_e hf
  refine x_VI (wr := []) (rest := []) [] hX cx hw hl.1 (mX9_here l X hX D d ad fu ft ff fs fa fb fn fr TP q1 hcq1) (lw_V q1363 q1365 qs41 q94 q1366) hd_X9_here ⟨Nat.le_of_ble_eq_true rfl, Nat.le_of_ble_eq_true rfl⟩ (va_recv hK hw.1 (ci := 0) (q0 := 0) rfl rfl) rfl rfl (Nat.le_of_ble_eq_true rfl) dX9_takes_1 [0, 1] [] rfl rfl rfl rfl (by decide) ⟨(Nat.le_of_ble_eq_true rfl), (Nat.le_of_ble_eq_true rfl)⟩ (fun r u H locs hp hw => ?_)
  have hw : Wd D A s [oM ad fu ft ff fs fa fb fn fr, ((ad 2), .inl (d 0, 110, .inl TP))] H locs := hw
  subst r
  refine lv_iload_n hx hb dX9_takes_4 rfl (lv_at hl 1 rfl) ?_
  refine lv_icmp_eq (tgt := 18) hx hb dX9_takes_5 (by decide) (fun c5 => ?_) (fun c5 => ?_)
  · have hf := if_t hf c5
    refine lv_aload_n hx hb dX9_takes_18 rfl (lv_at hl 0 rfl) ?_
    refine lv_dup hx hb dX9_takes_19 rfl ?_
    refine va_get (ci := 0) (C := RX9) (T := TX9) (N := 19) hx hb hts in_X9 hown hK hw.1 0 rfl rfl 10 (by decide) (hts _ q1258) (fun _ h9 => h9) rfl dX9_takes_20 ?_
    refine lv_iconst (v := 1) hx hb dX9_takes_23 (by decide) ?_
    refine lv_iadd hx hb dX9_takes_24 ?_
    refine va_put (ci := 0) (v := .int (fa + 1)) (ty := .int) (C := RX9) (T := TX9) (N := 19) hx hb hts in_X9 tyX9 tyX9_ok nmX9 hown hK hw.1 hw.2.1 hw.2.2 0 rfl rfl 10 (by decide) (hts _ q1258) (fun _ h9 => h9) rfl (by decide +kernel) rfl rfl (Nat.le_of_ble_eq_true rfl) dX9_takes_25 (fun H locs hP hD hS => ?_)
    have hw : Wd D A s [oM ad fu ft ff fs (fa + 1) fb fn fr, ((ad 2), .inl (d 0, 110, .inl TP))] H locs := ⟨hP, hD, hS⟩
    refine lv_iconst (v := 1) hx hb dX9_takes_28 (by decide) ?_
    have hf := sm_e hf
    subst hf
    exact x_retI cx hw rfl () rfl [0, 1] rfl rfl (Nat.le_of_ble_eq_true rfl) (Nat.le_of_ble_eq_true rfl) dX9_takes_29
  · have hf := if_f hf c5
    refine lv_aload_n hx hb dX9_takes_8 rfl (lv_at hl 0 rfl) ?_
    refine lv_iconst (v := 1) hx hb dX9_takes_9 (by decide) ?_
    refine lv_aload_n hx hb dX9_takes_10 rfl (lv_at hl 0 rfl) ?_
    refine va_get (ci := 0) (C := RX9) (T := TX9) (N := 19) hx hb hts in_X9 hown hK hw.1 0 rfl rfl 10 (by decide) (hts _ q1258) (fun _ h9 => h9) rfl dX9_takes_11 ?_
    obtain ⟨q2, hcq2, hf⟩ := op_e hf
    refine x_VI (wr := [((ad 2), .inl (d 0, 110, .inl TP))]) (rest := []) [.int 1, .int fa] hX cx hw hl.1 (mX9_fails l X hX D d ad fu ft ff fs fa fb fn fr 1 fa q2 hcq2) (lw_V q1367 q1369 qs42 q94 q1370) hd_X9_fails ⟨Nat.le_of_ble_eq_true rfl, Nat.le_of_ble_eq_true rfl⟩ (va_recv hK hw.1 (ci := 0) (q0 := 0) rfl rfl) rfl rfl (Nat.le_of_ble_eq_true rfl) dX9_takes_14 [0] [1] rfl rfl rfl rfl (by decide) ⟨(Nat.le_of_ble_eq_true rfl), (Nat.le_of_ble_eq_true rfl)⟩ (fun r u H locs hp hw => ?_)
    have hw : Wd D A s [((ad 2), .inl (d 0, 110, .inl TP)), oM ad fu ft q2.2.1 fs fa q2.2.2 fn fr] H locs := hw
    subst r
    obtain ⟨g3, hgb, hf⟩ := op_e hf
    have hf := sm_e hf
    subst hf
    exact x_retI cx hw (gb_spec hgb) () rfl [1, 0] rfl rfl (Nat.le_of_ble_eq_true rfl) (Nat.le_of_ble_eq_true rfl) dX9_takes_17
theorem hd_X9_takesNumber : yX9_takesNumber.cls = "DishLiftModel" ∧ yX9_takesNumber.cls ≠ "java/lang/invoke/MethodHandle" ∧ yX9_takesNumber.cls ≠ "java/lang/invoke/VarHandle" ∧ (parseMethodDescriptor yX9_takesNumber.desc).map (fun d => d.parameters.length) = some 2 := by decide +kernel
set_option maxHeartbeats 4000000 in
theorem mX9_takesNumber (l : Launch) (X : XT) (hX : XOK X) (D : va_G) (d : Nat → ClassId) (ad : Nat → Nat) (fu : Int32) (ft : Int32) (ff : Int32) (fs : Int32) (fa : Int32) (fb : Int32) (fn : Int32) (fr : Int32) (TP : Nat → Int32) (p1 : Int32) (p2 : Int32) (res : Int32 × Int32 × Int32 × Int32 × Int32) (hf : fX9_takesNumber TP ft ff fa fb p1 p2 = some res) : MetI l yX9_takesNumber (ws_ yX9_takesNumber cX9_takesNumber 4 (some .boolean)) { frames := 1, cells := 0, slots := 0, locals := 25 } [.ref (ad 0), .int p1, .int p2] X D d [oM ad fu ft ff fs fa fb fn fr, ((ad 2), .inl (d 0, 110, .inl TP))] (fun r (_ : Unit) => r = res.1) (fun _ => [oM ad fu ft res.2.1 fs res.2.2.1 res.2.2.2.1 res.2.2.2.2 fr, ((ad 2), .inl (d 0, 110, .inl TP))]) := by
  refine MetI.of (by decide +kernel) (Nat.le_of_ble_eq_true rfl) ?_
  intro p e s m below meth c A cx hw ls hl
  have cx : Cx p s m _ meth c X D d A "DishLiftModel" cX9_takesNumber 4 (some .boolean) "takesNumber" := cx
  have cx' := cx
  obtain ⟨hx, hb, hr, hlk, hml, hown, hts, hK, hA, hXs, hnm⟩ := cx'
  have hl : lv_has ls 4 [(0, .ref (ad 0)), (1, .int p1), (2, .int p2)] := hl
  unfold fX9_takesNumber at hf
  refine lv_aload_n hx hb dX9_takesNumber_0 rfl (lv_at hl 0 rfl) ?_
  refine va_get (ci := 0) (C := RX9) (T := TX9) (N := 19) hx hb hts in_X9 hown hK hw.1 0 rfl rfl 10 (by decide) (hts _ q1258) (fun _ h9 => h9) rfl dX9_takesNumber_1 ?_
  refine lv_istore_n (lv' := [(3, .int fa), (0, .ref (ad 0)), (1, .int p1), (2, .int p2)]) hx hb dX9_takesNumber_4 rfl hl (by decide) rfl (fun ls hl => ?_)
  refine lv_aload_n hx hb dX9_takesNumber_5 rfl (lv_at hl 1 rfl) ?_
  refine lv_iconst (v := 0) hx hb dX9_takesNumber_6 (by decide) ?_
  refine va_put (ci := 0) (v := .int 0) (ty := .int) (C := RX9) (T := TX9) (N := 19) hx hb hts in_X9 tyX9 tyX9_ok nmX9 hown hK hw.1 hw.2.1 hw.2.2 0 rfl rfl 12 (by decide) (hts _ q1260) (fun _ h9 => h9) rfl (by decide +kernel) rfl rfl (Nat.le_of_ble_eq_true rfl) dX9_takesNumber_7 (fun H locs hP hD hS => ?_)
  have hw : Wd D A s [oM ad fu ft ff fs fa fb 0 fr, ((ad 2), .inl (d 0, 110, .inl TP))] H locs := ⟨hP, hD, hS⟩
  obtain ⟨r1, hlp10, hf⟩ := op_e hf
  refine x_join (A := A) (D := D) (J := 76) (nL := 4) (cells' := 0) (slots' := 0) (st := []) [oM ad fu ft ff fs r1.1 fb r1.2 fr, ((ad 2), .inl (d 0, 110, .inl TP))] [(0, .ref (ad 0)), (1, .int p1), (2, .int p2), (3, .int fa)] (fun H locs ls hw hl => ?_) (fun hK10 => ?_)
  · refine lv_aload_n hx hb dX9_takesNumber_76 rfl (lv_at hl 0 rfl) ?_
    refine va_get (ci := 0) (C := RX9) (T := TX9) (N := 19) hx hb hts in_X9 hown hK hw.1 0 rfl rfl 10 (by decide) (hts _ q1258) (fun _ h9 => h9) rfl dX9_takesNumber_77 ?_
    refine lv_iload_n hx hb dX9_takesNumber_80 rfl (lv_at hl 3 rfl) ?_
    refine lv_isub hx hb dX9_takesNumber_81 ?_
    refine lv_i2l (v := (r1.1 - fa).toInt64) hx hb dX9_takesNumber_82 rfl ?_
    refine lv_lconst (v := 1) hx hb dX9_takesNumber_83 (by decide) ?_
    refine lv_ldc2 (v := 2) hx hb hown (hts _ q1318) dX9_takesNumber_84 ?_
    obtain ⟨q2, hcq2, hf⟩ := op_e hf
    refine x_SI (wr := [oM ad fu ft ff fs r1.1 fb r1.2 fr, ((ad 2), .inl (d 0, 110, .inl TP))]) (rest := []) [.long (r1.1 - fa).toInt64, .long 1, .long 2] hX cx hw hl.1 (mX9_in l X hX D d ((r1.1 - fa).toInt64) 1 2 q2 hcq2) (lw_S q1315 q1316 q94 q1317) hd_X9_in ⟨Nat.le_of_ble_eq_true rfl, Nat.le_of_ble_eq_true rfl⟩ rfl rfl (Nat.le_of_ble_eq_true rfl) dX9_takesNumber_87 [] [0, 1] rfl rfl rfl rfl (by decide) ⟨(Nat.le_of_ble_eq_true rfl), (Nat.le_of_ble_eq_true rfl)⟩ (fun r u H locs hp hw => ?_)
    have hw : Wd D A s [oM ad fu ft ff fs r1.1 fb r1.2 fr, ((ad 2), .inl (d 0, 110, .inl TP))] H locs := hw
    subst r
    refine lv_if_ne (tgt := 100) hx hb dX9_takesNumber_90 (by decide) (fun c90 => ?_) (fun c90 => ?_)
    · have hf := if_f hf c90
      refine lv_aload_n hx hb dX9_takesNumber_100 rfl (lv_at hl 0 rfl) ?_
      refine va_get (ci := 0) (C := RX9) (T := TX9) (N := 19) hx hb hts in_X9 hown hK hw.1 0 rfl rfl 12 (by decide) (hts _ q1260) (fun _ h9 => h9) rfl dX9_takesNumber_101 ?_
      refine lv_i2l (v := r1.2.toInt64) hx hb dX9_takesNumber_104 rfl ?_
      refine lv_iload_n hx hb dX9_takesNumber_105 rfl (lv_at hl 1 rfl) ?_
      refine lv_i2l (v := p1.toInt64) hx hb dX9_takesNumber_106 rfl ?_
      refine lv_iload_n hx hb dX9_takesNumber_107 rfl (lv_at hl 2 rfl) ?_
      refine lv_i2l (v := p2.toInt64) hx hb dX9_takesNumber_108 rfl ?_
      obtain ⟨q5, hcq5, hf⟩ := op_e hf
      refine x_SI (wr := [oM ad fu ft ff fs r1.1 fb r1.2 fr, ((ad 2), .inl (d 0, 110, .inl TP))]) (rest := []) [.long r1.2.toInt64, .long p1.toInt64, .long p2.toInt64] hX cx hw hl.1 (mX9_in l X hX D d r1.2.toInt64 p1.toInt64 p2.toInt64 q5 hcq5) (lw_S q1315 q1316 q94 q1317) hd_X9_in ⟨Nat.le_of_ble_eq_true rfl, Nat.le_of_ble_eq_true rfl⟩ rfl rfl (Nat.le_of_ble_eq_true rfl) dX9_takesNumber_109 [] [0, 1] rfl rfl rfl rfl (by decide) ⟨(Nat.le_of_ble_eq_true rfl), (Nat.le_of_ble_eq_true rfl)⟩ (fun r u H locs hp hw => ?_)
      have hw : Wd D A s [oM ad fu ft ff fs r1.1 fb r1.2 fr, ((ad 2), .inl (d 0, 110, .inl TP))] H locs := hw
      subst r
      refine lv_if_ne (tgt := 122) hx hb dX9_takesNumber_112 (by decide) (fun c112 => ?_) (fun c112 => ?_)
      · have hf := if_f hf c112
        refine lv_iconst (v := 1) hx hb dX9_takesNumber_122 (by decide) ?_
        have hf := sm_e hf
        subst hf
        exact x_retI cx hw rfl () rfl [0, 1] rfl rfl (Nat.le_of_ble_eq_true rfl) (Nat.le_of_ble_eq_true rfl) dX9_takesNumber_123
      · have hf := if_t hf c112
        refine lv_aload_n hx hb dX9_takesNumber_115 rfl (lv_at hl 0 rfl) ?_
        refine lv_iconst (v := 2) hx hb dX9_takesNumber_116 (by decide) ?_
        refine lv_iload_n hx hb dX9_takesNumber_117 rfl (lv_at hl 3 rfl) ?_
        obtain ⟨q6, hcq6, hf⟩ := op_e hf
        refine x_VI (wr := [((ad 2), .inl (d 0, 110, .inl TP))]) (rest := []) [.int 2, .int fa] hX cx hw hl.1 (mX9_fails l X hX D d ad fu ft ff fs r1.1 fb r1.2 fr 2 fa q6 hcq6) (lw_V q1367 q1369 qs42 q94 q1370) hd_X9_fails ⟨Nat.le_of_ble_eq_true rfl, Nat.le_of_ble_eq_true rfl⟩ (va_recv hK hw.1 (ci := 0) (q0 := 0) rfl rfl) rfl rfl (Nat.le_of_ble_eq_true rfl) dX9_takesNumber_118 [0] [1] rfl rfl rfl rfl (by decide) ⟨(Nat.le_of_ble_eq_true rfl), (Nat.le_of_ble_eq_true rfl)⟩ (fun r u H locs hp hw => ?_)
        have hw : Wd D A s [((ad 2), .inl (d 0, 110, .inl TP)), oM ad fu ft q6.2.1 fs r1.1 q6.2.2 r1.2 fr] H locs := hw
        subst r
        obtain ⟨g7, hgb, hf⟩ := op_e hf
        have hf := sm_e hf
        subst hf
        exact x_retI cx hw (gb_spec hgb) () rfl [1, 0] rfl rfl (Nat.le_of_ble_eq_true rfl) (Nat.le_of_ble_eq_true rfl) dX9_takesNumber_121
    · have hf := if_t hf c90
      refine lv_aload_n hx hb dX9_takesNumber_93 rfl (lv_at hl 0 rfl) ?_
      refine lv_iconst (v := 1) hx hb dX9_takesNumber_94 (by decide) ?_
      refine lv_iload_n hx hb dX9_takesNumber_95 rfl (lv_at hl 3 rfl) ?_
      obtain ⟨q3, hcq3, hf⟩ := op_e hf
      refine x_VI (wr := [((ad 2), .inl (d 0, 110, .inl TP))]) (rest := []) [.int 1, .int fa] hX cx hw hl.1 (mX9_fails l X hX D d ad fu ft ff fs r1.1 fb r1.2 fr 1 fa q3 hcq3) (lw_V q1367 q1369 qs42 q94 q1370) hd_X9_fails ⟨Nat.le_of_ble_eq_true rfl, Nat.le_of_ble_eq_true rfl⟩ (va_recv hK hw.1 (ci := 0) (q0 := 0) rfl rfl) rfl rfl (Nat.le_of_ble_eq_true rfl) dX9_takesNumber_96 [0] [1] rfl rfl rfl rfl (by decide) ⟨(Nat.le_of_ble_eq_true rfl), (Nat.le_of_ble_eq_true rfl)⟩ (fun r u H locs hp hw => ?_)
      have hw : Wd D A s [((ad 2), .inl (d 0, 110, .inl TP)), oM ad fu ft q3.2.1 fs r1.1 q3.2.2 r1.2 fr] H locs := hw
      subst r
      obtain ⟨g4, hgb, hf⟩ := op_e hf
      have hf := sm_e hf
      subst hf
      exact x_retI cx hw (gb_spec hgb) () rfl [1, 0] rfl rfl (Nat.le_of_ble_eq_true rfl) (Nat.le_of_ble_eq_true rfl) dX9_takesNumber_99
  · refine x_lp hlp10 (fun x10 => [oM ad fu ft ff fs x10.1 fb x10.2 fr, ((ad 2), .inl (d 0, 110, .inl TP))]) (fun x10 => [(0, .ref (ad 0)), (1, .int p1), (2, .int p2), (3, .int fa)]) hw (lv_sub hl [1, 2, 3, 0] rfl) (fun x10 y10 hf hin10 hout10 H locs ls hw hl => ?_)
    have hw : Wd D A s [oM ad fu ft ff fs x10.1 fb x10.2 fr, ((ad 2), .inl (d 0, 110, .inl TP))] H locs := hw
    have hl : lv_has ls 4 [(0, .ref (ad 0)), (1, .int p1), (2, .int p2), (3, .int fa)] := hl
    refine lv_aload_n hx hb dX9_takesNumber_10 rfl (lv_at hl 0 rfl) ?_
    obtain ⟨q8, hcq8, hf⟩ := op_e hf
    refine x_VI (wr := []) (rest := []) [] hX cx hw hl.1 (mX9_here l X hX D d ad fu ft ff fs x10.1 fb x10.2 fr TP q8 hcq8) (lw_V q1363 q1365 qs41 q94 q1366) hd_X9_here ⟨Nat.le_of_ble_eq_true rfl, Nat.le_of_ble_eq_true rfl⟩ (va_recv hK hw.1 (ci := 0) (q0 := 0) rfl rfl) rfl rfl (Nat.le_of_ble_eq_true rfl) dX9_takesNumber_11 [0, 1] [] rfl rfl rfl rfl (by decide) ⟨(Nat.le_of_ble_eq_true rfl), (Nat.le_of_ble_eq_true rfl)⟩ (fun r u H locs hp hw => ?_)
    have hw : Wd D A s [oM ad fu ft ff fs x10.1 fb x10.2 fr, ((ad 2), .inl (d 0, 110, .inl TP))] H locs := hw
    subst r
    refine lv_i2l (v := q8.toInt64) hx hb dX9_takesNumber_14 rfl ?_
    refine lv_ldc2 (v := 48) hx hb hown (hts _ q1375) dX9_takesNumber_15 ?_
    refine lv_ldc2 (v := 57) hx hb hown (hts _ q1376) dX9_takesNumber_18 ?_
    obtain ⟨q9, hcq9, hf⟩ := op_e hf
    refine x_SI (wr := [oM ad fu ft ff fs x10.1 fb x10.2 fr, ((ad 2), .inl (d 0, 110, .inl TP))]) (rest := []) [.long q8.toInt64, .long 48, .long 57] hX cx hw hl.1 (mX9_in l X hX D d q8.toInt64 48 57 q9 hcq9) (lw_S q1315 q1316 q94 q1317) hd_X9_in ⟨Nat.le_of_ble_eq_true rfl, Nat.le_of_ble_eq_true rfl⟩ rfl rfl (Nat.le_of_ble_eq_true rfl) dX9_takesNumber_21 [] [0, 1] rfl rfl rfl rfl (by decide) ⟨(Nat.le_of_ble_eq_true rfl), (Nat.le_of_ble_eq_true rfl)⟩ (fun r u H locs hp hw => ?_)
    have hw : Wd D A s [oM ad fu ft ff fs x10.1 fb x10.2 fr, ((ad 2), .inl (d 0, 110, .inl TP))] H locs := hw
    subst r
    refine lv_if_eq (tgt := 76) hx hb dX9_takesNumber_24 (by decide) (fun c24 => ?_) (fun c24 => ?_)
    · have hf := if_t hf c24
      have hf := sm_e hf
      subst hf
      have hz := hout10 _ rfl
      subst hz
      exact hK10 _ _ _ hw hl
    · have hf := if_f hf c24
      refine lv_aload_n hx hb dX9_takesNumber_27 rfl (lv_at hl 0 rfl) ?_
      refine lv_aload_n hx hb dX9_takesNumber_28 rfl (lv_at hl 0 rfl) ?_
      refine va_get (ci := 0) (C := RX9) (T := TX9) (N := 19) hx hb hts in_X9 hown hK hw.1 0 rfl rfl 10 (by decide) (hts _ q1258) (fun _ h9 => h9) rfl dX9_takesNumber_29 ?_
      refine lv_iload_n hx hb dX9_takesNumber_32 rfl (lv_at hl 3 rfl) ?_
      refine lv_isub hx hb dX9_takesNumber_33 ?_
      refine lv_iconst (v := 2) hx hb dX9_takesNumber_34 (by decide) ?_
      obtain ⟨j10, ha, hr⟩ := op_e hf
      refine x_join (A := A) (D := D) (J := 60) (nL := 4) (cells' := 0) (slots' := 0) (st := [.int j10, .ref (ad 0)]) [oM ad fu ft ff fs x10.1 fb x10.2 fr, ((ad 2), .inl (d 0, 110, .inl TP))] [(0, .ref (ad 0)), (1, .int p1), (2, .int p2), (3, .int fa)] (fun H locs ls hw hl => ?_) (fun hKj60_j10 => ?_)
      · have hf := hr
        refine va_put (ci := 0) (v := .int j10) (ty := .int) (C := RX9) (T := TX9) (N := 19) hx hb hts in_X9 tyX9 tyX9_ok nmX9 hown hK hw.1 hw.2.1 hw.2.2 0 rfl rfl 12 (by decide) (hts _ q1260) (fun _ h9 => h9) rfl (by decide +kernel) rfl rfl (Nat.le_of_ble_eq_true rfl) dX9_takesNumber_60 (fun H locs hP hD hS => ?_)
        have hw : Wd D A s [oM ad fu ft ff fs x10.1 fb j10 fr, ((ad 2), .inl (d 0, 110, .inl TP))] H locs := ⟨hP, hD, hS⟩
        refine lv_aload_n hx hb dX9_takesNumber_63 rfl (lv_at hl 0 rfl) ?_
        refine lv_dup hx hb dX9_takesNumber_64 rfl ?_
        refine va_get (ci := 0) (C := RX9) (T := TX9) (N := 19) hx hb hts in_X9 hown hK hw.1 0 rfl rfl 10 (by decide) (hts _ q1258) (fun _ h9 => h9) rfl dX9_takesNumber_65 ?_
        refine lv_iconst (v := 1) hx hb dX9_takesNumber_68 (by decide) ?_
        refine lv_iadd hx hb dX9_takesNumber_69 ?_
        refine va_put (ci := 0) (v := .int (x10.1 + 1)) (ty := .int) (C := RX9) (T := TX9) (N := 19) hx hb hts in_X9 tyX9 tyX9_ok nmX9 hown hK hw.1 hw.2.1 hw.2.2 0 rfl rfl 10 (by decide) (hts _ q1258) (fun _ h9 => h9) rfl (by decide +kernel) rfl rfl (Nat.le_of_ble_eq_true rfl) dX9_takesNumber_70 (fun H locs hP hD hS => ?_)
        have hw : Wd D A s [oM ad fu ft ff fs (x10.1 + 1) fb j10 fr, ((ad 2), .inl (d 0, 110, .inl TP))] H locs := ⟨hP, hD, hS⟩
        refine lv_goto (tgt := 10) hx hb dX9_takesNumber_73 (by decide) ?_
        have hf := sm_e hf
        subst hf
        exact hin10 _ rfl _ _ _ hw hl
      · have hf := ha
        refine lv_icmp_ge (tgt := 56) hx hb dX9_takesNumber_35 (by decide) (fun c35 => ?_) (fun c35 => ?_)
        · have hf := if_t hf c35
          refine lv_aload_n hx hb dX9_takesNumber_56 rfl (lv_at hl 0 rfl) ?_
          refine va_get (ci := 0) (C := RX9) (T := TX9) (N := 19) hx hb hts in_X9 hown hK hw.1 0 rfl rfl 12 (by decide) (hts _ q1260) (fun _ h9 => h9) rfl dX9_takesNumber_57 ?_
          have hf := sm_e hf
          subst hf
          exact hKj60_j10 _ _ _ hw hl
        · have hf := if_f hf c35
          refine lv_bipush (v := 10) hx hb dX9_takesNumber_38 (by decide) ?_
          refine lv_aload_n hx hb dX9_takesNumber_40 rfl (lv_at hl 0 rfl) ?_
          refine va_get (ci := 0) (C := RX9) (T := TX9) (N := 19) hx hb hts in_X9 hown hK hw.1 0 rfl rfl 12 (by decide) (hts _ q1260) (fun _ h9 => h9) rfl dX9_takesNumber_41 ?_
          refine lv_imul hx hb dX9_takesNumber_44 ?_
          refine lv_aload_n hx hb dX9_takesNumber_45 rfl (lv_at hl 0 rfl) ?_
          obtain ⟨q11, hcq11, hf⟩ := op_e hf
          refine x_VI (wr := []) (rest := [.int (10 * x10.2), .ref (ad 0)]) [] hX cx hw hl.1 (mX9_here l X hX D d ad fu ft ff fs x10.1 fb x10.2 fr TP q11 hcq11) (lw_V q1363 q1365 qs41 q94 q1366) hd_X9_here ⟨Nat.le_of_ble_eq_true rfl, Nat.le_of_ble_eq_true rfl⟩ (va_recv hK hw.1 (ci := 0) (q0 := 0) rfl rfl) rfl rfl (Nat.le_of_ble_eq_true rfl) dX9_takesNumber_46 [0, 1] [] rfl rfl rfl rfl (by decide) ⟨(Nat.le_of_ble_eq_true rfl), (Nat.le_of_ble_eq_true rfl)⟩ (fun r u H locs hp hw => ?_)
          have hw : Wd D A s [oM ad fu ft ff fs x10.1 fb x10.2 fr, ((ad 2), .inl (d 0, 110, .inl TP))] H locs := hw
          subst r
          refine lv_iadd hx hb dX9_takesNumber_49 ?_
          refine lv_bipush (v := 48) hx hb dX9_takesNumber_50 (by decide) ?_
          refine lv_isub hx hb dX9_takesNumber_52 ?_
          refine lv_goto (tgt := 60) hx hb dX9_takesNumber_53 (by decide) ?_
          have hf := sm_e hf
          subst hf
          exact hKj60_j10 _ _ _ hw hl
theorem hd_X9_takesLaw : yX9_takesLaw.cls = "DishLiftModel" ∧ yX9_takesLaw.cls ≠ "java/lang/invoke/MethodHandle" ∧ yX9_takesLaw.cls ≠ "java/lang/invoke/VarHandle" ∧ (parseMethodDescriptor yX9_takesLaw.desc).map (fun d => d.parameters.length) = some 0 := by decide +kernel
set_option maxHeartbeats 4000000 in
theorem mX9_takesLaw (l : Launch) (X : XT) (hX : XOK X) (D : va_G) (d : Nat → ClassId) (ad : Nat → Nat) (fu : Int32) (ft : Int32) (ff : Int32) (fs : Int32) (fa : Int32) (fb : Int32) (fn : Int32) (fr : Int32) (Ww : Nat → Int32) (TP : Nat → Int32) (res : Int32 × Int32 × Int32 × Int32 × Int32 × (Nat → Int32)) (hf : fX9_takesLaw Ww TP ft ff fa fb fn = some res) : MetI l yX9_takesLaw (ws_ yX9_takesLaw cX9_takesLaw 1 (some .boolean)) { frames := 2, cells := 0, slots := 0, locals := 48 } [.ref (ad 0)] X D d [oM ad fu ft ff fs fa fb fn fr, ((ad 1), .inl (d 0, 1247, .inl Ww)), ((ad 2), .inl (d 0, 110, .inl TP))] (fun r (_ : Unit) => r = res.1) (fun _ => [oM ad fu ft res.2.1 fs res.2.2.1 res.2.2.2.1 res.2.2.2.2.1 fr, ((ad 1), .inl (d 0, 1247, .inl res.2.2.2.2.2)), ((ad 2), .inl (d 0, 110, .inl TP))]) := by
  refine MetI.of (by decide +kernel) (Nat.le_of_ble_eq_true rfl) ?_
  intro p e s m below meth c A cx hw ls hl
  have cx : Cx p s m _ meth c X D d A "DishLiftModel" cX9_takesLaw 1 (some .boolean) "takesLaw" := cx
  have cx' := cx
  obtain ⟨hx, hb, hr, hlk, hml, hown, hts, hK, hA, hXs, hnm⟩ := cx'
  have hl : lv_has ls 1 [(0, .ref (ad 0))] := hl
  unfold fX9_takesLaw at hf
  refine lv_aload_n hx hb dX9_takesLaw_0 rfl (lv_at hl 0 rfl) ?_
  refine lv_bipush (v := 100) hx hb dX9_takesLaw_1 (by decide) ?_
  obtain ⟨q1, hcq1, hf⟩ := op_e hf
  refine x_VI (wr := [((ad 1), .inl (d 0, 1247, .inl Ww))]) (rest := []) [.int 100] hX cx hw hl.1 (mX9_takes l X hX D d ad fu ft ff fs fa fb fn fr TP 100 q1 hcq1) (lw_V q1359 q1361 qs40 q94 q1362) hd_X9_takes ⟨Nat.le_of_ble_eq_true rfl, Nat.le_of_ble_eq_true rfl⟩ (va_recv hK hw.1 (ci := 0) (q0 := 0) rfl rfl) rfl rfl (Nat.le_of_ble_eq_true rfl) dX9_takesLaw_3 [0, 2] [1] rfl rfl rfl rfl (by decide) ⟨(Nat.le_of_ble_eq_true rfl), (Nat.le_of_ble_eq_true rfl)⟩ (fun r u H locs hp hw => ?_)
  have hw : Wd D A s [((ad 1), .inl (d 0, 1247, .inl Ww)), oM ad fu ft q1.2.1 fs q1.2.2.1 q1.2.2.2 fn fr, ((ad 2), .inl (d 0, 110, .inl TP))] H locs := hw
  subst r
  refine lv_if_eq (tgt := 19) hx hb dX9_takesLaw_6 (by decide) (fun c6 => ?_) (fun c6 => ?_)
  · have hf := if_t hf c6
    refine lv_iconst (v := 0) hx hb dX9_takesLaw_19 (by decide) ?_
    have hf := sm_e hf
    subst hf
    exact x_retI cx hw rfl () rfl [1, 0, 2] rfl rfl (Nat.le_of_ble_eq_true rfl) (Nat.le_of_ble_eq_true rfl) dX9_takesLaw_20
  · have hf := if_f hf c6
    refine lv_aload_n hx hb dX9_takesLaw_9 rfl (lv_at hl 0 rfl) ?_
    refine lv_iconst (v := 2) hx hb dX9_takesLaw_10 (by decide) ?_
    refine lv_bipush (v := 9) hx hb dX9_takesLaw_11 (by decide) ?_
    obtain ⟨q2, hcq2, hf⟩ := op_e hf
    refine x_VI (wr := [((ad 1), .inl (d 0, 1247, .inl Ww))]) (rest := []) [.int 2, .int 9] hX cx hw hl.1 (mX9_takesNumber l X hX D d ad fu ft q1.2.1 fs q1.2.2.1 q1.2.2.2 fn fr TP 2 9 q2 hcq2) (lw_V q1371 q1373 qs43 q94 q1374) hd_X9_takesNumber ⟨Nat.le_of_ble_eq_true rfl, Nat.le_of_ble_eq_true rfl⟩ (va_recv hK hw.1 (ci := 0) (q0 := 1) rfl rfl) rfl rfl (Nat.le_of_ble_eq_true rfl) dX9_takesLaw_13 [1, 2] [0] rfl rfl rfl rfl (by decide) ⟨(Nat.le_of_ble_eq_true rfl), (Nat.le_of_ble_eq_true rfl)⟩ (fun r u H locs hp hw => ?_)
    have hw : Wd D A s [((ad 1), .inl (d 0, 1247, .inl Ww)), oM ad fu ft q2.2.1 fs q2.2.2.1 q2.2.2.2.1 q2.2.2.2.2 fr, ((ad 2), .inl (d 0, 110, .inl TP))] H locs := hw
    subst r
    refine lv_if_ne (tgt := 21) hx hb dX9_takesLaw_16 (by decide) (fun c16 => ?_) (fun c16 => ?_)
    · have hf := if_f hf c16
      refine lv_aload_n hx hb dX9_takesLaw_21 rfl (lv_at hl 0 rfl) ?_
      refine va_get (ci := 0) (C := RX9) (T := TX9) (N := 19) hx hb hts in_X9 hown hK hw.1 1 rfl rfl 0 (by decide) (hts _ q1248) (fun _ h9 => h9) rfl dX9_takesLaw_22 ?_
      refine lv_sipush (v := 173) hx hb dX9_takesLaw_25 (by decide) ?_
      refine lv_aload_n hx hb dX9_takesLaw_28 rfl (lv_at hl 0 rfl) ?_
      refine va_get (ci := 0) (C := RX9) (T := TX9) (N := 19) hx hb hts in_X9 hown hK hw.1 1 rfl rfl 12 (by decide) (hts _ q1260) (fun _ h9 => h9) rfl dX9_takesLaw_29 ?_
      obtain ⟨w3, hv, hf⟩ := op_e hf
      refine x_iast (q0 := 0) cx hw rfl hv dX9_takesLaw_32 (fun H locs hw => ?_)
      have hw : Wd D A s [((ad 1), .inl (d 0, 1247, .inl w3)), oM ad fu ft q2.2.1 fs q2.2.2.1 q2.2.2.2.1 q2.2.2.2.2 fr, ((ad 2), .inl (d 0, 110, .inl TP))] H locs := hw
      refine lv_aload_n hx hb dX9_takesLaw_33 rfl (lv_at hl 0 rfl) ?_
      refine lv_bipush (v := 44) hx hb dX9_takesLaw_34 (by decide) ?_
      obtain ⟨q4, hcq4, hf⟩ := op_e hf
      refine x_VI (wr := [((ad 1), .inl (d 0, 1247, .inl w3))]) (rest := []) [.int 44] hX cx hw hl.1 (mX9_takes l X hX D d ad fu ft q2.2.1 fs q2.2.2.1 q2.2.2.2.1 q2.2.2.2.2 fr TP 44 q4 hcq4) (lw_V q1359 q1361 qs40 q94 q1362) hd_X9_takes ⟨Nat.le_of_ble_eq_true rfl, Nat.le_of_ble_eq_true rfl⟩ (va_recv hK hw.1 (ci := 0) (q0 := 1) rfl rfl) rfl rfl (Nat.le_of_ble_eq_true rfl) dX9_takesLaw_36 [1, 2] [0] rfl rfl rfl rfl (by decide) ⟨(Nat.le_of_ble_eq_true rfl), (Nat.le_of_ble_eq_true rfl)⟩ (fun r u H locs hp hw => ?_)
      have hw : Wd D A s [((ad 1), .inl (d 0, 1247, .inl w3)), oM ad fu ft q4.2.1 fs q4.2.2.1 q4.2.2.2 q2.2.2.2.2 fr, ((ad 2), .inl (d 0, 110, .inl TP))] H locs := hw
      subst r
      refine lv_if_eq (tgt := 51) hx hb dX9_takesLaw_39 (by decide) (fun c39 => ?_) (fun c39 => ?_)
      · have hf := if_t hf c39
        refine lv_iconst (v := 0) hx hb dX9_takesLaw_51 (by decide) ?_
        have hf := sm_e hf
        subst hf
        exact x_retI cx hw rfl () rfl [1, 0, 2] rfl rfl (Nat.le_of_ble_eq_true rfl) (Nat.le_of_ble_eq_true rfl) dX9_takesLaw_52
      · have hf := if_f hf c39
        refine lv_aload_n hx hb dX9_takesLaw_42 rfl (lv_at hl 0 rfl) ?_
        refine lv_iconst (v := 1) hx hb dX9_takesLaw_43 (by decide) ?_
        refine lv_iconst (v := 4) hx hb dX9_takesLaw_44 (by decide) ?_
        obtain ⟨q5, hcq5, hf⟩ := op_e hf
        refine x_VI (wr := [((ad 1), .inl (d 0, 1247, .inl w3))]) (rest := []) [.int 1, .int 4] hX cx hw hl.1 (mX9_takesNumber l X hX D d ad fu ft q4.2.1 fs q4.2.2.1 q4.2.2.2 q2.2.2.2.2 fr TP 1 4 q5 hcq5) (lw_V q1371 q1373 qs43 q94 q1374) hd_X9_takesNumber ⟨Nat.le_of_ble_eq_true rfl, Nat.le_of_ble_eq_true rfl⟩ (va_recv hK hw.1 (ci := 0) (q0 := 1) rfl rfl) rfl rfl (Nat.le_of_ble_eq_true rfl) dX9_takesLaw_45 [1, 2] [0] rfl rfl rfl rfl (by decide) ⟨(Nat.le_of_ble_eq_true rfl), (Nat.le_of_ble_eq_true rfl)⟩ (fun r u H locs hp hw => ?_)
        have hw : Wd D A s [((ad 1), .inl (d 0, 1247, .inl w3)), oM ad fu ft q5.2.1 fs q5.2.2.1 q5.2.2.2.1 q5.2.2.2.2 fr, ((ad 2), .inl (d 0, 110, .inl TP))] H locs := hw
        subst r
        refine lv_if_ne (tgt := 53) hx hb dX9_takesLaw_48 (by decide) (fun c48 => ?_) (fun c48 => ?_)
        · have hf := if_f hf c48
          refine lv_aload_n hx hb dX9_takesLaw_53 rfl (lv_at hl 0 rfl) ?_
          refine va_get (ci := 0) (C := RX9) (T := TX9) (N := 19) hx hb hts in_X9 hown hK hw.1 1 rfl rfl 0 (by decide) (hts _ q1248) (fun _ h9 => h9) rfl dX9_takesLaw_54 ?_
          refine lv_sipush (v := 174) hx hb dX9_takesLaw_57 (by decide) ?_
          refine lv_aload_n hx hb dX9_takesLaw_60 rfl (lv_at hl 0 rfl) ?_
          refine va_get (ci := 0) (C := RX9) (T := TX9) (N := 19) hx hb hts in_X9 hown hK hw.1 1 rfl rfl 12 (by decide) (hts _ q1260) (fun _ h9 => h9) rfl dX9_takesLaw_61 ?_
          obtain ⟨w6, hv, hf⟩ := op_e hf
          refine x_iast (q0 := 0) cx hw rfl hv dX9_takesLaw_64 (fun H locs hw => ?_)
          have hw : Wd D A s [((ad 1), .inl (d 0, 1247, .inl w6)), oM ad fu ft q5.2.1 fs q5.2.2.1 q5.2.2.2.1 q5.2.2.2.2 fr, ((ad 2), .inl (d 0, 110, .inl TP))] H locs := hw
          refine lv_aload_n hx hb dX9_takesLaw_65 rfl (lv_at hl 0 rfl) ?_
          refine lv_bipush (v := 44) hx hb dX9_takesLaw_66 (by decide) ?_
          obtain ⟨q7, hcq7, hf⟩ := op_e hf
          refine x_VI (wr := [((ad 1), .inl (d 0, 1247, .inl w6))]) (rest := []) [.int 44] hX cx hw hl.1 (mX9_takes l X hX D d ad fu ft q5.2.1 fs q5.2.2.1 q5.2.2.2.1 q5.2.2.2.2 fr TP 44 q7 hcq7) (lw_V q1359 q1361 qs40 q94 q1362) hd_X9_takes ⟨Nat.le_of_ble_eq_true rfl, Nat.le_of_ble_eq_true rfl⟩ (va_recv hK hw.1 (ci := 0) (q0 := 1) rfl rfl) rfl rfl (Nat.le_of_ble_eq_true rfl) dX9_takesLaw_68 [1, 2] [0] rfl rfl rfl rfl (by decide) ⟨(Nat.le_of_ble_eq_true rfl), (Nat.le_of_ble_eq_true rfl)⟩ (fun r u H locs hp hw => ?_)
          have hw : Wd D A s [((ad 1), .inl (d 0, 1247, .inl w6)), oM ad fu ft q7.2.1 fs q7.2.2.1 q7.2.2.2 q5.2.2.2.2 fr, ((ad 2), .inl (d 0, 110, .inl TP))] H locs := hw
          subst r
          refine lv_if_eq (tgt := 84) hx hb dX9_takesLaw_71 (by decide) (fun c71 => ?_) (fun c71 => ?_)
          · have hf := if_t hf c71
            refine lv_iconst (v := 0) hx hb dX9_takesLaw_84 (by decide) ?_
            have hf := sm_e hf
            subst hf
            exact x_retI cx hw rfl () rfl [1, 0, 2] rfl rfl (Nat.le_of_ble_eq_true rfl) (Nat.le_of_ble_eq_true rfl) dX9_takesLaw_85
          · have hf := if_f hf c71
            refine lv_aload_n hx hb dX9_takesLaw_74 rfl (lv_at hl 0 rfl) ?_
            refine lv_iconst (v := 1) hx hb dX9_takesLaw_75 (by decide) ?_
            refine lv_bipush (v := 40) hx hb dX9_takesLaw_76 (by decide) ?_
            obtain ⟨q8, hcq8, hf⟩ := op_e hf
            refine x_VI (wr := [((ad 1), .inl (d 0, 1247, .inl w6))]) (rest := []) [.int 1, .int 40] hX cx hw hl.1 (mX9_takesNumber l X hX D d ad fu ft q7.2.1 fs q7.2.2.1 q7.2.2.2 q5.2.2.2.2 fr TP 1 40 q8 hcq8) (lw_V q1371 q1373 qs43 q94 q1374) hd_X9_takesNumber ⟨Nat.le_of_ble_eq_true rfl, Nat.le_of_ble_eq_true rfl⟩ (va_recv hK hw.1 (ci := 0) (q0 := 1) rfl rfl) rfl rfl (Nat.le_of_ble_eq_true rfl) dX9_takesLaw_78 [1, 2] [0] rfl rfl rfl rfl (by decide) ⟨(Nat.le_of_ble_eq_true rfl), (Nat.le_of_ble_eq_true rfl)⟩ (fun r u H locs hp hw => ?_)
            have hw : Wd D A s [((ad 1), .inl (d 0, 1247, .inl w6)), oM ad fu ft q8.2.1 fs q8.2.2.1 q8.2.2.2.1 q8.2.2.2.2 fr, ((ad 2), .inl (d 0, 110, .inl TP))] H locs := hw
            subst r
            refine lv_if_ne (tgt := 86) hx hb dX9_takesLaw_81 (by decide) (fun c81 => ?_) (fun c81 => ?_)
            · have hf := if_f hf c81
              refine lv_aload_n hx hb dX9_takesLaw_86 rfl (lv_at hl 0 rfl) ?_
              refine va_get (ci := 0) (C := RX9) (T := TX9) (N := 19) hx hb hts in_X9 hown hK hw.1 1 rfl rfl 0 (by decide) (hts _ q1248) (fun _ h9 => h9) rfl dX9_takesLaw_87 ?_
              refine lv_sipush (v := 175) hx hb dX9_takesLaw_90 (by decide) ?_
              refine lv_aload_n hx hb dX9_takesLaw_93 rfl (lv_at hl 0 rfl) ?_
              refine va_get (ci := 0) (C := RX9) (T := TX9) (N := 19) hx hb hts in_X9 hown hK hw.1 1 rfl rfl 12 (by decide) (hts _ q1260) (fun _ h9 => h9) rfl dX9_takesLaw_94 ?_
              obtain ⟨w9, hv, hf⟩ := op_e hf
              refine x_iast (q0 := 0) cx hw rfl hv dX9_takesLaw_97 (fun H locs hw => ?_)
              have hw : Wd D A s [((ad 1), .inl (d 0, 1247, .inl w9)), oM ad fu ft q8.2.1 fs q8.2.2.1 q8.2.2.2.1 q8.2.2.2.2 fr, ((ad 2), .inl (d 0, 110, .inl TP))] H locs := hw
              refine lv_aload_n hx hb dX9_takesLaw_98 rfl (lv_at hl 0 rfl) ?_
              refine lv_bipush (v := 59) hx hb dX9_takesLaw_99 (by decide) ?_
              obtain ⟨q10, hcq10, hf⟩ := op_e hf
              refine x_VI (wr := [((ad 1), .inl (d 0, 1247, .inl w9))]) (rest := []) [.int 59] hX cx hw hl.1 (mX9_takes l X hX D d ad fu ft q8.2.1 fs q8.2.2.1 q8.2.2.2.1 q8.2.2.2.2 fr TP 59 q10 hcq10) (lw_V q1359 q1361 qs40 q94 q1362) hd_X9_takes ⟨Nat.le_of_ble_eq_true rfl, Nat.le_of_ble_eq_true rfl⟩ (va_recv hK hw.1 (ci := 0) (q0 := 1) rfl rfl) rfl rfl (Nat.le_of_ble_eq_true rfl) dX9_takesLaw_101 [1, 2] [0] rfl rfl rfl rfl (by decide) ⟨(Nat.le_of_ble_eq_true rfl), (Nat.le_of_ble_eq_true rfl)⟩ (fun r u H locs hp hw => ?_)
              have hw : Wd D A s [((ad 1), .inl (d 0, 1247, .inl w9)), oM ad fu ft q10.2.1 fs q10.2.2.1 q10.2.2.2 q8.2.2.2.2 fr, ((ad 2), .inl (d 0, 110, .inl TP))] H locs := hw
              subst r
              obtain ⟨g11, hgb, hf⟩ := op_e hf
              have hf := sm_e hf
              subst hf
              exact x_retI cx hw (gb_spec hgb) () rfl [1, 0, 2] rfl rfl (Nat.le_of_ble_eq_true rfl) (Nat.le_of_ble_eq_true rfl) dX9_takesLaw_104
            · have hf := if_t hf c81
              refine lv_iconst (v := 0) hx hb dX9_takesLaw_84 (by decide) ?_
              have hf := sm_e hf
              subst hf
              exact x_retI cx hw rfl () rfl [1, 0, 2] rfl rfl (Nat.le_of_ble_eq_true rfl) (Nat.le_of_ble_eq_true rfl) dX9_takesLaw_85
        · have hf := if_t hf c48
          refine lv_iconst (v := 0) hx hb dX9_takesLaw_51 (by decide) ?_
          have hf := sm_e hf
          subst hf
          exact x_retI cx hw rfl () rfl [1, 0, 2] rfl rfl (Nat.le_of_ble_eq_true rfl) (Nat.le_of_ble_eq_true rfl) dX9_takesLaw_52
    · have hf := if_t hf c16
      refine lv_iconst (v := 0) hx hb dX9_takesLaw_19 (by decide) ?_
      have hf := sm_e hf
      subst hf
      exact x_retI cx hw rfl () rfl [1, 0, 2] rfl rfl (Nat.le_of_ble_eq_true rfl) (Nat.le_of_ble_eq_true rfl) dX9_takesLaw_20
theorem hd_X9_kindOf : yX9_kindOf.cls ≠ "java/lang/invoke/MethodHandle" ∧ yX9_kindOf.cls ≠ "java/lang/invoke/VarHandle" ∧ (parseMethodDescriptor yX9_kindOf.desc).map (fun d => d.parameters.length) = some 1 := by decide +kernel
set_option maxHeartbeats 4000000 in
theorem mX9_kindOf (l : Launch) (X : XT) (hX : XOK X) (D : va_G) (d : Nat → ClassId) (p0 : Int32) (res : Int32) (hf : fX9_kindOf p0 = some res) : MetI l yX9_kindOf (ws_ yX9_kindOf cX9_kindOf 1 (some .int)) { frames := 0, cells := 0, slots := 0, locals := 0 } [.int p0] X D d [] (fun r (_ : Unit) => r = res) (fun _ => []) := by
  refine MetI.of (by decide +kernel) (Nat.le_of_ble_eq_true rfl) ?_
  intro p e s m below meth c A cx hw ls hl
  have cx : Cx p s m _ meth c X D d A "DishLiftModel" cX9_kindOf 1 (some .int) "kindOf" := cx
  have cx' := cx
  obtain ⟨hx, hb, hr, hlk, hml, hown, hts, hK, hA, hXs, hnm⟩ := cx'
  have hl : lv_has ls 1 [(0, .int p0)] := hl
  unfold fX9_kindOf at hf
  refine lv_iload_n hx hb dX9_kindOf_0 rfl (lv_at hl 0 rfl) ?_
  refine lv_bipush (v := 104) hx hb dX9_kindOf_1 (by decide) ?_
  refine lv_icmp_ne (tgt := 10) hx hb dX9_kindOf_3 (by decide) (fun c3 => ?_) (fun c3 => ?_)
  · have hf := if_f hf c3
    refine lv_iload_n hx hb dX9_kindOf_10 rfl (lv_at hl 0 rfl) ?_
    refine lv_bipush (v := 115) hx hb dX9_kindOf_11 (by decide) ?_
    refine lv_icmp_ne (tgt := 20) hx hb dX9_kindOf_13 (by decide) (fun c13 => ?_) (fun c13 => ?_)
    · have hf := if_f hf c13
      refine lv_iload_n hx hb dX9_kindOf_20 rfl (lv_at hl 0 rfl) ?_
      refine lv_bipush (v := 114) hx hb dX9_kindOf_21 (by decide) ?_
      refine lv_icmp_ne (tgt := 30) hx hb dX9_kindOf_23 (by decide) (fun c23 => ?_) (fun c23 => ?_)
      · have hf := if_f hf c23
        refine lv_iload_n hx hb dX9_kindOf_30 rfl (lv_at hl 0 rfl) ?_
        refine lv_bipush (v := 99) hx hb dX9_kindOf_31 (by decide) ?_
        refine lv_icmp_ne (tgt := 40) hx hb dX9_kindOf_33 (by decide) (fun c33 => ?_) (fun c33 => ?_)
        · have hf := if_f hf c33
          refine lv_iload_n hx hb dX9_kindOf_40 rfl (lv_at hl 0 rfl) ?_
          refine lv_bipush (v := 105) hx hb dX9_kindOf_41 (by decide) ?_
          refine lv_icmp_ne (tgt := 50) hx hb dX9_kindOf_43 (by decide) (fun c43 => ?_) (fun c43 => ?_)
          · have hf := if_f hf c43
            refine lv_iconst (v := 0) hx hb dX9_kindOf_50 (by decide) ?_
            have hf := sm_e hf
            subst hf
            exact x_retI cx hw rfl () rfl [] rfl rfl (Nat.le_of_ble_eq_true rfl) (Nat.le_of_ble_eq_true rfl) dX9_kindOf_51
          · have hf := if_t hf c43
            refine lv_iconst (v := 5) hx hb dX9_kindOf_46 (by decide) ?_
            refine lv_goto (tgt := 51) hx hb dX9_kindOf_47 (by decide) ?_
            have hf := sm_e hf
            subst hf
            exact x_retI cx hw rfl () rfl [] rfl rfl (Nat.le_of_ble_eq_true rfl) (Nat.le_of_ble_eq_true rfl) dX9_kindOf_51
        · have hf := if_t hf c33
          refine lv_iconst (v := 4) hx hb dX9_kindOf_36 (by decide) ?_
          refine lv_goto (tgt := 51) hx hb dX9_kindOf_37 (by decide) ?_
          have hf := sm_e hf
          subst hf
          exact x_retI cx hw rfl () rfl [] rfl rfl (Nat.le_of_ble_eq_true rfl) (Nat.le_of_ble_eq_true rfl) dX9_kindOf_51
      · have hf := if_t hf c23
        refine lv_iconst (v := 3) hx hb dX9_kindOf_26 (by decide) ?_
        refine lv_goto (tgt := 51) hx hb dX9_kindOf_27 (by decide) ?_
        have hf := sm_e hf
        subst hf
        exact x_retI cx hw rfl () rfl [] rfl rfl (Nat.le_of_ble_eq_true rfl) (Nat.le_of_ble_eq_true rfl) dX9_kindOf_51
    · have hf := if_t hf c13
      refine lv_iconst (v := 2) hx hb dX9_kindOf_16 (by decide) ?_
      refine lv_goto (tgt := 51) hx hb dX9_kindOf_17 (by decide) ?_
      have hf := sm_e hf
      subst hf
      exact x_retI cx hw rfl () rfl [] rfl rfl (Nat.le_of_ble_eq_true rfl) (Nat.le_of_ble_eq_true rfl) dX9_kindOf_51
  · have hf := if_t hf c3
    refine lv_iconst (v := 1) hx hb dX9_kindOf_6 (by decide) ?_
    refine lv_goto (tgt := 51) hx hb dX9_kindOf_7 (by decide) ?_
    have hf := sm_e hf
    subst hf
    exact x_retI cx hw rfl () rfl [] rfl rfl (Nat.le_of_ble_eq_true rfl) (Nat.le_of_ble_eq_true rfl) dX9_kindOf_51
theorem hd_X9_takesDish : yX9_takesDish.cls = "DishLiftModel" ∧ yX9_takesDish.cls ≠ "java/lang/invoke/MethodHandle" ∧ yX9_takesDish.cls ≠ "java/lang/invoke/VarHandle" ∧ (parseMethodDescriptor yX9_takesDish.desc).map (fun d => d.parameters.length) = some 0 := by decide +kernel
set_option maxHeartbeats 4000000 in
theorem mX9_takesDish (l : Launch) (X : XT) (hX : XOK X) (D : va_G) (d : Nat → ClassId) (ad : Nat → Nat) (fu : Int32) (ft : Int32) (ff : Int32) (fs : Int32) (fa : Int32) (fb : Int32) (fn : Int32) (fr : Int32) (Ww : Nat → Int32) (TP : Nat → Int32) (res : Int32 × Int32 × Int32 × Int32 × Int32 × (Nat → Int32)) (hf : fX9_takesDish Ww TP ft ff fa fb fn = some res) : MetI l yX9_takesDish (ws_ yX9_takesDish cX9_takesDish 3 (some .boolean)) { frames := 2, cells := 0, slots := 0, locals := 48 } [.ref (ad 0)] X D d [oM ad fu ft ff fs fa fb fn fr, ((ad 1), .inl (d 0, 1247, .inl Ww)), ((ad 2), .inl (d 0, 110, .inl TP))] (fun r (_ : Unit) => r = res.1) (fun _ => [oM ad fu ft res.2.1 fs res.2.2.1 res.2.2.2.1 res.2.2.2.2.1 fr, ((ad 1), .inl (d 0, 1247, .inl res.2.2.2.2.2)), ((ad 2), .inl (d 0, 110, .inl TP))]) := by
  refine MetI.of (by decide +kernel) (Nat.le_of_ble_eq_true rfl) ?_
  intro p e s m below meth c A cx hw ls hl
  have cx : Cx p s m _ meth c X D d A "DishLiftModel" cX9_takesDish 3 (some .boolean) "takesDish" := cx
  have cx' := cx
  obtain ⟨hx, hb, hr, hlk, hml, hown, hts, hK, hA, hXs, hnm⟩ := cx'
  have hl : lv_has ls 3 [(0, .ref (ad 0))] := hl
  unfold fX9_takesDish at hf
  refine lv_aload_n hx hb dX9_takesDish_0 rfl (lv_at hl 0 rfl) ?_
  refine va_get (ci := 0) (C := RX9) (T := TX9) (N := 19) hx hb hts in_X9 hown hK hw.1 0 rfl rfl 0 (by decide) (hts _ q1248) (fun _ h9 => h9) rfl dX9_takesDish_1 ?_
  refine lv_sipush (v := 172) hx hb dX9_takesDish_4 (by decide) ?_
  obtain ⟨v1, hv, hf⟩ := op_e hf
  refine x_iald (q0 := 1) cx hw rfl hv dX9_takesDish_7 ?_
  refine lv_istore_n (lv' := [(1, .int v1), (0, .ref (ad 0))]) hx hb dX9_takesDish_8 rfl hl (by decide) rfl (fun ls hl => ?_)
  refine lv_aload_n hx hb dX9_takesDish_9 rfl (lv_at hl 1 rfl) ?_
  obtain ⟨q2, hcq2, hf⟩ := op_e hf
  refine x_VI (wr := [((ad 1), .inl (d 0, 1247, .inl Ww))]) (rest := []) [] hX cx hw hl.1 (mX9_here l X hX D d ad fu ft ff fs fa fb fn fr TP q2 hcq2) (lw_V q1363 q1365 qs41 q94 q1366) hd_X9_here ⟨Nat.le_of_ble_eq_true rfl, Nat.le_of_ble_eq_true rfl⟩ (va_recv hK hw.1 (ci := 0) (q0 := 0) rfl rfl) rfl rfl (Nat.le_of_ble_eq_true rfl) dX9_takesDish_10 [0, 2] [1] rfl rfl rfl rfl (by decide) ⟨(Nat.le_of_ble_eq_true rfl), (Nat.le_of_ble_eq_true rfl)⟩ (fun r u H locs hp hw => ?_)
  have hw : Wd D A s [((ad 1), .inl (d 0, 1247, .inl Ww)), oM ad fu ft ff fs fa fb fn fr, ((ad 2), .inl (d 0, 110, .inl TP))] H locs := hw
  subst r
  obtain ⟨q3, hcq3, hf⟩ := op_e hf
  refine x_SI (wr := [((ad 1), .inl (d 0, 1247, .inl Ww)), oM ad fu ft ff fs fa fb fn fr, ((ad 2), .inl (d 0, 110, .inl TP))]) (rest := []) [.int q2] hX cx hw hl.1 (mX9_kindOf l X hX D d q2 q3 hcq3) (lw_S q1381 q1382 q94 q1383) hd_X9_kindOf ⟨Nat.le_of_ble_eq_true rfl, Nat.le_of_ble_eq_true rfl⟩ rfl rfl (Nat.le_of_ble_eq_true rfl) dX9_takesDish_13 [] [0, 1, 2] rfl rfl rfl rfl (by decide) ⟨(Nat.le_of_ble_eq_true rfl), (Nat.le_of_ble_eq_true rfl)⟩ (fun r u H locs hp hw => ?_)
  have hw : Wd D A s [((ad 1), .inl (d 0, 1247, .inl Ww)), oM ad fu ft ff fs fa fb fn fr, ((ad 2), .inl (d 0, 110, .inl TP))] H locs := hw
  subst r
  refine lv_istore_n (lv' := [(2, .int q3), (1, .int v1), (0, .ref (ad 0))]) hx hb dX9_takesDish_16 rfl hl (by decide) rfl (fun ls hl => ?_)
  refine lv_iload_n hx hb dX9_takesDish_17 rfl (lv_at hl 0 rfl) ?_
  refine lv_if_ne (tgt := 31) hx hb dX9_takesDish_18 (by decide) (fun c18 => ?_) (fun c18 => ?_)
  · have hf := if_f hf c18
    refine lv_iload_n hx hb dX9_takesDish_31 rfl (lv_at hl 1 rfl) ?_
    refine lv_bipush (v := 6) hx hb dX9_takesDish_32 (by decide) ?_
    refine lv_icmp_ne (tgt := 47) hx hb dX9_takesDish_34 (by decide) (fun c34 => ?_) (fun c34 => ?_)
    · have hf := if_f hf c34
      refine lv_aload_n hx hb dX9_takesDish_47 rfl (lv_at hl 2 rfl) ?_
      refine lv_dup hx hb dX9_takesDish_48 rfl ?_
      refine va_get (ci := 0) (C := RX9) (T := TX9) (N := 19) hx hb hts in_X9 hown hK hw.1 1 rfl rfl 10 (by decide) (hts _ q1258) (fun _ h9 => h9) rfl dX9_takesDish_49 ?_
      refine lv_iconst (v := 1) hx hb dX9_takesDish_52 (by decide) ?_
      refine lv_iadd hx hb dX9_takesDish_53 ?_
      refine va_put (ci := 0) (v := .int (fa + 1)) (ty := .int) (C := RX9) (T := TX9) (N := 19) hx hb hts in_X9 tyX9 tyX9_ok nmX9 hown hK hw.1 hw.2.1 hw.2.2 1 rfl rfl 10 (by decide) (hts _ q1258) (fun _ h9 => h9) rfl (by decide +kernel) rfl rfl (Nat.le_of_ble_eq_true rfl) dX9_takesDish_54 (fun H locs hP hD hS => ?_)
      have hw : Wd D A s [((ad 1), .inl (d 0, 1247, .inl Ww)), oM ad fu ft ff fs (fa + 1) fb fn fr, ((ad 2), .inl (d 0, 110, .inl TP))] H locs := ⟨hP, hD, hS⟩
      refine lv_aload_n hx hb dX9_takesDish_57 rfl (lv_at hl 2 rfl) ?_
      refine va_get (ci := 0) (C := RX9) (T := TX9) (N := 19) hx hb hts in_X9 hown hK hw.1 1 rfl rfl 0 (by decide) (hts _ q1248) (fun _ h9 => h9) rfl dX9_takesDish_58 ?_
      refine lv_sipush (v := 179) hx hb dX9_takesDish_61 (by decide) ?_
      refine lv_iload_n hx hb dX9_takesDish_64 rfl (lv_at hl 1 rfl) ?_
      refine lv_iadd hx hb dX9_takesDish_65 ?_
      refine lv_iload_n hx hb dX9_takesDish_66 rfl (lv_at hl 0 rfl) ?_
      obtain ⟨w8, hv, hf⟩ := op_e hf
      refine x_iast (q0 := 0) cx hw rfl hv dX9_takesDish_67 (fun H locs hw => ?_)
      have hw : Wd D A s [((ad 1), .inl (d 0, 1247, .inl w8)), oM ad fu ft ff fs (fa + 1) fb fn fr, ((ad 2), .inl (d 0, 110, .inl TP))] H locs := hw
      refine lv_aload_n hx hb dX9_takesDish_68 rfl (lv_at hl 2 rfl) ?_
      refine lv_iconst (v := 0) hx hb dX9_takesDish_69 (by decide) ?_
      refine lv_aload_n hx hb dX9_takesDish_70 rfl (lv_at hl 2 rfl) ?_
      refine va_get (ci := 0) (C := RX9) (T := TX9) (N := 19) hx hb hts in_X9 hown hK hw.1 1 rfl rfl 0 (by decide) (hts _ q1248) (fun _ h9 => h9) rfl dX9_takesDish_71 ?_
      refine lv_sipush (v := 173) hx hb dX9_takesDish_74 (by decide) ?_
      obtain ⟨v9, hv, hf⟩ := op_e hf
      refine x_iald (q0 := 0) cx hw rfl hv dX9_takesDish_77 ?_
      refine lv_iconst (v := 1) hx hb dX9_takesDish_78 (by decide) ?_
      refine lv_isub hx hb dX9_takesDish_79 ?_
      obtain ⟨q10, hcq10, hf⟩ := op_e hf
      refine x_VI (wr := [((ad 1), .inl (d 0, 1247, .inl w8))]) (rest := []) [.int 0, .int (v9 - 1)] hX cx hw hl.1 (mX9_takesNumber l X hX D d ad fu ft ff fs (fa + 1) fb fn fr TP 0 (v9 - 1) q10 hcq10) (lw_V q1371 q1373 qs43 q94 q1374) hd_X9_takesNumber ⟨Nat.le_of_ble_eq_true rfl, Nat.le_of_ble_eq_true rfl⟩ (va_recv hK hw.1 (ci := 0) (q0 := 1) rfl rfl) rfl rfl (Nat.le_of_ble_eq_true rfl) dX9_takesDish_80 [1, 2] [0] rfl rfl rfl rfl (by decide) ⟨(Nat.le_of_ble_eq_true rfl), (Nat.le_of_ble_eq_true rfl)⟩ (fun r u H locs hp hw => ?_)
      have hw : Wd D A s [((ad 1), .inl (d 0, 1247, .inl w8)), oM ad fu ft q10.2.1 fs q10.2.2.1 q10.2.2.2.1 q10.2.2.2.2 fr, ((ad 2), .inl (d 0, 110, .inl TP))] H locs := hw
      subst r
      refine lv_if_ne (tgt := 88) hx hb dX9_takesDish_83 (by decide) (fun c83 => ?_) (fun c83 => ?_)
      · have hf := if_f hf c83
        refine lv_aload_n hx hb dX9_takesDish_88 rfl (lv_at hl 2 rfl) ?_
        refine va_get (ci := 0) (C := RX9) (T := TX9) (N := 19) hx hb hts in_X9 hown hK hw.1 1 rfl rfl 0 (by decide) (hts _ q1248) (fun _ h9 => h9) rfl dX9_takesDish_89 ?_
        refine lv_sipush (v := 185) hx hb dX9_takesDish_92 (by decide) ?_
        refine lv_iload_n hx hb dX9_takesDish_95 rfl (lv_at hl 1 rfl) ?_
        refine lv_iadd hx hb dX9_takesDish_96 ?_
        refine lv_aload_n hx hb dX9_takesDish_97 rfl (lv_at hl 2 rfl) ?_
        refine va_get (ci := 0) (C := RX9) (T := TX9) (N := 19) hx hb hts in_X9 hown hK hw.1 1 rfl rfl 12 (by decide) (hts _ q1260) (fun _ h9 => h9) rfl dX9_takesDish_98 ?_
        obtain ⟨w11, hv, hf⟩ := op_e hf
        refine x_iast (q0 := 0) cx hw rfl hv dX9_takesDish_101 (fun H locs hw => ?_)
        have hw : Wd D A s [((ad 1), .inl (d 0, 1247, .inl w11)), oM ad fu ft q10.2.1 fs q10.2.2.1 q10.2.2.2.1 q10.2.2.2.2 fr, ((ad 2), .inl (d 0, 110, .inl TP))] H locs := hw
        refine lv_aload_n hx hb dX9_takesDish_102 rfl (lv_at hl 2 rfl) ?_
        refine lv_bipush (v := 44) hx hb dX9_takesDish_103 (by decide) ?_
        obtain ⟨q12, hcq12, hf⟩ := op_e hf
        refine x_VI (wr := [((ad 1), .inl (d 0, 1247, .inl w11))]) (rest := []) [.int 44] hX cx hw hl.1 (mX9_takes l X hX D d ad fu ft q10.2.1 fs q10.2.2.1 q10.2.2.2.1 q10.2.2.2.2 fr TP 44 q12 hcq12) (lw_V q1359 q1361 qs40 q94 q1362) hd_X9_takes ⟨Nat.le_of_ble_eq_true rfl, Nat.le_of_ble_eq_true rfl⟩ (va_recv hK hw.1 (ci := 0) (q0 := 1) rfl rfl) rfl rfl (Nat.le_of_ble_eq_true rfl) dX9_takesDish_105 [1, 2] [0] rfl rfl rfl rfl (by decide) ⟨(Nat.le_of_ble_eq_true rfl), (Nat.le_of_ble_eq_true rfl)⟩ (fun r u H locs hp hw => ?_)
        have hw : Wd D A s [((ad 1), .inl (d 0, 1247, .inl w11)), oM ad fu ft q12.2.1 fs q12.2.2.1 q12.2.2.2 q10.2.2.2.2 fr, ((ad 2), .inl (d 0, 110, .inl TP))] H locs := hw
        subst r
        refine lv_if_eq (tgt := 129) hx hb dX9_takesDish_108 (by decide) (fun c108 => ?_) (fun c108 => ?_)
        · have hf := if_t hf c108
          refine lv_iconst (v := 0) hx hb dX9_takesDish_129 (by decide) ?_
          have hf := sm_e hf
          subst hf
          exact x_retI cx hw rfl () rfl [1, 0, 2] rfl rfl (Nat.le_of_ble_eq_true rfl) (Nat.le_of_ble_eq_true rfl) dX9_takesDish_130
        · have hf := if_f hf c108
          refine lv_aload_n hx hb dX9_takesDish_111 rfl (lv_at hl 2 rfl) ?_
          refine lv_iconst (v := 0) hx hb dX9_takesDish_112 (by decide) ?_
          refine lv_aload_n hx hb dX9_takesDish_113 rfl (lv_at hl 2 rfl) ?_
          refine va_get (ci := 0) (C := RX9) (T := TX9) (N := 19) hx hb hts in_X9 hown hK hw.1 1 rfl rfl 0 (by decide) (hts _ q1248) (fun _ h9 => h9) rfl dX9_takesDish_114 ?_
          refine lv_sipush (v := 173) hx hb dX9_takesDish_117 (by decide) ?_
          obtain ⟨v13, hv, hf⟩ := op_e hf
          refine x_iald (q0 := 0) cx hw rfl hv dX9_takesDish_120 ?_
          refine lv_iconst (v := 1) hx hb dX9_takesDish_121 (by decide) ?_
          refine lv_isub hx hb dX9_takesDish_122 ?_
          obtain ⟨q14, hcq14, hf⟩ := op_e hf
          refine x_VI (wr := [((ad 1), .inl (d 0, 1247, .inl w11))]) (rest := []) [.int 0, .int (v13 - 1)] hX cx hw hl.1 (mX9_takesNumber l X hX D d ad fu ft q12.2.1 fs q12.2.2.1 q12.2.2.2 q10.2.2.2.2 fr TP 0 (v13 - 1) q14 hcq14) (lw_V q1371 q1373 qs43 q94 q1374) hd_X9_takesNumber ⟨Nat.le_of_ble_eq_true rfl, Nat.le_of_ble_eq_true rfl⟩ (va_recv hK hw.1 (ci := 0) (q0 := 1) rfl rfl) rfl rfl (Nat.le_of_ble_eq_true rfl) dX9_takesDish_123 [1, 2] [0] rfl rfl rfl rfl (by decide) ⟨(Nat.le_of_ble_eq_true rfl), (Nat.le_of_ble_eq_true rfl)⟩ (fun r u H locs hp hw => ?_)
          have hw : Wd D A s [((ad 1), .inl (d 0, 1247, .inl w11)), oM ad fu ft q14.2.1 fs q14.2.2.1 q14.2.2.2.1 q14.2.2.2.2 fr, ((ad 2), .inl (d 0, 110, .inl TP))] H locs := hw
          subst r
          refine lv_if_ne (tgt := 131) hx hb dX9_takesDish_126 (by decide) (fun c126 => ?_) (fun c126 => ?_)
          · have hf := if_f hf c126
            refine lv_aload_n hx hb dX9_takesDish_131 rfl (lv_at hl 2 rfl) ?_
            refine va_get (ci := 0) (C := RX9) (T := TX9) (N := 19) hx hb hts in_X9 hown hK hw.1 1 rfl rfl 0 (by decide) (hts _ q1248) (fun _ h9 => h9) rfl dX9_takesDish_132 ?_
            refine lv_sipush (v := 191) hx hb dX9_takesDish_135 (by decide) ?_
            refine lv_iload_n hx hb dX9_takesDish_138 rfl (lv_at hl 1 rfl) ?_
            refine lv_iadd hx hb dX9_takesDish_139 ?_
            refine lv_aload_n hx hb dX9_takesDish_140 rfl (lv_at hl 2 rfl) ?_
            refine va_get (ci := 0) (C := RX9) (T := TX9) (N := 19) hx hb hts in_X9 hown hK hw.1 1 rfl rfl 12 (by decide) (hts _ q1260) (fun _ h9 => h9) rfl dX9_takesDish_141 ?_
            obtain ⟨w15, hv, hf⟩ := op_e hf
            refine x_iast (q0 := 0) cx hw rfl hv dX9_takesDish_144 (fun H locs hw => ?_)
            have hw : Wd D A s [((ad 1), .inl (d 0, 1247, .inl w15)), oM ad fu ft q14.2.1 fs q14.2.2.1 q14.2.2.2.1 q14.2.2.2.2 fr, ((ad 2), .inl (d 0, 110, .inl TP))] H locs := hw
            refine lv_aload_n hx hb dX9_takesDish_145 rfl (lv_at hl 2 rfl) ?_
            refine lv_bipush (v := 44) hx hb dX9_takesDish_146 (by decide) ?_
            obtain ⟨q16, hcq16, hf⟩ := op_e hf
            refine x_VI (wr := [((ad 1), .inl (d 0, 1247, .inl w15))]) (rest := []) [.int 44] hX cx hw hl.1 (mX9_takes l X hX D d ad fu ft q14.2.1 fs q14.2.2.1 q14.2.2.2.1 q14.2.2.2.2 fr TP 44 q16 hcq16) (lw_V q1359 q1361 qs40 q94 q1362) hd_X9_takes ⟨Nat.le_of_ble_eq_true rfl, Nat.le_of_ble_eq_true rfl⟩ (va_recv hK hw.1 (ci := 0) (q0 := 1) rfl rfl) rfl rfl (Nat.le_of_ble_eq_true rfl) dX9_takesDish_148 [1, 2] [0] rfl rfl rfl rfl (by decide) ⟨(Nat.le_of_ble_eq_true rfl), (Nat.le_of_ble_eq_true rfl)⟩ (fun r u H locs hp hw => ?_)
            have hw : Wd D A s [((ad 1), .inl (d 0, 1247, .inl w15)), oM ad fu ft q16.2.1 fs q16.2.2.1 q16.2.2.2 q14.2.2.2.2 fr, ((ad 2), .inl (d 0, 110, .inl TP))] H locs := hw
            subst r
            refine lv_if_eq (tgt := 164) hx hb dX9_takesDish_151 (by decide) (fun c151 => ?_) (fun c151 => ?_)
            · have hf := if_t hf c151
              refine lv_iconst (v := 0) hx hb dX9_takesDish_164 (by decide) ?_
              have hf := sm_e hf
              subst hf
              exact x_retI cx hw rfl () rfl [1, 0, 2] rfl rfl (Nat.le_of_ble_eq_true rfl) (Nat.le_of_ble_eq_true rfl) dX9_takesDish_165
            · have hf := if_f hf c151
              refine lv_aload_n hx hb dX9_takesDish_154 rfl (lv_at hl 2 rfl) ?_
              refine lv_iconst (v := 1) hx hb dX9_takesDish_155 (by decide) ?_
              refine lv_bipush (v := 9) hx hb dX9_takesDish_156 (by decide) ?_
              obtain ⟨q17, hcq17, hf⟩ := op_e hf
              refine x_VI (wr := [((ad 1), .inl (d 0, 1247, .inl w15))]) (rest := []) [.int 1, .int 9] hX cx hw hl.1 (mX9_takesNumber l X hX D d ad fu ft q16.2.1 fs q16.2.2.1 q16.2.2.2 q14.2.2.2.2 fr TP 1 9 q17 hcq17) (lw_V q1371 q1373 qs43 q94 q1374) hd_X9_takesNumber ⟨Nat.le_of_ble_eq_true rfl, Nat.le_of_ble_eq_true rfl⟩ (va_recv hK hw.1 (ci := 0) (q0 := 1) rfl rfl) rfl rfl (Nat.le_of_ble_eq_true rfl) dX9_takesDish_158 [1, 2] [0] rfl rfl rfl rfl (by decide) ⟨(Nat.le_of_ble_eq_true rfl), (Nat.le_of_ble_eq_true rfl)⟩ (fun r u H locs hp hw => ?_)
              have hw : Wd D A s [((ad 1), .inl (d 0, 1247, .inl w15)), oM ad fu ft q17.2.1 fs q17.2.2.1 q17.2.2.2.1 q17.2.2.2.2 fr, ((ad 2), .inl (d 0, 110, .inl TP))] H locs := hw
              subst r
              refine lv_if_ne (tgt := 166) hx hb dX9_takesDish_161 (by decide) (fun c161 => ?_) (fun c161 => ?_)
              · have hf := if_f hf c161
                refine lv_aload_n hx hb dX9_takesDish_166 rfl (lv_at hl 2 rfl) ?_
                refine va_get (ci := 0) (C := RX9) (T := TX9) (N := 19) hx hb hts in_X9 hown hK hw.1 1 rfl rfl 0 (by decide) (hts _ q1248) (fun _ h9 => h9) rfl dX9_takesDish_167 ?_
                refine lv_sipush (v := 197) hx hb dX9_takesDish_170 (by decide) ?_
                refine lv_iload_n hx hb dX9_takesDish_173 rfl (lv_at hl 1 rfl) ?_
                refine lv_iadd hx hb dX9_takesDish_174 ?_
                refine lv_aload_n hx hb dX9_takesDish_175 rfl (lv_at hl 2 rfl) ?_
                refine va_get (ci := 0) (C := RX9) (T := TX9) (N := 19) hx hb hts in_X9 hown hK hw.1 1 rfl rfl 12 (by decide) (hts _ q1260) (fun _ h9 => h9) rfl dX9_takesDish_176 ?_
                obtain ⟨w18, hv, hf⟩ := op_e hf
                refine x_iast (q0 := 0) cx hw rfl hv dX9_takesDish_179 (fun H locs hw => ?_)
                have hw : Wd D A s [((ad 1), .inl (d 0, 1247, .inl w18)), oM ad fu ft q17.2.1 fs q17.2.2.1 q17.2.2.2.1 q17.2.2.2.2 fr, ((ad 2), .inl (d 0, 110, .inl TP))] H locs := hw
                refine lv_aload_n hx hb dX9_takesDish_180 rfl (lv_at hl 2 rfl) ?_
                refine lv_bipush (v := 44) hx hb dX9_takesDish_181 (by decide) ?_
                obtain ⟨q19, hcq19, hf⟩ := op_e hf
                refine x_VI (wr := [((ad 1), .inl (d 0, 1247, .inl w18))]) (rest := []) [.int 44] hX cx hw hl.1 (mX9_takes l X hX D d ad fu ft q17.2.1 fs q17.2.2.1 q17.2.2.2.1 q17.2.2.2.2 fr TP 44 q19 hcq19) (lw_V q1359 q1361 qs40 q94 q1362) hd_X9_takes ⟨Nat.le_of_ble_eq_true rfl, Nat.le_of_ble_eq_true rfl⟩ (va_recv hK hw.1 (ci := 0) (q0 := 1) rfl rfl) rfl rfl (Nat.le_of_ble_eq_true rfl) dX9_takesDish_183 [1, 2] [0] rfl rfl rfl rfl (by decide) ⟨(Nat.le_of_ble_eq_true rfl), (Nat.le_of_ble_eq_true rfl)⟩ (fun r u H locs hp hw => ?_)
                have hw : Wd D A s [((ad 1), .inl (d 0, 1247, .inl w18)), oM ad fu ft q19.2.1 fs q19.2.2.1 q19.2.2.2 q17.2.2.2.2 fr, ((ad 2), .inl (d 0, 110, .inl TP))] H locs := hw
                subst r
                refine lv_if_eq (tgt := 199) hx hb dX9_takesDish_186 (by decide) (fun c186 => ?_) (fun c186 => ?_)
                · have hf := if_t hf c186
                  refine lv_iconst (v := 0) hx hb dX9_takesDish_199 (by decide) ?_
                  have hf := sm_e hf
                  subst hf
                  exact x_retI cx hw rfl () rfl [1, 0, 2] rfl rfl (Nat.le_of_ble_eq_true rfl) (Nat.le_of_ble_eq_true rfl) dX9_takesDish_200
                · have hf := if_f hf c186
                  refine lv_aload_n hx hb dX9_takesDish_189 rfl (lv_at hl 2 rfl) ?_
                  refine lv_iconst (v := 0) hx hb dX9_takesDish_190 (by decide) ?_
                  refine lv_bipush (v := 60) hx hb dX9_takesDish_191 (by decide) ?_
                  obtain ⟨q20, hcq20, hf⟩ := op_e hf
                  refine x_VI (wr := [((ad 1), .inl (d 0, 1247, .inl w18))]) (rest := []) [.int 0, .int 60] hX cx hw hl.1 (mX9_takesNumber l X hX D d ad fu ft q19.2.1 fs q19.2.2.1 q19.2.2.2 q17.2.2.2.2 fr TP 0 60 q20 hcq20) (lw_V q1371 q1373 qs43 q94 q1374) hd_X9_takesNumber ⟨Nat.le_of_ble_eq_true rfl, Nat.le_of_ble_eq_true rfl⟩ (va_recv hK hw.1 (ci := 0) (q0 := 1) rfl rfl) rfl rfl (Nat.le_of_ble_eq_true rfl) dX9_takesDish_193 [1, 2] [0] rfl rfl rfl rfl (by decide) ⟨(Nat.le_of_ble_eq_true rfl), (Nat.le_of_ble_eq_true rfl)⟩ (fun r u H locs hp hw => ?_)
                  have hw : Wd D A s [((ad 1), .inl (d 0, 1247, .inl w18)), oM ad fu ft q20.2.1 fs q20.2.2.1 q20.2.2.2.1 q20.2.2.2.2 fr, ((ad 2), .inl (d 0, 110, .inl TP))] H locs := hw
                  subst r
                  refine lv_if_ne (tgt := 201) hx hb dX9_takesDish_196 (by decide) (fun c196 => ?_) (fun c196 => ?_)
                  · have hf := if_f hf c196
                    refine lv_aload_n hx hb dX9_takesDish_201 rfl (lv_at hl 2 rfl) ?_
                    refine va_get (ci := 0) (C := RX9) (T := TX9) (N := 19) hx hb hts in_X9 hown hK hw.1 1 rfl rfl 0 (by decide) (hts _ q1248) (fun _ h9 => h9) rfl dX9_takesDish_202 ?_
                    refine lv_sipush (v := 203) hx hb dX9_takesDish_205 (by decide) ?_
                    refine lv_iload_n hx hb dX9_takesDish_208 rfl (lv_at hl 1 rfl) ?_
                    refine lv_iadd hx hb dX9_takesDish_209 ?_
                    refine lv_aload_n hx hb dX9_takesDish_210 rfl (lv_at hl 2 rfl) ?_
                    refine va_get (ci := 0) (C := RX9) (T := TX9) (N := 19) hx hb hts in_X9 hown hK hw.1 1 rfl rfl 12 (by decide) (hts _ q1260) (fun _ h9 => h9) rfl dX9_takesDish_211 ?_
                    obtain ⟨w21, hv, hf⟩ := op_e hf
                    refine x_iast (q0 := 0) cx hw rfl hv dX9_takesDish_214 (fun H locs hw => ?_)
                    have hw : Wd D A s [((ad 1), .inl (d 0, 1247, .inl w21)), oM ad fu ft q20.2.1 fs q20.2.2.1 q20.2.2.2.1 q20.2.2.2.2 fr, ((ad 2), .inl (d 0, 110, .inl TP))] H locs := hw
                    refine lv_aload_n hx hb dX9_takesDish_215 rfl (lv_at hl 2 rfl) ?_
                    refine va_get (ci := 0) (C := RX9) (T := TX9) (N := 19) hx hb hts in_X9 hown hK hw.1 1 rfl rfl 0 (by decide) (hts _ q1248) (fun _ h9 => h9) rfl dX9_takesDish_216 ?_
                    refine lv_sipush (v := 209) hx hb dX9_takesDish_219 (by decide) ?_
                    refine lv_iload_n hx hb dX9_takesDish_222 rfl (lv_at hl 1 rfl) ?_
                    refine lv_iadd hx hb dX9_takesDish_223 ?_
                    refine lv_iload_n hx hb dX9_takesDish_224 rfl (lv_at hl 1 rfl) ?_
                    obtain ⟨w22, hv, hf⟩ := op_e hf
                    refine x_iast (q0 := 0) cx hw rfl hv dX9_takesDish_225 (fun H locs hw => ?_)
                    have hw : Wd D A s [((ad 1), .inl (d 0, 1247, .inl w22)), oM ad fu ft q20.2.1 fs q20.2.2.1 q20.2.2.2.1 q20.2.2.2.2 fr, ((ad 2), .inl (d 0, 110, .inl TP))] H locs := hw
                    refine lv_aload_n hx hb dX9_takesDish_226 rfl (lv_at hl 2 rfl) ?_
                    refine va_get (ci := 0) (C := RX9) (T := TX9) (N := 19) hx hb hts in_X9 hown hK hw.1 1 rfl rfl 0 (by decide) (hts _ q1248) (fun _ h9 => h9) rfl dX9_takesDish_227 ?_
                    refine lv_sipush (v := 172) hx hb dX9_takesDish_230 (by decide) ?_
                    refine lv_dup2_11 hx hb dX9_takesDish_233 rfl rfl ?_
                    obtain ⟨v23, hv, hf⟩ := op_e hf
                    refine x_iald (q0 := 0) cx hw rfl hv dX9_takesDish_234 ?_
                    refine lv_iconst (v := 1) hx hb dX9_takesDish_235 (by decide) ?_
                    refine lv_iadd hx hb dX9_takesDish_236 ?_
                    obtain ⟨w24, hv, hf⟩ := op_e hf
                    refine x_iast (q0 := 0) cx hw rfl hv dX9_takesDish_237 (fun H locs hw => ?_)
                    have hw : Wd D A s [((ad 1), .inl (d 0, 1247, .inl w24)), oM ad fu ft q20.2.1 fs q20.2.2.1 q20.2.2.2.1 q20.2.2.2.2 fr, ((ad 2), .inl (d 0, 110, .inl TP))] H locs := hw
                    refine lv_aload_n hx hb dX9_takesDish_238 rfl (lv_at hl 2 rfl) ?_
                    refine lv_bipush (v := 59) hx hb dX9_takesDish_239 (by decide) ?_
                    obtain ⟨q25, hcq25, hf⟩ := op_e hf
                    refine x_VI (wr := [((ad 1), .inl (d 0, 1247, .inl w24))]) (rest := []) [.int 59] hX cx hw hl.1 (mX9_takes l X hX D d ad fu ft q20.2.1 fs q20.2.2.1 q20.2.2.2.1 q20.2.2.2.2 fr TP 59 q25 hcq25) (lw_V q1359 q1361 qs40 q94 q1362) hd_X9_takes ⟨Nat.le_of_ble_eq_true rfl, Nat.le_of_ble_eq_true rfl⟩ (va_recv hK hw.1 (ci := 0) (q0 := 1) rfl rfl) rfl rfl (Nat.le_of_ble_eq_true rfl) dX9_takesDish_241 [1, 2] [0] rfl rfl rfl rfl (by decide) ⟨(Nat.le_of_ble_eq_true rfl), (Nat.le_of_ble_eq_true rfl)⟩ (fun r u H locs hp hw => ?_)
                    have hw : Wd D A s [((ad 1), .inl (d 0, 1247, .inl w24)), oM ad fu ft q25.2.1 fs q25.2.2.1 q25.2.2.2 q20.2.2.2.2 fr, ((ad 2), .inl (d 0, 110, .inl TP))] H locs := hw
                    subst r
                    obtain ⟨g26, hgb, hf⟩ := op_e hf
                    have hf := sm_e hf
                    subst hf
                    exact x_retI cx hw (gb_spec hgb) () rfl [1, 0, 2] rfl rfl (Nat.le_of_ble_eq_true rfl) (Nat.le_of_ble_eq_true rfl) dX9_takesDish_244
                  · have hf := if_t hf c196
                    refine lv_iconst (v := 0) hx hb dX9_takesDish_199 (by decide) ?_
                    have hf := sm_e hf
                    subst hf
                    exact x_retI cx hw rfl () rfl [1, 0, 2] rfl rfl (Nat.le_of_ble_eq_true rfl) (Nat.le_of_ble_eq_true rfl) dX9_takesDish_200
              · have hf := if_t hf c161
                refine lv_iconst (v := 0) hx hb dX9_takesDish_164 (by decide) ?_
                have hf := sm_e hf
                subst hf
                exact x_retI cx hw rfl () rfl [1, 0, 2] rfl rfl (Nat.le_of_ble_eq_true rfl) (Nat.le_of_ble_eq_true rfl) dX9_takesDish_165
          · have hf := if_t hf c126
            refine lv_iconst (v := 0) hx hb dX9_takesDish_129 (by decide) ?_
            have hf := sm_e hf
            subst hf
            exact x_retI cx hw rfl () rfl [1, 0, 2] rfl rfl (Nat.le_of_ble_eq_true rfl) (Nat.le_of_ble_eq_true rfl) dX9_takesDish_130
      · have hf := if_t hf c83
        refine lv_iconst (v := 0) hx hb dX9_takesDish_86 (by decide) ?_
        have hf := sm_e hf
        subst hf
        exact x_retI cx hw rfl () rfl [1, 0, 2] rfl rfl (Nat.le_of_ble_eq_true rfl) (Nat.le_of_ble_eq_true rfl) dX9_takesDish_87
    · have hf := if_t hf c34
      refine lv_aload_n hx hb dX9_takesDish_37 rfl (lv_at hl 2 rfl) ?_
      refine lv_iconst (v := 3) hx hb dX9_takesDish_38 (by decide) ?_
      refine lv_aload_n hx hb dX9_takesDish_39 rfl (lv_at hl 2 rfl) ?_
      refine va_get (ci := 0) (C := RX9) (T := TX9) (N := 19) hx hb hts in_X9 hown hK hw.1 1 rfl rfl 10 (by decide) (hts _ q1258) (fun _ h9 => h9) rfl dX9_takesDish_40 ?_
      obtain ⟨q6, hcq6, hf⟩ := op_e hf
      refine x_VI (wr := [((ad 1), .inl (d 0, 1247, .inl Ww)), ((ad 2), .inl (d 0, 110, .inl TP))]) (rest := []) [.int 3, .int fa] hX cx hw hl.1 (mX9_fails l X hX D d ad fu ft ff fs fa fb fn fr 3 fa q6 hcq6) (lw_V q1367 q1369 qs42 q94 q1370) hd_X9_fails ⟨Nat.le_of_ble_eq_true rfl, Nat.le_of_ble_eq_true rfl⟩ (va_recv hK hw.1 (ci := 0) (q0 := 1) rfl rfl) rfl rfl (Nat.le_of_ble_eq_true rfl) dX9_takesDish_43 [1] [0, 2] rfl rfl rfl rfl (by decide) ⟨(Nat.le_of_ble_eq_true rfl), (Nat.le_of_ble_eq_true rfl)⟩ (fun r u H locs hp hw => ?_)
      have hw : Wd D A s [((ad 1), .inl (d 0, 1247, .inl Ww)), ((ad 2), .inl (d 0, 110, .inl TP)), oM ad fu ft q6.2.1 fs fa q6.2.2 fn fr] H locs := hw
      subst r
      obtain ⟨g7, hgb, hf⟩ := op_e hf
      have hf := sm_e hf
      subst hf
      exact x_retI cx hw (gb_spec hgb) () rfl [2, 0, 1] rfl rfl (Nat.le_of_ble_eq_true rfl) (Nat.le_of_ble_eq_true rfl) dX9_takesDish_46
  · have hf := if_t hf c18
    refine lv_aload_n hx hb dX9_takesDish_21 rfl (lv_at hl 2 rfl) ?_
    refine lv_iconst (v := 1) hx hb dX9_takesDish_22 (by decide) ?_
    refine lv_aload_n hx hb dX9_takesDish_23 rfl (lv_at hl 2 rfl) ?_
    refine va_get (ci := 0) (C := RX9) (T := TX9) (N := 19) hx hb hts in_X9 hown hK hw.1 1 rfl rfl 10 (by decide) (hts _ q1258) (fun _ h9 => h9) rfl dX9_takesDish_24 ?_
    obtain ⟨q4, hcq4, hf⟩ := op_e hf
    refine x_VI (wr := [((ad 1), .inl (d 0, 1247, .inl Ww)), ((ad 2), .inl (d 0, 110, .inl TP))]) (rest := []) [.int 1, .int fa] hX cx hw hl.1 (mX9_fails l X hX D d ad fu ft ff fs fa fb fn fr 1 fa q4 hcq4) (lw_V q1367 q1369 qs42 q94 q1370) hd_X9_fails ⟨Nat.le_of_ble_eq_true rfl, Nat.le_of_ble_eq_true rfl⟩ (va_recv hK hw.1 (ci := 0) (q0 := 1) rfl rfl) rfl rfl (Nat.le_of_ble_eq_true rfl) dX9_takesDish_27 [1] [0, 2] rfl rfl rfl rfl (by decide) ⟨(Nat.le_of_ble_eq_true rfl), (Nat.le_of_ble_eq_true rfl)⟩ (fun r u H locs hp hw => ?_)
    have hw : Wd D A s [((ad 1), .inl (d 0, 1247, .inl Ww)), ((ad 2), .inl (d 0, 110, .inl TP)), oM ad fu ft q4.2.1 fs fa q4.2.2 fn fr] H locs := hw
    subst r
    obtain ⟨g5, hgb, hf⟩ := op_e hf
    have hf := sm_e hf
    subst hf
    exact x_retI cx hw (gb_spec hgb) () rfl [2, 0, 1] rfl rfl (Nat.le_of_ble_eq_true rfl) (Nat.le_of_ble_eq_true rfl) dX9_takesDish_30
theorem hd_X9_takesAll : yX9_takesAll.cls = "DishLiftModel" ∧ yX9_takesAll.cls ≠ "java/lang/invoke/MethodHandle" ∧ yX9_takesAll.cls ≠ "java/lang/invoke/VarHandle" ∧ (parseMethodDescriptor yX9_takesAll.desc).map (fun d => d.parameters.length) = some 0 := by decide +kernel
set_option maxHeartbeats 4000000 in
theorem mX9_takesAll (l : Launch) (X : XT) (hX : XOK X) (D : va_G) (d : Nat → ClassId) (ad : Nat → Nat) (fu : Int32) (ft : Int32) (ff : Int32) (fs : Int32) (fa : Int32) (fb : Int32) (fn : Int32) (fr : Int32) (Ww : Nat → Int32) (TP : Nat → Int32) (res : Int32 × Int32 × Int32 × Int32 × Int32 × (Nat → Int32)) (hf : fX9_takesAll Ww TP ft ff fa fb fn = some res) : MetI l yX9_takesAll (ws_ yX9_takesAll cX9_takesAll 1 (some .boolean)) { frames := 3, cells := 0, slots := 0, locals := 70 } [.ref (ad 0)] X D d [oM ad fu ft ff fs fa fb fn fr, ((ad 1), .inl (d 0, 1247, .inl Ww)), ((ad 2), .inl (d 0, 110, .inl TP))] (fun r (_ : Unit) => r = res.1) (fun _ => [oM ad fu ft res.2.1 fs res.2.2.1 res.2.2.2.1 res.2.2.2.2.1 fr, ((ad 1), .inl (d 0, 1247, .inl res.2.2.2.2.2)), ((ad 2), .inl (d 0, 110, .inl TP))]) := by
  refine MetI.of (by decide +kernel) (Nat.le_of_ble_eq_true rfl) ?_
  intro p e s m below meth c A cx hw ls hl
  have cx : Cx p s m _ meth c X D d A "DishLiftModel" cX9_takesAll 1 (some .boolean) "takesAll" := cx
  have cx' := cx
  obtain ⟨hx, hb, hr, hlk, hml, hown, hts, hK, hA, hXs, hnm⟩ := cx'
  have hl : lv_has ls 1 [(0, .ref (ad 0))] := hl
  unfold fX9_takesAll at hf
  refine lv_aload_n hx hb dX9_takesAll_0 rfl (lv_at hl 0 rfl) ?_
  obtain ⟨q1, hcq1, hf⟩ := op_e hf
  refine x_VI (wr := []) (rest := []) [] hX cx hw hl.1 (mX9_takesLaw l X hX D d ad fu ft ff fs fa fb fn fr Ww TP q1 hcq1) (lw_V q1355 q1357 qs39 q94 q1358) hd_X9_takesLaw ⟨Nat.le_of_ble_eq_true rfl, Nat.le_of_ble_eq_true rfl⟩ (va_recv hK hw.1 (ci := 0) (q0 := 0) rfl rfl) rfl rfl (Nat.le_of_ble_eq_true rfl) dX9_takesAll_1 [0, 1, 2] [] rfl rfl rfl rfl (by decide) ⟨(Nat.le_of_ble_eq_true rfl), (Nat.le_of_ble_eq_true rfl)⟩ (fun r u H locs hp hw => ?_)
  have hw : Wd D A s [oM ad fu ft q1.2.1 fs q1.2.2.1 q1.2.2.2.1 q1.2.2.2.2.1 fr, ((ad 1), .inl (d 0, 1247, .inl q1.2.2.2.2.2)), ((ad 2), .inl (d 0, 110, .inl TP))] H locs := hw
  subst r
  refine lv_if_ne (tgt := 9) hx hb dX9_takesAll_4 (by decide) (fun c4 => ?_) (fun c4 => ?_)
  · have hf := if_f hf c4
    refine x_lp hf (fun x9 => [oM ad fu ft x9.1 fs x9.2.1 x9.2.2.1 x9.2.2.2.1 fr, ((ad 1), .inl (d 0, 1247, .inl x9.2.2.2.2)), ((ad 2), .inl (d 0, 110, .inl TP))]) (fun x9 => [(0, .ref (ad 0))]) hw hl (fun x9 y9 hf hin9 hout9 H locs ls hw hl => ?_)
    have hw : Wd D A s [oM ad fu ft x9.1 fs x9.2.1 x9.2.2.1 x9.2.2.2.1 fr, ((ad 1), .inl (d 0, 1247, .inl x9.2.2.2.2)), ((ad 2), .inl (d 0, 110, .inl TP))] H locs := hw
    have hl : lv_has ls 1 [(0, .ref (ad 0))] := hl
    refine lv_aload_n hx hb dX9_takesAll_9 rfl (lv_at hl 0 rfl) ?_
    refine va_get (ci := 0) (C := RX9) (T := TX9) (N := 19) hx hb hts in_X9 hown hK hw.1 0 rfl rfl 0 (by decide) (hts _ q1248) (fun _ h9 => h9) rfl dX9_takesAll_10 ?_
    refine lv_sipush (v := 172) hx hb dX9_takesAll_13 (by decide) ?_
    obtain ⟨v2, hv, hf⟩ := op_e hf
    refine x_iald (q0 := 1) cx hw rfl hv dX9_takesAll_16 ?_
    refine lv_if_eq (tgt := 31) hx hb dX9_takesAll_17 (by decide) (fun c17 => ?_) (fun c17 => ?_)
    · have hf := if_t hf c17
      refine lv_aload_n hx hb dX9_takesAll_31 rfl (lv_at hl 0 rfl) ?_
      obtain ⟨q3, hcq3, hf⟩ := op_e hf
      refine x_VI (wr := []) (rest := []) [] hX cx hw hl.1 (mX9_takesDish l X hX D d ad fu ft x9.1 fs x9.2.1 x9.2.2.1 x9.2.2.2.1 fr x9.2.2.2.2 TP q3 hcq3) (lw_V q1377 q1379 qs44 q94 q1380) hd_X9_takesDish ⟨Nat.le_of_ble_eq_true rfl, Nat.le_of_ble_eq_true rfl⟩ (va_recv hK hw.1 (ci := 0) (q0 := 0) rfl rfl) rfl rfl (Nat.le_of_ble_eq_true rfl) dX9_takesAll_32 [0, 1, 2] [] rfl rfl rfl rfl (by decide) ⟨(Nat.le_of_ble_eq_true rfl), (Nat.le_of_ble_eq_true rfl)⟩ (fun r u H locs hp hw => ?_)
      have hw : Wd D A s [oM ad fu ft q3.2.1 fs q3.2.2.1 q3.2.2.2.1 q3.2.2.2.2.1 fr, ((ad 1), .inl (d 0, 1247, .inl q3.2.2.2.2.2)), ((ad 2), .inl (d 0, 110, .inl TP))] H locs := hw
      subst r
      refine lv_if_ne (tgt := 9) hx hb dX9_takesAll_35 (by decide) (fun c35 => ?_) (fun c35 => ?_)
      · have hf := if_f hf c35
        have hf := sm_e hf
        subst hf
        exact hin9 _ rfl _ _ _ hw hl
      · have hf := if_t hf c35
        refine lv_iconst (v := 0) hx hb dX9_takesAll_38 (by decide) ?_
        have hf := sm_e hf
        subst hf
        have hz := hout9 _ rfl
        subst hz
        exact x_retI cx hw rfl () rfl [0, 1, 2] rfl rfl (Nat.le_of_ble_eq_true rfl) (Nat.le_of_ble_eq_true rfl) dX9_takesAll_39
    · have hf := if_f hf c17
      refine lv_aload_n hx hb dX9_takesAll_20 rfl (lv_at hl 0 rfl) ?_
      refine va_get (ci := 0) (C := RX9) (T := TX9) (N := 19) hx hb hts in_X9 hown hK hw.1 0 rfl rfl 10 (by decide) (hts _ q1258) (fun _ h9 => h9) rfl dX9_takesAll_21 ?_
      refine lv_aload_n hx hb dX9_takesAll_24 rfl (lv_at hl 0 rfl) ?_
      refine va_get (ci := 0) (C := RX9) (T := TX9) (N := 19) hx hb hts in_X9 hown hK hw.1 0 rfl rfl 3 (by decide) (hts _ q1251) (fun _ h9 => h9) rfl dX9_takesAll_25 ?_
      refine lv_icmp_ge (tgt := 40) hx hb dX9_takesAll_28 (by decide) (fun c28 => ?_) (fun c28 => ?_)
      · have hf := if_t hf c28
        refine lv_iconst (v := 1) hx hb dX9_takesAll_40 (by decide) ?_
        have hf := sm_e hf
        subst hf
        have hz := hout9 _ rfl
        subst hz
        exact x_retI cx hw rfl () rfl [0, 1, 2] rfl rfl (Nat.le_of_ble_eq_true rfl) (Nat.le_of_ble_eq_true rfl) dX9_takesAll_41
      · have hf := if_f hf c28
        refine lv_aload_n hx hb dX9_takesAll_31 rfl (lv_at hl 0 rfl) ?_
        obtain ⟨q4, hcq4, hf⟩ := op_e hf
        refine x_VI (wr := []) (rest := []) [] hX cx hw hl.1 (mX9_takesDish l X hX D d ad fu ft x9.1 fs x9.2.1 x9.2.2.1 x9.2.2.2.1 fr x9.2.2.2.2 TP q4 hcq4) (lw_V q1377 q1379 qs44 q94 q1380) hd_X9_takesDish ⟨Nat.le_of_ble_eq_true rfl, Nat.le_of_ble_eq_true rfl⟩ (va_recv hK hw.1 (ci := 0) (q0 := 0) rfl rfl) rfl rfl (Nat.le_of_ble_eq_true rfl) dX9_takesAll_32 [0, 1, 2] [] rfl rfl rfl rfl (by decide) ⟨(Nat.le_of_ble_eq_true rfl), (Nat.le_of_ble_eq_true rfl)⟩ (fun r u H locs hp hw => ?_)
        have hw : Wd D A s [oM ad fu ft q4.2.1 fs q4.2.2.1 q4.2.2.2.1 q4.2.2.2.2.1 fr, ((ad 1), .inl (d 0, 1247, .inl q4.2.2.2.2.2)), ((ad 2), .inl (d 0, 110, .inl TP))] H locs := hw
        subst r
        refine lv_if_ne (tgt := 9) hx hb dX9_takesAll_35 (by decide) (fun c35 => ?_) (fun c35 => ?_)
        · have hf := if_f hf c35
          have hf := sm_e hf
          subst hf
          exact hin9 _ rfl _ _ _ hw hl
        · have hf := if_t hf c35
          refine lv_iconst (v := 0) hx hb dX9_takesAll_38 (by decide) ?_
          have hf := sm_e hf
          subst hf
          have hz := hout9 _ rfl
          subst hz
          exact x_retI cx hw rfl () rfl [0, 1, 2] rfl rfl (Nat.le_of_ble_eq_true rfl) (Nat.le_of_ble_eq_true rfl) dX9_takesAll_39
  · have hf := if_t hf c4
    refine lv_iconst (v := 0) hx hb dX9_takesAll_7 (by decide) ?_
    have hf := sm_e hf
    subst hf
    exact x_retI cx hw rfl () rfl [0, 1, 2] rfl rfl (Nat.le_of_ble_eq_true rfl) (Nat.le_of_ble_eq_true rfl) dX9_takesAll_8
theorem hd_X9_copyOf : yX9_copyOf.cls = "DishLiftModel" ∧ yX9_copyOf.cls ≠ "java/lang/invoke/MethodHandle" ∧ yX9_copyOf.cls ≠ "java/lang/invoke/VarHandle" ∧ (parseMethodDescriptor yX9_copyOf.desc).map (fun d => d.parameters.length) = some 2 := by decide +kernel
set_option maxHeartbeats 4000000 in
theorem mX9_copyOf (l : Launch) (X : XT) (hX : XOK X) (D : va_G) (d : Nat → ClassId) (ad : Nat → Nat) (fu : Int32) (ft : Int32) (ff : Int32) (fs : Int32) (fa : Int32) (fb : Int32) (fn : Int32) (fr : Int32) (Ww : Nat → Int32) (p1 : Int32) (p2 : Int32) (res : (Nat → Int32)) (hf : fX9_copyOf Ww p1 p2 = some res) : MetV l yX9_copyOf (ws_ yX9_copyOf cX9_copyOf 4 none) { frames := 0, cells := 0, slots := 0, locals := 0 } [.ref (ad 0), .int p1, .int p2] X D d [oM ad fu ft ff fs fa fb fn fr, ((ad 1), .inl (d 0, 1247, .inl Ww))] (fun (_ : Unit) => True) (fun _ => [oM ad fu ft ff fs fa fb fn fr, ((ad 1), .inl (d 0, 1247, .inl res))]) := by
  refine MetV.of (by decide +kernel) (Nat.le_of_ble_eq_true rfl) ?_
  intro p e s m below meth c A cx hw ls hl
  have cx : Cx p s m _ meth c X D d A "DishLiftModel" cX9_copyOf 4 none "copyOf" := cx
  have cx' := cx
  obtain ⟨hx, hb, hr, hlk, hml, hown, hts, hK, hA, hXs, hnm⟩ := cx'
  have hl : lv_has ls 4 [(0, .ref (ad 0)), (1, .int p1), (2, .int p2)] := hl
  unfold fX9_copyOf at hf
  refine lv_iconst (v := 0) hx hb dX9_copyOf_0 (by decide) ?_
  refine lv_istore_n (lv' := [(3, .int 0), (0, .ref (ad 0)), (1, .int p1), (2, .int p2)]) hx hb dX9_copyOf_1 rfl hl (by decide) rfl (fun ls hl => ?_)
  obtain ⟨r1, hlp2, hf⟩ := op_e hf
  refine x_join (A := A) (D := D) (J := 30) (nL := 4) (cells' := 0) (slots' := 0) (st := []) [oM ad fu ft ff fs fa fb fn fr, ((ad 1), .inl (d 0, 1247, .inl r1))] [] (fun H locs ls hw hl => ?_) (fun hK2 => ?_)
  · have hf := sm_e hf
    subst hf
    exact x_retV cx hw () trivial [0, 1] rfl rfl (Nat.le_of_ble_eq_true rfl) (Nat.le_of_ble_eq_true rfl) dX9_copyOf_30
  · refine x_lp hlp2 (fun x2 => [oM ad fu ft ff fs fa fb fn fr, ((ad 1), .inl (d 0, 1247, .inl x2.2))]) (fun x2 => [(0, .ref (ad 0)), (1, .int p1), (2, .int p2), (3, .int x2.1)]) hw (lv_sub hl [1, 2, 3, 0] rfl) (fun x2 y2 hf hin2 hout2 H locs ls hw hl => ?_)
    have hw : Wd D A s [oM ad fu ft ff fs fa fb fn fr, ((ad 1), .inl (d 0, 1247, .inl x2.2))] H locs := hw
    have hl : lv_has ls 4 [(0, .ref (ad 0)), (1, .int p1), (2, .int p2), (3, .int x2.1)] := hl
    refine lv_iload_n hx hb dX9_copyOf_2 rfl (lv_at hl 3 rfl) ?_
    refine lv_bipush (v := 43) hx hb dX9_copyOf_3 (by decide) ?_
    refine lv_icmp_ge (tgt := 30) hx hb dX9_copyOf_5 (by decide) (fun c5 => ?_) (fun c5 => ?_)
    · have hf := if_t hf c5
      have hf := sm_e hf
      subst hf
      have hz := hout2 _ rfl
      subst hz
      exact hK2 _ _ _ hw (lv_sub hl [] rfl)
    · have hf := if_f hf c5
      refine lv_aload_n hx hb dX9_copyOf_8 rfl (lv_at hl 0 rfl) ?_
      refine va_get (ci := 0) (C := RX9) (T := TX9) (N := 19) hx hb hts in_X9 hown hK hw.1 0 rfl rfl 0 (by decide) (hts _ q1248) (fun _ h9 => h9) rfl dX9_copyOf_9 ?_
      refine lv_iload_n hx hb dX9_copyOf_12 rfl (lv_at hl 2 rfl) ?_
      refine lv_iload_n hx hb dX9_copyOf_13 rfl (lv_at hl 3 rfl) ?_
      refine lv_iadd hx hb dX9_copyOf_14 ?_
      refine lv_aload_n hx hb dX9_copyOf_15 rfl (lv_at hl 0 rfl) ?_
      refine va_get (ci := 0) (C := RX9) (T := TX9) (N := 19) hx hb hts in_X9 hown hK hw.1 0 rfl rfl 0 (by decide) (hts _ q1248) (fun _ h9 => h9) rfl dX9_copyOf_16 ?_
      refine lv_iload_n hx hb dX9_copyOf_19 rfl (lv_at hl 1 rfl) ?_
      refine lv_iload_n hx hb dX9_copyOf_20 rfl (lv_at hl 3 rfl) ?_
      refine lv_iadd hx hb dX9_copyOf_21 ?_
      obtain ⟨v2, hv, hf⟩ := op_e hf
      refine x_iald (q0 := 1) cx hw rfl hv dX9_copyOf_22 ?_
      obtain ⟨w3, hv, hf⟩ := op_e hf
      refine x_iast (q0 := 1) cx hw rfl hv dX9_copyOf_23 (fun H locs hw => ?_)
      have hw : Wd D A s [oM ad fu ft ff fs fa fb fn fr, ((ad 1), .inl (d 0, 1247, .inl w3))] H locs := hw
      refine lv_iinc (v := (x2.1 + 1)) (lv' := [(3, .int (x2.1 + 1)), (0, .ref (ad 0)), (1, .int p1), (2, .int p2)]) hx hb dX9_copyOf_24 hl (k := 3) rfl (by first | rfl | decide) (by decide) rfl (fun ls hl => ?_)
      refine lv_goto (tgt := 2) hx hb dX9_copyOf_27 (by decide) ?_
      have hf := sm_e hf
      subst hf
      exact hin2 _ rfl _ _ _ hw (lv_sub hl [1, 2, 3, 0] rfl)
theorem hd_X9_house : yX9_house.cls = "DishLiftModel" ∧ yX9_house.cls ≠ "java/lang/invoke/MethodHandle" ∧ yX9_house.cls ≠ "java/lang/invoke/VarHandle" ∧ (parseMethodDescriptor yX9_house.desc).map (fun d => d.parameters.length) = some 0 := by decide +kernel
set_option maxHeartbeats 4000000 in
theorem mX9_house (l : Launch) (X : XT) (hX : XOK X) (D : va_G) (d : Nat → ClassId) (ad : Nat → Nat) (fu : Int32) (ft : Int32) (ff : Int32) (fs : Int32) (fa : Int32) (fb : Int32) (fn : Int32) (fr : Int32) (Ww : Nat → Int32) (TP : Nat → Int32) (res : Int32 × Int32 × Int32 × Int32 × Int32 × Int32 × Int32 × (Nat → Int32)) (hf : fX9_house Ww TP fu ft ff fb fn = some res) : MetI l yX9_house (ws_ yX9_house cX9_house 2 (some .int)) { frames := 4, cells := 0, slots := 0, locals := 90 } [.ref (ad 0)] X D d [oM ad fu ft ff fs fa fb fn fr, ((ad 1), .inl (d 0, 1247, .inl Ww)), ((ad 2), .inl (d 0, 110, .inl TP))] (fun r (_ : Unit) => r = res.1) (fun _ => [oM ad res.2.1 res.2.2.1 res.2.2.2.1 fs res.2.2.2.2.1 res.2.2.2.2.2.1 res.2.2.2.2.2.2.1 fr, ((ad 1), .inl (d 0, 1247, .inl res.2.2.2.2.2.2.2)), ((ad 2), .inl (d 0, 110, .inl TP))]) := by
  refine MetI.of (by decide +kernel) (Nat.le_of_ble_eq_true rfl) ?_
  intro p e s m below meth c A cx hw ls hl
  have cx : Cx p s m _ meth c X D d A "DishLiftModel" cX9_house 2 (some .int) "house" := cx
  have cx' := cx
  obtain ⟨hx, hb, hr, hlk, hml, hown, hts, hK, hA, hXs, hnm⟩ := cx'
  have hl : lv_has ls 2 [(0, .ref (ad 0))] := hl
  unfold fX9_house at hf
  refine lv_iconst (v := 0) hx hb dX9_house_0 (by decide) ?_
  refine lv_istore_n (lv' := [(1, .int 0), (0, .ref (ad 0))]) hx hb dX9_house_1 rfl hl (by decide) rfl (fun ls hl => ?_)
  obtain ⟨r1, hlp2, hf⟩ := op_e hf
  refine x_join (A := A) (D := D) (J := 25) (nL := 2) (cells' := 0) (slots' := 0) (st := []) [oM ad fu ft ff fs fa fb fn fr, ((ad 1), .inl (d 0, 1247, .inl r1)), ((ad 2), .inl (d 0, 110, .inl TP))] [(0, .ref (ad 0))] (fun H locs ls hw hl => ?_) (fun hK2 => ?_)
  · refine lv_aload_n hx hb dX9_house_25 rfl (lv_at hl 0 rfl) ?_
    refine va_get (ci := 0) (C := RX9) (T := TX9) (N := 19) hx hb hts in_X9 hown hK hw.1 0 rfl rfl 0 (by decide) (hts _ q1248) (fun _ h9 => h9) rfl dX9_house_26 ?_
    refine lv_sipush (v := 177) hx hb dX9_house_29 (by decide) ?_
    refine lv_iconst (v := 1) hx hb dX9_house_32 (by decide) ?_
    obtain ⟨w2, hv, hf⟩ := op_e hf
    refine x_iast (q0 := 1) cx hw rfl hv dX9_house_33 (fun H locs hw => ?_)
    have hw : Wd D A s [oM ad fu ft ff fs fa fb fn fr, ((ad 1), .inl (d 0, 1247, .inl w2)), ((ad 2), .inl (d 0, 110, .inl TP))] H locs := hw
    refine lv_aload_n hx hb dX9_house_34 rfl (lv_at hl 0 rfl) ?_
    refine lv_iconst (v := 0) hx hb dX9_house_35 (by decide) ?_
    refine va_put (ci := 0) (v := .int 0) (ty := .int) (C := RX9) (T := TX9) (N := 19) hx hb hts in_X9 tyX9 tyX9_ok nmX9 hown hK hw.1 hw.2.1 hw.2.2 0 rfl rfl 10 (by decide) (hts _ q1258) (fun _ h9 => h9) rfl (by decide +kernel) rfl rfl (Nat.le_of_ble_eq_true rfl) dX9_house_36 (fun H locs hP hD hS => ?_)
    have hw : Wd D A s [oM ad fu ft ff fs 0 fb fn fr, ((ad 1), .inl (d 0, 1247, .inl w2)), ((ad 2), .inl (d 0, 110, .inl TP))] H locs := ⟨hP, hD, hS⟩
    refine lv_aload_n hx hb dX9_house_39 rfl (lv_at hl 0 rfl) ?_
    obtain ⟨q3, hcq3, hf⟩ := op_e hf
    refine x_VI (wr := []) (rest := []) [] hX cx hw hl.1 (mX9_takesAll l X hX D d ad fu ft ff fs 0 fb fn fr w2 TP q3 hcq3) (lw_V q1351 q1353 qs38 q94 q1354) hd_X9_takesAll ⟨Nat.le_of_ble_eq_true rfl, Nat.le_of_ble_eq_true rfl⟩ (va_recv hK hw.1 (ci := 0) (q0 := 0) rfl rfl) rfl rfl (Nat.le_of_ble_eq_true rfl) dX9_house_40 [0, 1, 2] [] rfl rfl rfl rfl (by decide) ⟨(Nat.le_of_ble_eq_true rfl), (Nat.le_of_ble_eq_true rfl)⟩ (fun r u H locs hp hw => ?_)
    have hw : Wd D A s [oM ad fu ft q3.2.1 fs q3.2.2.1 q3.2.2.2.1 q3.2.2.2.2.1 fr, ((ad 1), .inl (d 0, 1247, .inl q3.2.2.2.2.2)), ((ad 2), .inl (d 0, 110, .inl TP))] H locs := hw
    subst r
    refine lv_istore_n (lv' := [(1, .int q3.1), (0, .ref (ad 0))]) hx hb dX9_house_43 rfl hl (by decide) rfl (fun ls hl => ?_)
    refine lv_aload_n hx hb dX9_house_44 rfl (lv_at hl 1 rfl) ?_
    refine lv_iconst (v := 0) hx hb dX9_house_45 (by decide) ?_
    refine va_put (ci := 0) (v := .int 0) (ty := .int) (C := RX9) (T := TX9) (N := 19) hx hb hts in_X9 tyX9 tyX9_ok nmX9 hown hK hw.1 hw.2.1 hw.2.2 0 rfl rfl 3 (by decide) (hts _ q1251) (fun _ h9 => h9) rfl (by decide +kernel) rfl rfl (Nat.le_of_ble_eq_true rfl) dX9_house_46 (fun H locs hP hD hS => ?_)
    have hw : Wd D A s [oM ad fu 0 q3.2.1 fs q3.2.2.1 q3.2.2.2.1 q3.2.2.2.2.1 fr, ((ad 1), .inl (d 0, 1247, .inl q3.2.2.2.2.2)), ((ad 2), .inl (d 0, 110, .inl TP))] H locs := ⟨hP, hD, hS⟩
    refine lv_iload_n hx hb dX9_house_49 rfl (lv_at hl 0 rfl) ?_
    refine lv_if_ne (tgt := 61) hx hb dX9_house_50 (by decide) (fun c50 => ?_) (fun c50 => ?_)
    · have hf := if_f hf c50
      refine lv_aload_n hx hb dX9_house_61 rfl (lv_at hl 1 rfl) ?_
      refine lv_sipush (v := 172) hx hb dX9_house_62 (by decide) ?_
      refine lv_iconst (v := 0) hx hb dX9_house_65 (by decide) ?_
      obtain ⟨q4, hcq4, hf⟩ := op_e hf
      refine x_VV (wr := [((ad 2), .inl (d 0, 110, .inl TP))]) (rest := []) [.int 172, .int 0] hX cx hw hl.1 (mX9_copyOf l X hX D d ad fu 0 q3.2.1 fs q3.2.2.1 q3.2.2.2.1 q3.2.2.2.2.1 fr q3.2.2.2.2.2 172 0 q4 hcq4) (lw_V q1385 q1387 qs45 q94 q1388) hd_X9_copyOf ⟨Nat.le_of_ble_eq_true rfl, Nat.le_of_ble_eq_true rfl⟩ (va_recv hK hw.1 (ci := 0) (q0 := 0) rfl rfl) rfl rfl (Nat.le_of_ble_eq_true rfl) dX9_house_66 [0, 1] [2] rfl rfl rfl rfl (by decide) ⟨(Nat.le_of_ble_eq_true rfl), (Nat.le_of_ble_eq_true rfl)⟩ (fun u H locs hp hw => ?_)
      have hw : Wd D A s [((ad 2), .inl (d 0, 110, .inl TP)), oM ad fu 0 q3.2.1 fs q3.2.2.1 q3.2.2.2.1 q3.2.2.2.2.1 fr, ((ad 1), .inl (d 0, 1247, .inl q4))] H locs := hw
      refine lv_aload_n hx hb dX9_house_69 rfl (lv_at hl 1 rfl) ?_
      refine lv_iconst (v := 0) hx hb dX9_house_70 (by decide) ?_
      refine va_put (ci := 0) (v := .int 0) (ty := .int) (C := RX9) (T := TX9) (N := 19) hx hb hts in_X9 tyX9 tyX9_ok nmX9 hown hK hw.1 hw.2.1 hw.2.2 1 rfl rfl 1 (by decide) (hts _ q1249) (fun _ h9 => h9) rfl (by decide +kernel) rfl rfl (Nat.le_of_ble_eq_true rfl) dX9_house_71 (fun H locs hP hD hS => ?_)
      have hw : Wd D A s [((ad 2), .inl (d 0, 110, .inl TP)), oM ad 0 0 q3.2.1 fs q3.2.2.1 q3.2.2.2.1 q3.2.2.2.2.1 fr, ((ad 1), .inl (d 0, 1247, .inl q4))] H locs := ⟨hP, hD, hS⟩
      refine lv_aload_n hx hb dX9_house_74 rfl (lv_at hl 1 rfl) ?_
      refine va_get (ci := 0) (C := RX9) (T := TX9) (N := 19) hx hb hts in_X9 hown hK hw.1 1 rfl rfl 0 (by decide) (hts _ q1248) (fun _ h9 => h9) rfl dX9_house_75 ?_
      refine lv_iconst (v := 0) hx hb dX9_house_78 (by decide) ?_
      obtain ⟨v5, hv, hf⟩ := op_e hf
      refine x_iald (q0 := 2) cx hw rfl hv dX9_house_79 ?_
      have hf := sm_e hf
      subst hf
      exact x_retI cx hw rfl () rfl [1, 2, 0] rfl rfl (Nat.le_of_ble_eq_true rfl) (Nat.le_of_ble_eq_true rfl) dX9_house_80
    · have hf := if_t hf c50
      refine lv_ldc (v := (-1000100)) hx hb hown (hts _ q1384) dX9_house_53 ?_
      refine lv_aload_n hx hb dX9_house_55 rfl (lv_at hl 1 rfl) ?_
      refine va_get (ci := 0) (C := RX9) (T := TX9) (N := 19) hx hb hts in_X9 hown hK hw.1 0 rfl rfl 11 (by decide) (hts _ q1259) (fun _ h9 => h9) rfl dX9_house_56 ?_
      refine lv_isub hx hb dX9_house_59 ?_
      have hf := sm_e hf
      subst hf
      exact x_retI cx hw rfl () rfl [0, 1, 2] rfl rfl (Nat.le_of_ble_eq_true rfl) (Nat.le_of_ble_eq_true rfl) dX9_house_60
  · refine x_lp hlp2 (fun x2 => [oM ad fu ft ff fs fa fb fn fr, ((ad 1), .inl (d 0, 1247, .inl x2.2)), ((ad 2), .inl (d 0, 110, .inl TP))]) (fun x2 => [(0, .ref (ad 0)), (1, .int x2.1)]) hw (lv_sub hl [1, 0] rfl) (fun x2 y2 hf hin2 hout2 H locs ls hw hl => ?_)
    have hw : Wd D A s [oM ad fu ft ff fs fa fb fn fr, ((ad 1), .inl (d 0, 1247, .inl x2.2)), ((ad 2), .inl (d 0, 110, .inl TP))] H locs := hw
    have hl : lv_has ls 2 [(0, .ref (ad 0)), (1, .int x2.1)] := hl
    refine lv_iload_n hx hb dX9_house_2 rfl (lv_at hl 1 rfl) ?_
    refine lv_bipush (v := 43) hx hb dX9_house_3 (by decide) ?_
    refine lv_icmp_ge (tgt := 25) hx hb dX9_house_5 (by decide) (fun c5 => ?_) (fun c5 => ?_)
    · have hf := if_t hf c5
      have hf := sm_e hf
      subst hf
      have hz := hout2 _ rfl
      subst hz
      exact hK2 _ _ _ hw (lv_sub hl [0] rfl)
    · have hf := if_f hf c5
      refine lv_aload_n hx hb dX9_house_8 rfl (lv_at hl 0 rfl) ?_
      refine va_get (ci := 0) (C := RX9) (T := TX9) (N := 19) hx hb hts in_X9 hown hK hw.1 0 rfl rfl 0 (by decide) (hts _ q1248) (fun _ h9 => h9) rfl dX9_house_9 ?_
      refine lv_sipush (v := 172) hx hb dX9_house_12 (by decide) ?_
      refine lv_iload_n hx hb dX9_house_15 rfl (lv_at hl 1 rfl) ?_
      refine lv_iadd hx hb dX9_house_16 ?_
      refine lv_iconst (v := 0) hx hb dX9_house_17 (by decide) ?_
      obtain ⟨w6, hv, hf⟩ := op_e hf
      refine x_iast (q0 := 1) cx hw rfl hv dX9_house_18 (fun H locs hw => ?_)
      have hw : Wd D A s [oM ad fu ft ff fs fa fb fn fr, ((ad 1), .inl (d 0, 1247, .inl w6)), ((ad 2), .inl (d 0, 110, .inl TP))] H locs := hw
      refine lv_iinc (v := (x2.1 + 1)) (lv' := [(1, .int (x2.1 + 1)), (0, .ref (ad 0))]) hx hb dX9_house_19 hl (k := 1) rfl (by first | rfl | decide) (by decide) rfl (fun ls hl => ?_)
      refine lv_goto (tgt := 2) hx hb dX9_house_22 (by decide) ?_
      have hf := sm_e hf
      subst hf
      exact hin2 _ rfl _ _ _ hw (lv_sub hl [1, 0] rfl)
theorem hd_X9_fault : yX9_fault.cls = "DishLiftModel" ∧ yX9_fault.cls ≠ "java/lang/invoke/MethodHandle" ∧ yX9_fault.cls ≠ "java/lang/invoke/VarHandle" ∧ (parseMethodDescriptor yX9_fault.desc).map (fun d => d.parameters.length) = some 0 := by decide +kernel
set_option maxHeartbeats 4000000 in
theorem mX9_fault (l : Launch) (X : XT) (hX : XOK X) (D : va_G) (d : Nat → ClassId) (ad : Nat → Nat) (fu : Int32) (ft : Int32) (ff : Int32) (fs : Int32) (fa : Int32) (fb : Int32) (fn : Int32) (fr : Int32) (res : Int32) (hf : fX9_fault ff = some res) : MetI l yX9_fault (ws_ yX9_fault cX9_fault 1 (some .int)) { frames := 0, cells := 0, slots := 0, locals := 0 } [.ref (ad 0)] X D d [oM ad fu ft ff fs fa fb fn fr] (fun r (_ : Unit) => r = res) (fun _ => [oM ad fu ft ff fs fa fb fn fr]) := by
  refine MetI.of (by decide +kernel) (Nat.le_of_ble_eq_true rfl) ?_
  intro p e s m below meth c A cx hw ls hl
  have cx : Cx p s m _ meth c X D d A "DishLiftModel" cX9_fault 1 (some .int) "fault" := cx
  have cx' := cx
  obtain ⟨hx, hb, hr, hlk, hml, hown, hts, hK, hA, hXs, hnm⟩ := cx'
  have hl : lv_has ls 1 [(0, .ref (ad 0))] := hl
  unfold fX9_fault at hf
  refine lv_aload_n hx hb dX9_fault_0 rfl (lv_at hl 0 rfl) ?_
  refine va_get (ci := 0) (C := RX9) (T := TX9) (N := 19) hx hb hts in_X9 hown hK hw.1 0 rfl rfl 4 (by decide) (hts _ q1252) (fun _ h9 => h9) rfl dX9_fault_1 ?_
  have hf := sm_e hf
  subst hf
  exact x_retI cx hw rfl () rfl [0] rfl rfl (Nat.le_of_ble_eq_true rfl) (Nat.le_of_ble_eq_true rfl) dX9_fault_4
theorem hd_X9_undo : yX9_undo.cls = "DishLiftModel" ∧ yX9_undo.cls ≠ "java/lang/invoke/MethodHandle" ∧ yX9_undo.cls ≠ "java/lang/invoke/VarHandle" ∧ (parseMethodDescriptor yX9_undo.desc).map (fun d => d.parameters.length) = some 0 := by decide +kernel
set_option maxHeartbeats 4000000 in
theorem mX9_undo (l : Launch) (X : XT) (hX : XOK X) (D : va_G) (d : Nat → ClassId) (ad : Nat → Nat) (fu : Int32) (ft : Int32) (ff : Int32) (fs : Int32) (fa : Int32) (fb : Int32) (fn : Int32) (fr : Int32) (Ww : Nat → Int32) (res : Int32 × Int32 × (Nat → Int32)) (hf : fX9_undo Ww fu = some res) : MetI l yX9_undo (ws_ yX9_undo cX9_undo 1 (some .int)) { frames := 1, cells := 0, slots := 0, locals := 23 } [.ref (ad 0)] X D d [oM ad fu ft ff fs fa fb fn fr, ((ad 1), .inl (d 0, 1247, .inl Ww))] (fun r (_ : Unit) => r = res.1) (fun _ => [oM ad res.2.1 ft ff fs fa fb fn fr, ((ad 1), .inl (d 0, 1247, .inl res.2.2))]) := by
  refine MetI.of (by decide +kernel) (Nat.le_of_ble_eq_true rfl) ?_
  intro p e s m below meth c A cx hw ls hl
  have cx : Cx p s m _ meth c X D d A "DishLiftModel" cX9_undo 1 (some .int) "undo" := cx
  have cx' := cx
  obtain ⟨hx, hb, hr, hlk, hml, hown, hts, hK, hA, hXs, hnm⟩ := cx'
  have hl : lv_has ls 1 [(0, .ref (ad 0))] := hl
  unfold fX9_undo at hf
  refine lv_aload_n hx hb dX9_undo_0 rfl (lv_at hl 0 rfl) ?_
  refine va_get (ci := 0) (C := RX9) (T := TX9) (N := 19) hx hb hts in_X9 hown hK hw.1 0 rfl rfl 1 (by decide) (hts _ q1249) (fun _ h9 => h9) rfl dX9_undo_1 ?_
  refine lv_if_ne (tgt := 10) hx hb dX9_undo_4 (by decide) (fun c4 => ?_) (fun c4 => ?_)
  · have hf := if_f hf c4
    refine lv_aload_n hx hb dX9_undo_10 rfl (lv_at hl 0 rfl) ?_
    refine lv_dup hx hb dX9_undo_11 rfl ?_
    refine va_get (ci := 0) (C := RX9) (T := TX9) (N := 19) hx hb hts in_X9 hown hK hw.1 0 rfl rfl 1 (by decide) (hts _ q1249) (fun _ h9 => h9) rfl dX9_undo_12 ?_
    refine lv_iconst (v := 1) hx hb dX9_undo_15 (by decide) ?_
    refine lv_isub hx hb dX9_undo_16 ?_
    refine va_put (ci := 0) (v := .int (fu - 1)) (ty := .int) (C := RX9) (T := TX9) (N := 19) hx hb hts in_X9 tyX9 tyX9_ok nmX9 hown hK hw.1 hw.2.1 hw.2.2 0 rfl rfl 1 (by decide) (hts _ q1249) (fun _ h9 => h9) rfl (by decide +kernel) rfl rfl (Nat.le_of_ble_eq_true rfl) dX9_undo_17 (fun H locs hP hD hS => ?_)
    have hw : Wd D A s [oM ad (fu - 1) ft ff fs fa fb fn fr, ((ad 1), .inl (d 0, 1247, .inl Ww))] H locs := ⟨hP, hD, hS⟩
    refine lv_aload_n hx hb dX9_undo_20 rfl (lv_at hl 0 rfl) ?_
    refine lv_sipush (v := 215) hx hb dX9_undo_21 (by decide) ?_
    refine lv_bipush (v := 43) hx hb dX9_undo_24 (by decide) ?_
    refine lv_aload_n hx hb dX9_undo_26 rfl (lv_at hl 0 rfl) ?_
    refine va_get (ci := 0) (C := RX9) (T := TX9) (N := 19) hx hb hts in_X9 hown hK hw.1 0 rfl rfl 1 (by decide) (hts _ q1249) (fun _ h9 => h9) rfl dX9_undo_27 ?_
    refine lv_imul hx hb dX9_undo_30 ?_
    refine lv_iadd hx hb dX9_undo_31 ?_
    refine lv_iconst (v := 0) hx hb dX9_undo_32 (by decide) ?_
    obtain ⟨q1, hcq1, hf⟩ := op_e hf
    refine x_VV (wr := []) (rest := []) [.int (215 + (43 * (fu - 1))), .int 0] hX cx hw hl.1 (mX9_copyOf l X hX D d ad (fu - 1) ft ff fs fa fb fn fr Ww (215 + (43 * (fu - 1))) 0 q1 hcq1) (lw_V q1385 q1387 qs45 q94 q1388) hd_X9_copyOf ⟨Nat.le_of_ble_eq_true rfl, Nat.le_of_ble_eq_true rfl⟩ (va_recv hK hw.1 (ci := 0) (q0 := 0) rfl rfl) rfl rfl (Nat.le_of_ble_eq_true rfl) dX9_undo_33 [0, 1] [] rfl rfl rfl rfl (by decide) ⟨(Nat.le_of_ble_eq_true rfl), (Nat.le_of_ble_eq_true rfl)⟩ (fun u H locs hp hw => ?_)
    have hw : Wd D A s [oM ad (fu - 1) ft ff fs fa fb fn fr, ((ad 1), .inl (d 0, 1247, .inl q1))] H locs := hw
    refine lv_aload_n hx hb dX9_undo_36 rfl (lv_at hl 0 rfl) ?_
    refine va_get (ci := 0) (C := RX9) (T := TX9) (N := 19) hx hb hts in_X9 hown hK hw.1 0 rfl rfl 1 (by decide) (hts _ q1249) (fun _ h9 => h9) rfl dX9_undo_37 ?_
    have hf := sm_e hf
    subst hf
    exact x_retI cx hw rfl () rfl [0, 1] rfl rfl (Nat.le_of_ble_eq_true rfl) (Nat.le_of_ble_eq_true rfl) dX9_undo_40
  · have hf := if_t hf c4
    refine lv_ldc (v := (-1000002)) hx hb hown (hts _ q1397) dX9_undo_7 ?_
    have hf := sm_e hf
    subst hf
    exact x_retI cx hw rfl () rfl [0, 1] rfl rfl (Nat.le_of_ble_eq_true rfl) (Nat.le_of_ble_eq_true rfl) dX9_undo_9
theorem hd_X9_isHouse : yX9_isHouse.cls = "DishLiftModel" ∧ yX9_isHouse.cls ≠ "java/lang/invoke/MethodHandle" ∧ yX9_isHouse.cls ≠ "java/lang/invoke/VarHandle" ∧ (parseMethodDescriptor yX9_isHouse.desc).map (fun d => d.parameters.length) = some 0 := by decide +kernel
set_option maxHeartbeats 4000000 in
theorem mX9_isHouse (l : Launch) (X : XT) (hX : XOK X) (D : va_G) (d : Nat → ClassId) (ad : Nat → Nat) (fu : Int32) (ft : Int32) (ff : Int32) (fs : Int32) (fa : Int32) (fb : Int32) (fn : Int32) (fr : Int32) (Ww : Nat → Int32) (res : Int32) (hf : fX9_isHouse Ww = some res) : MetI l yX9_isHouse (ws_ yX9_isHouse cX9_isHouse 1 (some .boolean)) { frames := 0, cells := 0, slots := 0, locals := 0 } [.ref (ad 0)] X D d [oM ad fu ft ff fs fa fb fn fr, ((ad 1), .inl (d 0, 1247, .inl Ww))] (fun r (_ : Unit) => r = res) (fun _ => [oM ad fu ft ff fs fa fb fn fr, ((ad 1), .inl (d 0, 1247, .inl Ww))]) := by
  refine MetI.of (by decide +kernel) (Nat.le_of_ble_eq_true rfl) ?_
  intro p e s m below meth c A cx hw ls hl
  have cx : Cx p s m _ meth c X D d A "DishLiftModel" cX9_isHouse 1 (some .boolean) "isHouse" := cx
  have cx' := cx
  obtain ⟨hx, hb, hr, hlk, hml, hown, hts, hK, hA, hXs, hnm⟩ := cx'
  have hl : lv_has ls 1 [(0, .ref (ad 0))] := hl
  unfold fX9_isHouse at hf
  refine lv_aload_n hx hb dX9_isHouse_0 rfl (lv_at hl 0 rfl) ?_
  refine va_get (ci := 0) (C := RX9) (T := TX9) (N := 19) hx hb hts in_X9 hown hK hw.1 0 rfl rfl 0 (by decide) (hts _ q1248) (fun _ h9 => h9) rfl dX9_isHouse_1 ?_
  refine lv_iconst (v := 0) hx hb dX9_isHouse_4 (by decide) ?_
  obtain ⟨v1, hv, hf⟩ := op_e hf
  refine x_iald (q0 := 1) cx hw rfl hv dX9_isHouse_5 ?_
  refine lv_if_le (tgt := 13) hx hb dX9_isHouse_6 (by decide) (fun c6 => ?_) (fun c6 => ?_)
  · have hf := if_t hf c6
    refine lv_iconst (v := 0) hx hb dX9_isHouse_13 (by decide) ?_
    have hf := sm_e hf
    subst hf
    exact x_retI cx hw rfl () rfl [0, 1] rfl rfl (Nat.le_of_ble_eq_true rfl) (Nat.le_of_ble_eq_true rfl) dX9_isHouse_14
  · have hf := if_f hf c6
    refine lv_iconst (v := 1) hx hb dX9_isHouse_9 (by decide) ?_
    refine lv_goto (tgt := 14) hx hb dX9_isHouse_10 (by decide) ?_
    have hf := sm_e hf
    subst hf
    exact x_retI cx hw rfl () rfl [0, 1] rfl rfl (Nat.le_of_ble_eq_true rfl) (Nat.le_of_ble_eq_true rfl) dX9_isHouse_14
theorem hd_X9_minds : yX9_minds.cls = "DishLiftModel" ∧ yX9_minds.cls ≠ "java/lang/invoke/MethodHandle" ∧ yX9_minds.cls ≠ "java/lang/invoke/VarHandle" ∧ (parseMethodDescriptor yX9_minds.desc).map (fun d => d.parameters.length) = some 0 := by decide +kernel
set_option maxHeartbeats 4000000 in
theorem mX9_minds (l : Launch) (X : XT) (hX : XOK X) (D : va_G) (d : Nat → ClassId) (ad : Nat → Nat) (fu : Int32) (ft : Int32) (ff : Int32) (fs : Int32) (fa : Int32) (fb : Int32) (fn : Int32) (fr : Int32) (Ww : Nat → Int32) (res : Int32 × (Nat → Int32)) (hf : fX9_minds Ww fu = some res) : MetV l yX9_minds (ws_ yX9_minds cX9_minds 2 none) { frames := 1, cells := 0, slots := 0, locals := 23 } [.ref (ad 0)] X D d [oM ad fu ft ff fs fa fb fn fr, ((ad 1), .inl (d 0, 1247, .inl Ww))] (fun (_ : Unit) => True) (fun _ => [oM ad res.1 ft ff fs fa fb fn fr, ((ad 1), .inl (d 0, 1247, .inl res.2))]) := by
  refine MetV.of (by decide +kernel) (Nat.le_of_ble_eq_true rfl) ?_
  intro p e s m below meth c A cx hw ls hl
  have cx : Cx p s m _ meth c X D d A "DishLiftModel" cX9_minds 2 none "minds" := cx
  have cx' := cx
  obtain ⟨hx, hb, hr, hlk, hml, hown, hts, hK, hA, hXs, hnm⟩ := cx'
  have hl : lv_has ls 2 [(0, .ref (ad 0))] := hl
  unfold fX9_minds at hf
  refine lv_aload_n hx hb dX9_minds_0 rfl (lv_at hl 0 rfl) ?_
  refine va_get (ci := 0) (C := RX9) (T := TX9) (N := 19) hx hb hts in_X9 hown hK hw.1 0 rfl rfl 1 (by decide) (hts _ q1249) (fun _ h9 => h9) rfl dX9_minds_1 ?_
  refine lv_bipush (v := 24) hx hb dX9_minds_4 (by decide) ?_
  obtain ⟨j1, ha, hr⟩ := op_e hf
  refine x_join (A := A) (D := D) (J := 57) (nL := 2) (cells' := 0) (slots' := 0) (st := []) [oM ad j1.1 ft ff fs fa fb fn fr, ((ad 1), .inl (d 0, 1247, .inl j1.2))] [(0, .ref (ad 0))] (fun H locs ls hw hl => ?_) (fun hKj57_j1 => ?_)
  · have hf := hr
    refine lv_aload_n hx hb dX9_minds_57 rfl (lv_at hl 0 rfl) ?_
    refine lv_iconst (v := 0) hx hb dX9_minds_58 (by decide) ?_
    refine lv_sipush (v := 215) hx hb dX9_minds_59 (by decide) ?_
    refine lv_bipush (v := 43) hx hb dX9_minds_62 (by decide) ?_
    refine lv_aload_n hx hb dX9_minds_64 rfl (lv_at hl 0 rfl) ?_
    refine va_get (ci := 0) (C := RX9) (T := TX9) (N := 19) hx hb hts in_X9 hown hK hw.1 0 rfl rfl 1 (by decide) (hts _ q1249) (fun _ h9 => h9) rfl dX9_minds_65 ?_
    refine lv_imul hx hb dX9_minds_68 ?_
    refine lv_iadd hx hb dX9_minds_69 ?_
    obtain ⟨q2, hcq2, hf⟩ := op_e hf
    refine x_VV (wr := []) (rest := []) [.int 0, .int (215 + (43 * j1.1))] hX cx hw hl.1 (mX9_copyOf l X hX D d ad j1.1 ft ff fs fa fb fn fr j1.2 0 (215 + (43 * j1.1)) q2 hcq2) (lw_V q1385 q1387 qs45 q94 q1388) hd_X9_copyOf ⟨Nat.le_of_ble_eq_true rfl, Nat.le_of_ble_eq_true rfl⟩ (va_recv hK hw.1 (ci := 0) (q0 := 0) rfl rfl) rfl rfl (Nat.le_of_ble_eq_true rfl) dX9_minds_70 [0, 1] [] rfl rfl rfl rfl (by decide) ⟨(Nat.le_of_ble_eq_true rfl), (Nat.le_of_ble_eq_true rfl)⟩ (fun u H locs hp hw => ?_)
    have hw : Wd D A s [oM ad j1.1 ft ff fs fa fb fn fr, ((ad 1), .inl (d 0, 1247, .inl q2))] H locs := hw
    refine lv_aload_n hx hb dX9_minds_73 rfl (lv_at hl 0 rfl) ?_
    refine lv_dup hx hb dX9_minds_74 rfl ?_
    refine va_get (ci := 0) (C := RX9) (T := TX9) (N := 19) hx hb hts in_X9 hown hK hw.1 0 rfl rfl 1 (by decide) (hts _ q1249) (fun _ h9 => h9) rfl dX9_minds_75 ?_
    refine lv_iconst (v := 1) hx hb dX9_minds_78 (by decide) ?_
    refine lv_iadd hx hb dX9_minds_79 ?_
    refine va_put (ci := 0) (v := .int (j1.1 + 1)) (ty := .int) (C := RX9) (T := TX9) (N := 19) hx hb hts in_X9 tyX9 tyX9_ok nmX9 hown hK hw.1 hw.2.1 hw.2.2 0 rfl rfl 1 (by decide) (hts _ q1249) (fun _ h9 => h9) rfl (by decide +kernel) rfl rfl (Nat.le_of_ble_eq_true rfl) dX9_minds_80 (fun H locs hP hD hS => ?_)
    have hw : Wd D A s [oM ad (j1.1 + 1) ft ff fs fa fb fn fr, ((ad 1), .inl (d 0, 1247, .inl q2))] H locs := ⟨hP, hD, hS⟩
    have hf := sm_e hf
    subst hf
    exact x_retV cx hw () trivial [0, 1] rfl rfl (Nat.le_of_ble_eq_true rfl) (Nat.le_of_ble_eq_true rfl) dX9_minds_83
  · have hf := ha
    refine lv_icmp_ne (tgt := 57) hx hb dX9_minds_6 (by decide) (fun c6 => ?_) (fun c6 => ?_)
    · have hf := if_f hf c6
      have hf := sm_e hf
      subst hf
      exact hKj57_j1 _ _ _ hw hl
    · have hf := if_t hf c6
      refine lv_iconst (v := 0) hx hb dX9_minds_9 (by decide) ?_
      refine lv_istore_n (lv' := [(1, .int 0), (0, .ref (ad 0))]) hx hb dX9_minds_10 rfl hl (by decide) rfl (fun ls hl => ?_)
      obtain ⟨r3, hlp11, hf⟩ := op_e hf
      refine x_join (A := A) (D := D) (J := 47) (nL := 2) (cells' := 0) (slots' := 0) (st := []) [oM ad fu ft ff fs fa fb fn fr, ((ad 1), .inl (d 0, 1247, .inl r3))] [(0, .ref (ad 0))] (fun H locs ls hw hl => ?_) (fun hK11 => ?_)
      · refine lv_aload_n hx hb dX9_minds_47 rfl (lv_at hl 0 rfl) ?_
        refine lv_dup hx hb dX9_minds_48 rfl ?_
        refine va_get (ci := 0) (C := RX9) (T := TX9) (N := 19) hx hb hts in_X9 hown hK hw.1 0 rfl rfl 1 (by decide) (hts _ q1249) (fun _ h9 => h9) rfl dX9_minds_49 ?_
        refine lv_iconst (v := 1) hx hb dX9_minds_52 (by decide) ?_
        refine lv_isub hx hb dX9_minds_53 ?_
        refine va_put (ci := 0) (v := .int (fu - 1)) (ty := .int) (C := RX9) (T := TX9) (N := 19) hx hb hts in_X9 tyX9 tyX9_ok nmX9 hown hK hw.1 hw.2.1 hw.2.2 0 rfl rfl 1 (by decide) (hts _ q1249) (fun _ h9 => h9) rfl (by decide +kernel) rfl rfl (Nat.le_of_ble_eq_true rfl) dX9_minds_54 (fun H locs hP hD hS => ?_)
        have hw : Wd D A s [oM ad (fu - 1) ft ff fs fa fb fn fr, ((ad 1), .inl (d 0, 1247, .inl r3))] H locs := ⟨hP, hD, hS⟩
        have hf := sm_e hf
        subst hf
        exact hKj57_j1 _ _ _ hw hl
      · refine x_lp hlp11 (fun x11 => [oM ad fu ft ff fs fa fb fn fr, ((ad 1), .inl (d 0, 1247, .inl x11.2))]) (fun x11 => [(0, .ref (ad 0)), (1, .int x11.1)]) hw (lv_sub hl [1, 0] rfl) (fun x11 y11 hf hin11 hout11 H locs ls hw hl => ?_)
        have hw : Wd D A s [oM ad fu ft ff fs fa fb fn fr, ((ad 1), .inl (d 0, 1247, .inl x11.2))] H locs := hw
        have hl : lv_has ls 2 [(0, .ref (ad 0)), (1, .int x11.1)] := hl
        refine lv_iload_n hx hb dX9_minds_11 rfl (lv_at hl 1 rfl) ?_
        refine lv_sipush (v := 989) hx hb dX9_minds_12 (by decide) ?_
        refine lv_icmp_ge (tgt := 47) hx hb dX9_minds_15 (by decide) (fun c15 => ?_) (fun c15 => ?_)
        · have hf := if_t hf c15
          have hf := sm_e hf
          subst hf
          have hz := hout11 _ rfl
          subst hz
          exact hK11 _ _ _ hw (lv_sub hl [0] rfl)
        · have hf := if_f hf c15
          refine lv_aload_n hx hb dX9_minds_18 rfl (lv_at hl 0 rfl) ?_
          refine va_get (ci := 0) (C := RX9) (T := TX9) (N := 19) hx hb hts in_X9 hown hK hw.1 0 rfl rfl 0 (by decide) (hts _ q1248) (fun _ h9 => h9) rfl dX9_minds_19 ?_
          refine lv_sipush (v := 215) hx hb dX9_minds_22 (by decide) ?_
          refine lv_iload_n hx hb dX9_minds_25 rfl (lv_at hl 1 rfl) ?_
          refine lv_iadd hx hb dX9_minds_26 ?_
          refine lv_aload_n hx hb dX9_minds_27 rfl (lv_at hl 0 rfl) ?_
          refine va_get (ci := 0) (C := RX9) (T := TX9) (N := 19) hx hb hts in_X9 hown hK hw.1 0 rfl rfl 0 (by decide) (hts _ q1248) (fun _ h9 => h9) rfl dX9_minds_28 ?_
          refine lv_sipush (v := 215) hx hb dX9_minds_31 (by decide) ?_
          refine lv_iload_n hx hb dX9_minds_34 rfl (lv_at hl 1 rfl) ?_
          refine lv_iadd hx hb dX9_minds_35 ?_
          refine lv_bipush (v := 43) hx hb dX9_minds_36 (by decide) ?_
          refine lv_iadd hx hb dX9_minds_38 ?_
          obtain ⟨v4, hv, hf⟩ := op_e hf
          refine x_iald (q0 := 1) cx hw rfl hv dX9_minds_39 ?_
          obtain ⟨w5, hv, hf⟩ := op_e hf
          refine x_iast (q0 := 1) cx hw rfl hv dX9_minds_40 (fun H locs hw => ?_)
          have hw : Wd D A s [oM ad fu ft ff fs fa fb fn fr, ((ad 1), .inl (d 0, 1247, .inl w5))] H locs := hw
          refine lv_iinc (v := (x11.1 + 1)) (lv' := [(1, .int (x11.1 + 1)), (0, .ref (ad 0))]) hx hb dX9_minds_41 hl (k := 1) rfl (by first | rfl | decide) (by decide) rfl (fun ls hl => ?_)
          refine lv_goto (tgt := 11) hx hb dX9_minds_44 (by decide) ?_
          have hf := sm_e hf
          subst hf
          exact hin11 _ rfl _ _ _ hw (lv_sub hl [1, 0] rfl)
theorem hd_X9_insideOf : yX9_insideOf.cls = "DishLiftModel" ∧ yX9_insideOf.cls ≠ "java/lang/invoke/MethodHandle" ∧ yX9_insideOf.cls ≠ "java/lang/invoke/VarHandle" ∧ (parseMethodDescriptor yX9_insideOf.desc).map (fun d => d.parameters.length) = some 1 := by decide +kernel
set_option maxHeartbeats 4000000 in
theorem mX9_insideOf (l : Launch) (X : XT) (hX : XOK X) (D : va_G) (d : Nat → ClassId) (ad : Nat → Nat) (fu : Int32) (ft : Int32) (ff : Int32) (fs : Int32) (fa : Int32) (fb : Int32) (fn : Int32) (fr : Int32) (Ww : Nat → Int32) (p1 : Int32) (res : Int32) (hf : fX9_insideOf Ww p1 = some res) : MetI l yX9_insideOf (ws_ yX9_insideOf cX9_insideOf 4 (some .int)) { frames := 0, cells := 0, slots := 0, locals := 0 } [.ref (ad 0), .int p1] X D d [oM ad fu ft ff fs fa fb fn fr, ((ad 1), .inl (d 0, 1247, .inl Ww))] (fun r (_ : Unit) => r = res) (fun _ => [oM ad fu ft ff fs fa fb fn fr, ((ad 1), .inl (d 0, 1247, .inl Ww))]) := by
  refine MetI.of (by decide +kernel) (Nat.le_of_ble_eq_true rfl) ?_
  intro p e s m below meth c A cx hw ls hl
  have cx : Cx p s m _ meth c X D d A "DishLiftModel" cX9_insideOf 4 (some .int) "insideOf" := cx
  have cx' := cx
  obtain ⟨hx, hb, hr, hlk, hml, hown, hts, hK, hA, hXs, hnm⟩ := cx'
  have hl : lv_has ls 4 [(0, .ref (ad 0)), (1, .int p1)] := hl
  unfold fX9_insideOf at hf
  refine lv_iconst (v := 0) hx hb dX9_insideOf_0 (by decide) ?_
  refine lv_istore_n (lv' := [(2, .int 0), (0, .ref (ad 0)), (1, .int p1)]) hx hb dX9_insideOf_1 rfl hl (by decide) rfl (fun ls hl => ?_)
  refine lv_iconst (v := 0) hx hb dX9_insideOf_2 (by decide) ?_
  refine lv_istore_n (lv' := [(3, .int 0), (2, .int 0), (0, .ref (ad 0)), (1, .int p1)]) hx hb dX9_insideOf_3 rfl hl (by decide) rfl (fun ls hl => ?_)
  obtain ⟨r1, hlp4, hf⟩ := op_e hf
  refine x_join (A := A) (D := D) (J := 48) (nL := 4) (cells' := 0) (slots' := 0) (st := []) [oM ad fu ft ff fs fa fb fn fr, ((ad 1), .inl (d 0, 1247, .inl Ww))] [(2, .int r1)] (fun H locs ls hw hl => ?_) (fun hK4 => ?_)
  · refine lv_iload_n hx hb dX9_insideOf_48 rfl (lv_at hl 0 rfl) ?_
    have hf := sm_e hf
    subst hf
    exact x_retI cx hw rfl () rfl [0, 1] rfl rfl (Nat.le_of_ble_eq_true rfl) (Nat.le_of_ble_eq_true rfl) dX9_insideOf_49
  · refine x_lp hlp4 (fun x4 => [oM ad fu ft ff fs fa fb fn fr, ((ad 1), .inl (d 0, 1247, .inl Ww))]) (fun x4 => [(0, .ref (ad 0)), (1, .int p1), (2, .int x4.1), (3, .int x4.2)]) hw (lv_sub hl [2, 3, 1, 0] rfl) (fun x4 y4 hf hin4 hout4 H locs ls hw hl => ?_)
    have hw : Wd D A s [oM ad fu ft ff fs fa fb fn fr, ((ad 1), .inl (d 0, 1247, .inl Ww))] H locs := hw
    have hl : lv_has ls 4 [(0, .ref (ad 0)), (1, .int p1), (2, .int x4.1), (3, .int x4.2)] := hl
    refine lv_iload_n hx hb dX9_insideOf_4 rfl (lv_at hl 3 rfl) ?_
    refine lv_aload_n hx hb dX9_insideOf_5 rfl (lv_at hl 0 rfl) ?_
    refine va_get (ci := 0) (C := RX9) (T := TX9) (N := 19) hx hb hts in_X9 hown hK hw.1 0 rfl rfl 0 (by decide) (hts _ q1248) (fun _ h9 => h9) rfl dX9_insideOf_6 ?_
    refine lv_iload_n hx hb dX9_insideOf_9 rfl (lv_at hl 1 rfl) ?_
    refine lv_iconst (v := 0) hx hb dX9_insideOf_10 (by decide) ?_
    refine lv_iadd hx hb dX9_insideOf_11 ?_
    obtain ⟨v2, hv, hf⟩ := op_e hf
    refine x_iald (q0 := 1) cx hw rfl hv dX9_insideOf_12 ?_
    refine lv_icmp_ge (tgt := 48) hx hb dX9_insideOf_13 (by decide) (fun c13 => ?_) (fun c13 => ?_)
    · have hf := if_t hf c13
      have hf := sm_e hf
      subst hf
      have hz := hout4 _ rfl
      subst hz
      exact hK4 _ _ _ hw (lv_sub hl [2] rfl)
    · have hf := if_f hf c13
      refine lv_iload_n hx hb dX9_insideOf_16 rfl (lv_at hl 2 rfl) ?_
      refine lv_aload_n hx hb dX9_insideOf_17 rfl (lv_at hl 0 rfl) ?_
      refine va_get (ci := 0) (C := RX9) (T := TX9) (N := 19) hx hb hts in_X9 hown hK hw.1 0 rfl rfl 0 (by decide) (hts _ q1248) (fun _ h9 => h9) rfl dX9_insideOf_18 ?_
      refine lv_iload_n hx hb dX9_insideOf_21 rfl (lv_at hl 1 rfl) ?_
      refine lv_bipush (v := 13) hx hb dX9_insideOf_22 (by decide) ?_
      refine lv_iadd hx hb dX9_insideOf_24 ?_
      refine lv_iload_n hx hb dX9_insideOf_25 rfl (lv_at hl 3 rfl) ?_
      refine lv_iadd hx hb dX9_insideOf_26 ?_
      obtain ⟨v3, hv, hf⟩ := op_e hf
      refine x_iald (q0 := 1) cx hw rfl hv dX9_insideOf_27 ?_
      refine lv_bipush (v := 10) hx hb dX9_insideOf_28 (by decide) ?_
      refine lv_icmp_ne (tgt := 39) hx hb dX9_insideOf_30 (by decide) (fun c30 => ?_) (fun c30 => ?_)
      · have hf := if_f hf c30
        refine lv_iconst (v := 0) hx hb dX9_insideOf_39 (by decide) ?_
        refine lv_ior hx hb dX9_insideOf_40 ?_
        refine lv_istore_n (lv' := [(2, .int (x4.1 ||| 0)), (0, .ref (ad 0)), (1, .int p1), (3, .int x4.2)]) hx hb dX9_insideOf_41 rfl hl (by decide) rfl (fun ls hl => ?_)
        refine lv_iinc (v := (x4.2 + 1)) (lv' := [(3, .int (x4.2 + 1)), (2, .int (x4.1 ||| 0)), (0, .ref (ad 0)), (1, .int p1)]) hx hb dX9_insideOf_42 hl (k := 3) rfl (by first | rfl | decide) (by decide) rfl (fun ls hl => ?_)
        refine lv_goto (tgt := 4) hx hb dX9_insideOf_45 (by decide) ?_
        have hf := sm_e hf
        subst hf
        exact hin4 _ rfl _ _ _ hw (lv_sub hl [2, 3, 1, 0] rfl)
      · have hf := if_t hf c30
        refine lv_iconst (v := 1) hx hb dX9_insideOf_33 (by decide) ?_
        refine lv_iload_n hx hb dX9_insideOf_34 rfl (lv_at hl 3 rfl) ?_
        refine lv_ishl hx hb dX9_insideOf_35 ?_
        refine lv_goto (tgt := 40) hx hb dX9_insideOf_36 (by decide) ?_
        refine lv_ior hx hb dX9_insideOf_40 ?_
        refine lv_istore_n (lv' := [(2, .int (x4.1 ||| ((1 : Int32) <<< (x4.2 &&& 31)))), (0, .ref (ad 0)), (1, .int p1), (3, .int x4.2)]) hx hb dX9_insideOf_41 rfl hl (by decide) rfl (fun ls hl => ?_)
        refine lv_iinc (v := (x4.2 + 1)) (lv' := [(3, .int (x4.2 + 1)), (2, .int (x4.1 ||| ((1 : Int32) <<< (x4.2 &&& 31)))), (0, .ref (ad 0)), (1, .int p1)]) hx hb dX9_insideOf_42 hl (k := 3) rfl (by first | rfl | decide) (by decide) rfl (fun ls hl => ?_)
        refine lv_goto (tgt := 4) hx hb dX9_insideOf_45 (by decide) ?_
        have hf := sm_e hf
        subst hf
        exact hin4 _ rfl _ _ _ hw (lv_sub hl [2, 3, 1, 0] rfl)
theorem hd_X9_ones : yX9_ones.cls ≠ "java/lang/invoke/MethodHandle" ∧ yX9_ones.cls ≠ "java/lang/invoke/VarHandle" ∧ (parseMethodDescriptor yX9_ones.desc).map (fun d => d.parameters.length) = some 1 := by decide +kernel
set_option maxHeartbeats 4000000 in
theorem mX9_ones (l : Launch) (X : XT) (hX : XOK X) (D : va_G) (d : Nat → ClassId) (p0 : Int32) (res : Int32) (hf : fX9_ones p0 = some res) : MetI l yX9_ones (ws_ yX9_ones cX9_ones 3 (some .int)) { frames := 0, cells := 0, slots := 0, locals := 0 } [.int p0] X D d [] (fun r (_ : Unit) => r = res) (fun _ => []) := by
  refine MetI.of (by decide +kernel) (Nat.le_of_ble_eq_true rfl) ?_
  intro p e s m below meth c A cx hw ls hl
  have cx : Cx p s m _ meth c X D d A "DishLiftModel" cX9_ones 3 (some .int) "ones" := cx
  have cx' := cx
  obtain ⟨hx, hb, hr, hlk, hml, hown, hts, hK, hA, hXs, hnm⟩ := cx'
  have hl : lv_has ls 3 [(0, .int p0)] := hl
  unfold fX9_ones at hf
  refine lv_iconst (v := 0) hx hb dX9_ones_0 (by decide) ?_
  refine lv_istore_n (lv' := [(1, .int 0), (0, .int p0)]) hx hb dX9_ones_1 rfl hl (by decide) rfl (fun ls hl => ?_)
  refine lv_iconst (v := 0) hx hb dX9_ones_2 (by decide) ?_
  refine lv_istore_n (lv' := [(2, .int 0), (1, .int 0), (0, .int p0)]) hx hb dX9_ones_3 rfl hl (by decide) rfl (fun ls hl => ?_)
  obtain ⟨r1, hlp4, hf⟩ := op_e hf
  refine x_join (A := A) (D := D) (J := 24) (nL := 3) (cells' := 0) (slots' := 0) (st := []) [] [(1, .int r1)] (fun H locs ls hw hl => ?_) (fun hK4 => ?_)
  · refine lv_iload_n hx hb dX9_ones_24 rfl (lv_at hl 0 rfl) ?_
    have hf := sm_e hf
    subst hf
    exact x_retI cx hw rfl () rfl [] rfl rfl (Nat.le_of_ble_eq_true rfl) (Nat.le_of_ble_eq_true rfl) dX9_ones_25
  · refine x_lp hlp4 (fun x4 => []) (fun x4 => [(0, .int p0), (1, .int x4.1), (2, .int x4.2)]) hw (lv_sub hl [2, 1, 0] rfl) (fun x4 y4 hf hin4 hout4 H locs ls hw hl => ?_)
    have hw : Wd D A s [] H locs := hw
    have hl : lv_has ls 3 [(0, .int p0), (1, .int x4.1), (2, .int x4.2)] := hl
    refine lv_iload_n hx hb dX9_ones_4 rfl (lv_at hl 2 rfl) ?_
    refine lv_bipush (v := 6) hx hb dX9_ones_5 (by decide) ?_
    refine lv_icmp_ge (tgt := 24) hx hb dX9_ones_7 (by decide) (fun c7 => ?_) (fun c7 => ?_)
    · have hf := if_t hf c7
      have hf := sm_e hf
      subst hf
      have hz := hout4 _ rfl
      subst hz
      exact hK4 _ _ _ hw (lv_sub hl [1] rfl)
    · have hf := if_f hf c7
      refine lv_iload_n hx hb dX9_ones_10 rfl (lv_at hl 1 rfl) ?_
      refine lv_iload_n hx hb dX9_ones_11 rfl (lv_at hl 0 rfl) ?_
      refine lv_iload_n hx hb dX9_ones_12 rfl (lv_at hl 2 rfl) ?_
      refine lv_ishr hx hb dX9_ones_13 ?_
      refine lv_iconst (v := 1) hx hb dX9_ones_14 (by decide) ?_
      refine lv_iand hx hb dX9_ones_15 ?_
      refine lv_iadd hx hb dX9_ones_16 ?_
      refine lv_istore_n (lv' := [(1, .int (x4.1 + ((p0 >>> (x4.2 &&& 31)) &&& 1))), (0, .int p0), (2, .int x4.2)]) hx hb dX9_ones_17 rfl hl (by decide) rfl (fun ls hl => ?_)
      refine lv_iinc (v := (x4.2 + 1)) (lv' := [(2, .int (x4.2 + 1)), (1, .int (x4.1 + ((p0 >>> (x4.2 &&& 31)) &&& 1))), (0, .int p0)]) hx hb dX9_ones_18 hl (k := 2) rfl (by first | rfl | decide) (by decide) rfl (fun ls hl => ?_)
      refine lv_goto (tgt := 4) hx hb dX9_ones_21 (by decide) ?_
      have hf := sm_e hf
      subst hf
      exact hin4 _ rfl _ _ _ hw (lv_sub hl [2, 1, 0] rfl)
theorem hd_X9_has : yX9_has.cls ≠ "java/lang/invoke/MethodHandle" ∧ yX9_has.cls ≠ "java/lang/invoke/VarHandle" ∧ (parseMethodDescriptor yX9_has.desc).map (fun d => d.parameters.length) = some 2 := by decide +kernel
set_option maxHeartbeats 4000000 in
theorem mX9_has (l : Launch) (X : XT) (hX : XOK X) (D : va_G) (d : Nat → ClassId) (p0 : Int32) (p1 : Int32) (res : Int32) (hf : fX9_has p0 p1 = some res) : MetI l yX9_has (ws_ yX9_has cX9_has 2 (some .boolean)) { frames := 0, cells := 0, slots := 0, locals := 0 } [.int p0, .int p1] X D d [] (fun r (_ : Unit) => r = res) (fun _ => []) := by
  refine MetI.of (by decide +kernel) (Nat.le_of_ble_eq_true rfl) ?_
  intro p e s m below meth c A cx hw ls hl
  have cx : Cx p s m _ meth c X D d A "DishLiftModel" cX9_has 2 (some .boolean) "has" := cx
  have cx' := cx
  obtain ⟨hx, hb, hr, hlk, hml, hown, hts, hK, hA, hXs, hnm⟩ := cx'
  have hl : lv_has ls 2 [(0, .int p0), (1, .int p1)] := hl
  unfold fX9_has at hf
  refine lv_iload_n hx hb dX9_has_0 rfl (lv_at hl 0 rfl) ?_
  refine lv_iload_n hx hb dX9_has_1 rfl (lv_at hl 1 rfl) ?_
  refine lv_ishr hx hb dX9_has_2 ?_
  refine lv_iconst (v := 1) hx hb dX9_has_3 (by decide) ?_
  refine lv_iand hx hb dX9_has_4 ?_
  refine lv_iconst (v := 1) hx hb dX9_has_5 (by decide) ?_
  refine lv_icmp_ne (tgt := 13) hx hb dX9_has_6 (by decide) (fun c6 => ?_) (fun c6 => ?_)
  · have hf := if_f hf c6
    refine lv_iconst (v := 0) hx hb dX9_has_13 (by decide) ?_
    have hf := sm_e hf
    subst hf
    exact x_retI cx hw rfl () rfl [] rfl rfl (Nat.le_of_ble_eq_true rfl) (Nat.le_of_ble_eq_true rfl) dX9_has_14
  · have hf := if_t hf c6
    refine lv_iconst (v := 1) hx hb dX9_has_9 (by decide) ?_
    refine lv_goto (tgt := 14) hx hb dX9_has_10 (by decide) ?_
    have hf := sm_e hf
    subst hf
    exact x_retI cx hw rfl () rfl [] rfl rfl (Nat.le_of_ble_eq_true rfl) (Nat.le_of_ble_eq_true rfl) dX9_has_14
theorem hd_X9_weightOf : yX9_weightOf.cls = "DishLiftModel" ∧ yX9_weightOf.cls ≠ "java/lang/invoke/MethodHandle" ∧ yX9_weightOf.cls ≠ "java/lang/invoke/VarHandle" ∧ (parseMethodDescriptor yX9_weightOf.desc).map (fun d => d.parameters.length) = some 2 := by decide +kernel
set_option maxHeartbeats 4000000 in
theorem mX9_weightOf (l : Launch) (X : XT) (hX : XOK X) (D : va_G) (d : Nat → ClassId) (ad : Nat → Nat) (fu : Int32) (ft : Int32) (ff : Int32) (fs : Int32) (fa : Int32) (fb : Int32) (fn : Int32) (fr : Int32) (Ww : Nat → Int32) (p1 : Int32) (p2 : Int32) (res : Int32) (hf : fX9_weightOf Ww p1 p2 = some res) : MetI l yX9_weightOf (ws_ yX9_weightOf cX9_weightOf 5 (some .int)) { frames := 1, cells := 0, slots := 0, locals := 21 } [.ref (ad 0), .int p1, .int p2] X D d [oM ad fu ft ff fs fa fb fn fr, ((ad 1), .inl (d 0, 1247, .inl Ww))] (fun r (_ : Unit) => r = res) (fun _ => [oM ad fu ft ff fs fa fb fn fr, ((ad 1), .inl (d 0, 1247, .inl Ww))]) := by
  refine MetI.of (by decide +kernel) (Nat.le_of_ble_eq_true rfl) ?_
  intro p e s m below meth c A cx hw ls hl
  have cx : Cx p s m _ meth c X D d A "DishLiftModel" cX9_weightOf 5 (some .int) "weightOf" := cx
  have cx' := cx
  obtain ⟨hx, hb, hr, hlk, hml, hown, hts, hK, hA, hXs, hnm⟩ := cx'
  have hl : lv_has ls 5 [(0, .ref (ad 0)), (1, .int p1), (2, .int p2)] := hl
  unfold fX9_weightOf at hf
  refine lv_iconst (v := 0) hx hb dX9_weightOf_0 (by decide) ?_
  refine lv_istore_n (lv' := [(3, .int 0), (0, .ref (ad 0)), (1, .int p1), (2, .int p2)]) hx hb dX9_weightOf_1 rfl hl (by decide) rfl (fun ls hl => ?_)
  refine lv_iconst (v := 0) hx hb dX9_weightOf_2 (by decide) ?_
  refine lv_istore (lv' := [(4, .int 0), (3, .int 0), (0, .ref (ad 0)), (1, .int p1), (2, .int p2)]) hx hb dX9_weightOf_3 hl (by decide) rfl (fun ls hl => ?_)
  obtain ⟨r1, hlp5, hf⟩ := op_e hf
  refine x_join (A := A) (D := D) (J := 52) (nL := 5) (cells' := 0) (slots' := 0) (st := []) [oM ad fu ft ff fs fa fb fn fr, ((ad 1), .inl (d 0, 1247, .inl Ww))] [(3, .int r1)] (fun H locs ls hw hl => ?_) (fun hK5 => ?_)
  · refine lv_iload_n hx hb dX9_weightOf_52 rfl (lv_at hl 0 rfl) ?_
    have hf := sm_e hf
    subst hf
    exact x_retI cx hw rfl () rfl [0, 1] rfl rfl (Nat.le_of_ble_eq_true rfl) (Nat.le_of_ble_eq_true rfl) dX9_weightOf_53
  · refine x_lp hlp5 (fun x5 => [oM ad fu ft ff fs fa fb fn fr, ((ad 1), .inl (d 0, 1247, .inl Ww))]) (fun x5 => [(0, .ref (ad 0)), (1, .int p1), (2, .int p2), (3, .int x5.1), (4, .int x5.2)]) hw (lv_sub hl [2, 3, 4, 1, 0] rfl) (fun x5 y5 hf hin5 hout5 H locs ls hw hl => ?_)
    have hw : Wd D A s [oM ad fu ft ff fs fa fb fn fr, ((ad 1), .inl (d 0, 1247, .inl Ww))] H locs := hw
    have hl : lv_has ls 5 [(0, .ref (ad 0)), (1, .int p1), (2, .int p2), (3, .int x5.1), (4, .int x5.2)] := hl
    refine lv_iload hx hb dX9_weightOf_5 (lv_at hl 4 rfl) ?_
    refine lv_aload_n hx hb dX9_weightOf_7 rfl (lv_at hl 0 rfl) ?_
    refine va_get (ci := 0) (C := RX9) (T := TX9) (N := 19) hx hb hts in_X9 hown hK hw.1 0 rfl rfl 0 (by decide) (hts _ q1248) (fun _ h9 => h9) rfl dX9_weightOf_8 ?_
    refine lv_iload_n hx hb dX9_weightOf_11 rfl (lv_at hl 1 rfl) ?_
    refine lv_iconst (v := 0) hx hb dX9_weightOf_12 (by decide) ?_
    refine lv_iadd hx hb dX9_weightOf_13 ?_
    obtain ⟨v2, hv, hf⟩ := op_e hf
    refine x_iald (q0 := 1) cx hw rfl hv dX9_weightOf_14 ?_
    refine lv_icmp_ge (tgt := 52) hx hb dX9_weightOf_15 (by decide) (fun c15 => ?_) (fun c15 => ?_)
    · have hf := if_t hf c15
      have hf := sm_e hf
      subst hf
      have hz := hout5 _ rfl
      subst hz
      exact hK5 _ _ _ hw (lv_sub hl [3] rfl)
    · have hf := if_f hf c15
      refine lv_iload_n hx hb dX9_weightOf_18 rfl (lv_at hl 3 rfl) ?_
      refine lv_iload_n hx hb dX9_weightOf_19 rfl (lv_at hl 2 rfl) ?_
      refine lv_iload hx hb dX9_weightOf_20 (lv_at hl 4 rfl) ?_
      obtain ⟨q3, hcq3, hf⟩ := op_e hf
      refine x_SI (wr := [oM ad fu ft ff fs fa fb fn fr, ((ad 1), .inl (d 0, 1247, .inl Ww))]) (rest := [.int x5.1]) [.int p2, .int x5.2] hX cx hw hl.1 (mX9_has l X hX D d p2 x5.2 q3 hcq3) (lw_S q1430 q1431 q94 q1432) hd_X9_has ⟨Nat.le_of_ble_eq_true rfl, Nat.le_of_ble_eq_true rfl⟩ rfl rfl (Nat.le_of_ble_eq_true rfl) dX9_weightOf_22 [] [0, 1] rfl rfl rfl rfl (by decide) ⟨(Nat.le_of_ble_eq_true rfl), (Nat.le_of_ble_eq_true rfl)⟩ (fun r u H locs hp hw => ?_)
      have hw : Wd D A s [oM ad fu ft ff fs fa fb fn fr, ((ad 1), .inl (d 0, 1247, .inl Ww))] H locs := hw
      subst r
      refine lv_if_eq (tgt := 43) hx hb dX9_weightOf_25 (by decide) (fun c25 => ?_) (fun c25 => ?_)
      · have hf := if_t hf c25
        refine lv_iconst (v := 0) hx hb dX9_weightOf_43 (by decide) ?_
        refine lv_iadd hx hb dX9_weightOf_44 ?_
        refine lv_istore_n (lv' := [(3, .int (x5.1 + 0)), (0, .ref (ad 0)), (1, .int p1), (2, .int p2), (4, .int x5.2)]) hx hb dX9_weightOf_45 rfl hl (by decide) rfl (fun ls hl => ?_)
        refine lv_iinc (v := (x5.2 + 1)) (lv' := [(4, .int (x5.2 + 1)), (3, .int (x5.1 + 0)), (0, .ref (ad 0)), (1, .int p1), (2, .int p2)]) hx hb dX9_weightOf_46 hl (k := 4) rfl (by first | rfl | decide) (by decide) rfl (fun ls hl => ?_)
        refine lv_goto (tgt := 5) hx hb dX9_weightOf_49 (by decide) ?_
        have hf := sm_e hf
        subst hf
        exact hin5 _ rfl _ _ _ hw (lv_sub hl [2, 3, 4, 1, 0] rfl)
      · have hf := if_f hf c25
        refine lv_aload_n hx hb dX9_weightOf_28 rfl (lv_at hl 0 rfl) ?_
        refine va_get (ci := 0) (C := RX9) (T := TX9) (N := 19) hx hb hts in_X9 hown hK hw.1 0 rfl rfl 0 (by decide) (hts _ q1248) (fun _ h9 => h9) rfl dX9_weightOf_29 ?_
        refine lv_iload_n hx hb dX9_weightOf_32 rfl (lv_at hl 1 rfl) ?_
        refine lv_bipush (v := 25) hx hb dX9_weightOf_33 (by decide) ?_
        refine lv_iadd hx hb dX9_weightOf_35 ?_
        refine lv_iload hx hb dX9_weightOf_36 (lv_at hl 4 rfl) ?_
        refine lv_iadd hx hb dX9_weightOf_38 ?_
        obtain ⟨v4, hv, hf⟩ := op_e hf
        refine x_iald (q0 := 1) cx hw rfl hv dX9_weightOf_39 ?_
        refine lv_goto (tgt := 44) hx hb dX9_weightOf_40 (by decide) ?_
        refine lv_iadd hx hb dX9_weightOf_44 ?_
        refine lv_istore_n (lv' := [(3, .int (x5.1 + v4)), (0, .ref (ad 0)), (1, .int p1), (2, .int p2), (4, .int x5.2)]) hx hb dX9_weightOf_45 rfl hl (by decide) rfl (fun ls hl => ?_)
        refine lv_iinc (v := (x5.2 + 1)) (lv' := [(4, .int (x5.2 + 1)), (3, .int (x5.1 + v4)), (0, .ref (ad 0)), (1, .int p1), (2, .int p2)]) hx hb dX9_weightOf_46 hl (k := 4) rfl (by first | rfl | decide) (by decide) rfl (fun ls hl => ?_)
        refine lv_goto (tgt := 5) hx hb dX9_weightOf_49 (by decide) ?_
        have hf := sm_e hf
        subst hf
        exact hin5 _ rfl _ _ _ hw (lv_sub hl [2, 3, 4, 1, 0] rfl)
theorem hd_X9_serves : yX9_serves.cls = "DishLiftModel" ∧ yX9_serves.cls ≠ "java/lang/invoke/MethodHandle" ∧ yX9_serves.cls ≠ "java/lang/invoke/VarHandle" ∧ (parseMethodDescriptor yX9_serves.desc).map (fun d => d.parameters.length) = some 1 := by decide +kernel
set_option maxHeartbeats 4000000 in
theorem mX9_serves (l : Launch) (X : XT) (hX : XOK X) (D : va_G) (d : Nat → ClassId) (ad : Nat → Nat) (fu : Int32) (ft : Int32) (ff : Int32) (fs : Int32) (fa : Int32) (fb : Int32) (fn : Int32) (fr : Int32) (Ww : Nat → Int32) (p1 : Int32) (res : (Nat → Int32)) (hf : fX9_serves Ww p1 = some res) : MetV l yX9_serves (ws_ yX9_serves cX9_serves 6 none) { frames := 2, cells := 0, slots := 0, locals := 45 } [.ref (ad 0), .int p1] X D d [oM ad fu ft ff fs fa fb fn fr, ((ad 1), .inl (d 0, 1247, .inl Ww))] (fun (_ : Unit) => True) (fun _ => [oM ad fu ft ff fs fa fb fn fr, ((ad 1), .inl (d 0, 1247, .inl res))]) := by
  refine MetV.of (by decide +kernel) (Nat.le_of_ble_eq_true rfl) ?_
  intro p e s m below meth c A cx hw ls hl
  have cx : Cx p s m _ meth c X D d A "DishLiftModel" cX9_serves 6 none "serves" := cx
  have cx' := cx
  obtain ⟨hx, hb, hr, hlk, hml, hown, hts, hK, hA, hXs, hnm⟩ := cx'
  have hl : lv_has ls 6 [(0, .ref (ad 0)), (1, .int p1)] := hl
  unfold fX9_serves at hf
  refine lv_iconst (v := 0) hx hb dX9_serves_0 (by decide) ?_
  refine lv_istore_n (lv' := [(2, .int 0), (0, .ref (ad 0)), (1, .int p1)]) hx hb dX9_serves_1 rfl hl (by decide) rfl (fun ls hl => ?_)
  obtain ⟨r1, hlp2, hf⟩ := op_e hf
  refine x_join (A := A) (D := D) (J := 117) (nL := 6) (cells' := 0) (slots' := 0) (st := []) [oM ad fu ft ff fs fa fb fn fr, ((ad 1), .inl (d 0, 1247, .inl r1))] [(0, .ref (ad 0)), (1, .int p1)] (fun H locs ls hw hl => ?_) (fun hK2 => ?_)
  · refine lv_iconst (v := 0) hx hb dX9_serves_117 (by decide) ?_
    refine lv_istore_n (lv' := [(2, .int 0), (0, .ref (ad 0)), (1, .int p1)]) hx hb dX9_serves_118 rfl hl (by decide) rfl (fun ls hl => ?_)
    obtain ⟨r2, hlp119, hf⟩ := op_e hf
    refine x_join (A := A) (D := D) (J := 263) (nL := 6) (cells' := 0) (slots' := 0) (st := []) [oM ad fu ft ff fs fa fb fn fr, ((ad 1), .inl (d 0, 1247, .inl r2))] [] (fun H locs ls hw hl => ?_) (fun hK119 => ?_)
    · have hf := sm_e hf
      subst hf
      exact x_retV cx hw () trivial [0, 1] rfl rfl (Nat.le_of_ble_eq_true rfl) (Nat.le_of_ble_eq_true rfl) dX9_serves_263
    · refine x_lp hlp119 (fun x119 => [oM ad fu ft ff fs fa fb fn fr, ((ad 1), .inl (d 0, 1247, .inl x119.2))]) (fun x119 => [(0, .ref (ad 0)), (1, .int p1), (2, .int x119.1)]) hw (lv_sub hl [1, 2, 0] rfl) (fun x119 y119 hf hin119 hout119 H locs ls hw hl => ?_)
      have hw : Wd D A s [oM ad fu ft ff fs fa fb fn fr, ((ad 1), .inl (d 0, 1247, .inl x119.2))] H locs := hw
      have hl : lv_has ls 6 [(0, .ref (ad 0)), (1, .int p1), (2, .int x119.1)] := hl
      refine lv_iload_n hx hb dX9_serves_119 rfl (lv_at hl 2 rfl) ?_
      refine lv_aload_n hx hb dX9_serves_120 rfl (lv_at hl 0 rfl) ?_
      refine va_get (ci := 0) (C := RX9) (T := TX9) (N := 19) hx hb hts in_X9 hown hK hw.1 0 rfl rfl 0 (by decide) (hts _ q1248) (fun _ h9 => h9) rfl dX9_serves_121 ?_
      refine lv_iload_n hx hb dX9_serves_124 rfl (lv_at hl 1 rfl) ?_
      refine lv_iconst (v := 0) hx hb dX9_serves_125 (by decide) ?_
      refine lv_iadd hx hb dX9_serves_126 ?_
      obtain ⟨v3, hv, hf⟩ := op_e hf
      refine x_iald (q0 := 1) cx hw rfl hv dX9_serves_127 ?_
      refine lv_icmp_ge (tgt := 263) hx hb dX9_serves_128 (by decide) (fun c128 => ?_) (fun c128 => ?_)
      · have hf := if_t hf c128
        have hf := sm_e hf
        subst hf
        have hz := hout119 _ rfl
        subst hz
        exact hK119 _ _ _ hw (lv_sub hl [] rfl)
      · have hf := if_f hf c128
        refine lv_aload_n hx hb dX9_serves_131 rfl (lv_at hl 0 rfl) ?_
        refine va_get (ci := 0) (C := RX9) (T := TX9) (N := 19) hx hb hts in_X9 hown hK hw.1 0 rfl rfl 0 (by decide) (hts _ q1248) (fun _ h9 => h9) rfl dX9_serves_132 ?_
        refine lv_iload_n hx hb dX9_serves_135 rfl (lv_at hl 1 rfl) ?_
        refine lv_bipush (v := 37) hx hb dX9_serves_136 (by decide) ?_
        refine lv_iadd hx hb dX9_serves_138 ?_
        refine lv_iload_n hx hb dX9_serves_139 rfl (lv_at hl 2 rfl) ?_
        refine lv_iadd hx hb dX9_serves_140 ?_
        obtain ⟨v4, hv, hf⟩ := op_e hf
        refine x_iald (q0 := 1) cx hw rfl hv dX9_serves_141 ?_
        refine lv_istore_n (lv' := [(3, .int v4), (0, .ref (ad 0)), (1, .int p1), (2, .int x119.1)]) hx hb dX9_serves_142 rfl hl (by decide) rfl (fun ls hl => ?_)
        refine lv_aload_n hx hb dX9_serves_143 rfl (lv_at hl 1 rfl) ?_
        refine lv_iload_n hx hb dX9_serves_144 rfl (lv_at hl 2 rfl) ?_
        obtain ⟨q5, hcq5, hf⟩ := op_e hf
        refine x_VI (wr := []) (rest := []) [.int p1] hX cx hw hl.1 (mX9_insideOf l X hX D d ad fu ft ff fs fa fb fn fr x119.2 p1 q5 hcq5) (lw_V q1419 q1421 qs50 q94 q1422) hd_X9_insideOf ⟨Nat.le_of_ble_eq_true rfl, Nat.le_of_ble_eq_true rfl⟩ (va_recv hK hw.1 (ci := 0) (q0 := 0) rfl rfl) rfl rfl (Nat.le_of_ble_eq_true rfl) dX9_serves_145 [0, 1] [] rfl rfl rfl rfl (by decide) ⟨(Nat.le_of_ble_eq_true rfl), (Nat.le_of_ble_eq_true rfl)⟩ (fun r u H locs hp hw => ?_)
        have hw : Wd D A s [oM ad fu ft ff fs fa fb fn fr, ((ad 1), .inl (d 0, 1247, .inl x119.2))] H locs := hw
        subst r
        refine lv_istore (lv' := [(4, .int q5), (3, .int v4), (0, .ref (ad 0)), (1, .int p1), (2, .int x119.1)]) hx hb dX9_serves_148 hl (by decide) rfl (fun ls hl => ?_)
        refine lv_iload hx hb dX9_serves_150 (lv_at hl 0 rfl) ?_
        obtain ⟨q6, hcq6, hf⟩ := op_e hf
        refine x_SI (wr := [oM ad fu ft ff fs fa fb fn fr, ((ad 1), .inl (d 0, 1247, .inl x119.2))]) (rest := []) [.int q5] hX cx hw hl.1 (mX9_ones l X hX D d q5 q6 hcq6) (lw_S q1423 q1424 q94 q1425) hd_X9_ones ⟨Nat.le_of_ble_eq_true rfl, Nat.le_of_ble_eq_true rfl⟩ rfl rfl (Nat.le_of_ble_eq_true rfl) dX9_serves_152 [] [0, 1] rfl rfl rfl rfl (by decide) ⟨(Nat.le_of_ble_eq_true rfl), (Nat.le_of_ble_eq_true rfl)⟩ (fun r u H locs hp hw => ?_)
        have hw : Wd D A s [oM ad fu ft ff fs fa fb fn fr, ((ad 1), .inl (d 0, 1247, .inl x119.2))] H locs := hw
        subst r
        refine lv_aload_n hx hb dX9_serves_155 rfl (lv_at hl 2 rfl) ?_
        refine va_get (ci := 0) (C := RX9) (T := TX9) (N := 19) hx hb hts in_X9 hown hK hw.1 0 rfl rfl 0 (by decide) (hts _ q1248) (fun _ h9 => h9) rfl dX9_serves_156 ?_
        refine lv_iload_n hx hb dX9_serves_159 rfl (lv_at hl 3 rfl) ?_
        refine lv_iconst (v := 2) hx hb dX9_serves_160 (by decide) ?_
        refine lv_iadd hx hb dX9_serves_161 ?_
        obtain ⟨v7, hv, hf⟩ := op_e hf
        refine x_iald (q0 := 1) cx hw rfl hv dX9_serves_162 ?_
        obtain ⟨j8, ha, hr⟩ := op_e hf
        refine x_join (A := A) (D := D) (J := 201) (nL := 6) (cells' := 0) (slots' := 0) (st := [.int j8]) [oM ad fu ft ff fs fa fb fn fr, ((ad 1), .inl (d 0, 1247, .inl x119.2))] [(0, .ref (ad 0)), (1, .int p1), (2, .int x119.1), (3, .int v4)] (fun H locs ls hw hl => ?_) (fun hKj201_j8 => ?_)
        · have hf := hr
          refine lv_istore (lv' := [(5, .int j8), (0, .ref (ad 0)), (1, .int p1), (2, .int x119.1), (3, .int v4)]) hx hb dX9_serves_201 hl (by decide) rfl (fun ls hl => ?_)
          refine lv_aload_n hx hb dX9_serves_203 rfl (lv_at hl 1 rfl) ?_
          refine va_get (ci := 0) (C := RX9) (T := TX9) (N := 19) hx hb hts in_X9 hown hK hw.1 0 rfl rfl 0 (by decide) (hts _ q1248) (fun _ h9 => h9) rfl dX9_serves_204 ?_
          refine lv_iload_n hx hb dX9_serves_207 rfl (lv_at hl 2 rfl) ?_
          refine lv_bipush (v := 13) hx hb dX9_serves_208 (by decide) ?_
          refine lv_iadd hx hb dX9_serves_210 ?_
          refine lv_iload_n hx hb dX9_serves_211 rfl (lv_at hl 4 rfl) ?_
          refine lv_iadd hx hb dX9_serves_212 ?_
          refine lv_aload_n hx hb dX9_serves_213 rfl (lv_at hl 1 rfl) ?_
          refine va_get (ci := 0) (C := RX9) (T := TX9) (N := 19) hx hb hts in_X9 hown hK hw.1 0 rfl rfl 0 (by decide) (hts _ q1248) (fun _ h9 => h9) rfl dX9_serves_214 ?_
          refine lv_iload_n hx hb dX9_serves_217 rfl (lv_at hl 2 rfl) ?_
          refine lv_bipush (v := 13) hx hb dX9_serves_218 (by decide) ?_
          refine lv_iadd hx hb dX9_serves_220 ?_
          refine lv_iload_n hx hb dX9_serves_221 rfl (lv_at hl 4 rfl) ?_
          refine lv_iadd hx hb dX9_serves_222 ?_
          obtain ⟨v9, hv, hf⟩ := op_e hf
          refine x_iald (q0 := 1) cx hw rfl hv dX9_serves_223 ?_
          refine lv_aload_n hx hb dX9_serves_224 rfl (lv_at hl 1 rfl) ?_
          refine va_get (ci := 0) (C := RX9) (T := TX9) (N := 19) hx hb hts in_X9 hown hK hw.1 0 rfl rfl 0 (by decide) (hts _ q1248) (fun _ h9 => h9) rfl dX9_serves_225 ?_
          refine lv_iload_n hx hb dX9_serves_228 rfl (lv_at hl 2 rfl) ?_
          refine lv_iconst (v := 4) hx hb dX9_serves_229 (by decide) ?_
          refine lv_iadd hx hb dX9_serves_230 ?_
          obtain ⟨v10, hv, hf⟩ := op_e hf
          refine x_iald (q0 := 1) cx hw rfl hv dX9_serves_231 ?_
          obtain ⟨j11, ha, hr⟩ := op_e hf
          refine x_join (A := A) (D := D) (J := 256) (nL := 6) (cells' := 0) (slots' := 0) (st := [.int j11, .int ((p1 + 13) + v4), .ref (ad 1)]) [oM ad fu ft ff fs fa fb fn fr, ((ad 1), .inl (d 0, 1247, .inl x119.2))] [(0, .ref (ad 0)), (1, .int p1), (2, .int x119.1)] (fun H locs ls hw hl => ?_) (fun hKj256_j11 => ?_)
          · have hf := hr
            obtain ⟨w12, hv, hf⟩ := op_e hf
            refine x_iast (q0 := 1) cx hw rfl hv dX9_serves_256 (fun H locs hw => ?_)
            have hw : Wd D A s [oM ad fu ft ff fs fa fb fn fr, ((ad 1), .inl (d 0, 1247, .inl w12))] H locs := hw
            refine lv_iinc (v := (x119.1 + 1)) (lv' := [(2, .int (x119.1 + 1)), (0, .ref (ad 0)), (1, .int p1)]) hx hb dX9_serves_257 hl (k := 2) rfl (by first | rfl | decide) (by decide) rfl (fun ls hl => ?_)
            refine lv_goto (tgt := 119) hx hb dX9_serves_260 (by decide) ?_
            have hf := sm_e hf
            subst hf
            exact hin119 _ rfl _ _ _ hw (lv_sub hl [1, 2, 0] rfl)
          · have hf := ha
            refine lv_icmp_ne (tgt := 245) hx hb dX9_serves_232 (by decide) (fun c232 => ?_) (fun c232 => ?_)
            · have hf := if_f hf c232
              refine lv_aload_n hx hb dX9_serves_245 rfl (lv_at hl 1 rfl) ?_
              refine va_get (ci := 0) (C := RX9) (T := TX9) (N := 19) hx hb hts in_X9 hown hK hw.1 0 rfl rfl 0 (by decide) (hts _ q1248) (fun _ h9 => h9) rfl dX9_serves_246 ?_
              refine lv_iload_n hx hb dX9_serves_249 rfl (lv_at hl 2 rfl) ?_
              refine lv_bipush (v := 13) hx hb dX9_serves_250 (by decide) ?_
              refine lv_iadd hx hb dX9_serves_252 ?_
              refine lv_iload_n hx hb dX9_serves_253 rfl (lv_at hl 4 rfl) ?_
              refine lv_iadd hx hb dX9_serves_254 ?_
              obtain ⟨v14, hv, hf⟩ := op_e hf
              refine x_iald (q0 := 1) cx hw rfl hv dX9_serves_255 ?_
              have hf := sm_e hf
              subst hf
              exact hKj256_j11 _ _ _ hw (lv_sub hl [1, 2, 3] rfl)
            · have hf := if_t hf c232
              refine lv_iload hx hb dX9_serves_235 (lv_at hl 0 rfl) ?_
              refine lv_if_eq (tgt := 245) hx hb dX9_serves_237 (by decide) (fun c237 => ?_) (fun c237 => ?_)
              · have hf := if_t hf c237
                refine lv_aload_n hx hb dX9_serves_245 rfl (lv_at hl 1 rfl) ?_
                refine va_get (ci := 0) (C := RX9) (T := TX9) (N := 19) hx hb hts in_X9 hown hK hw.1 0 rfl rfl 0 (by decide) (hts _ q1248) (fun _ h9 => h9) rfl dX9_serves_246 ?_
                refine lv_iload_n hx hb dX9_serves_249 rfl (lv_at hl 2 rfl) ?_
                refine lv_bipush (v := 13) hx hb dX9_serves_250 (by decide) ?_
                refine lv_iadd hx hb dX9_serves_252 ?_
                refine lv_iload_n hx hb dX9_serves_253 rfl (lv_at hl 4 rfl) ?_
                refine lv_iadd hx hb dX9_serves_254 ?_
                obtain ⟨v13, hv, hf⟩ := op_e hf
                refine x_iald (q0 := 1) cx hw rfl hv dX9_serves_255 ?_
                have hf := sm_e hf
                subst hf
                exact hKj256_j11 _ _ _ hw (lv_sub hl [1, 2, 3] rfl)
              · have hf := if_f hf c237
                refine lv_bipush (v := 10) hx hb dX9_serves_240 (by decide) ?_
                refine lv_goto (tgt := 256) hx hb dX9_serves_242 (by decide) ?_
                have hf := sm_e hf
                subst hf
                exact hKj256_j11 _ _ _ hw (lv_sub hl [1, 2, 3] rfl)
        · have hf := ha
          refine lv_icmp_ge (tgt := 200) hx hb dX9_serves_163 (by decide) (fun c163 => ?_) (fun c163 => ?_)
          · have hf := if_t hf c163
            refine lv_iconst (v := 0) hx hb dX9_serves_200 (by decide) ?_
            have hf := sm_e hf
            subst hf
            exact hKj201_j8 _ _ _ hw (lv_sub hl [2, 3, 4, 1] rfl)
          · have hf := if_f hf c163
            refine lv_aload_n hx hb dX9_serves_166 rfl (lv_at hl 2 rfl) ?_
            refine lv_iload_n hx hb dX9_serves_167 rfl (lv_at hl 3 rfl) ?_
            refine lv_iload hx hb dX9_serves_168 (lv_at hl 0 rfl) ?_
            obtain ⟨q15, hcq15, hf⟩ := op_e hf
            refine x_VI (wr := []) (rest := []) [.int p1, .int q5] hX cx hw hl.1 (mX9_weightOf l X hX D d ad fu ft ff fs fa fb fn fr x119.2 p1 q5 q15 hcq15) (lw_V q1426 q1428 qs51 q94 q1429) hd_X9_weightOf ⟨Nat.le_of_ble_eq_true rfl, Nat.le_of_ble_eq_true rfl⟩ (va_recv hK hw.1 (ci := 0) (q0 := 0) rfl rfl) rfl rfl (Nat.le_of_ble_eq_true rfl) dX9_serves_170 [0, 1] [] rfl rfl rfl rfl (by decide) ⟨(Nat.le_of_ble_eq_true rfl), (Nat.le_of_ble_eq_true rfl)⟩ (fun r u H locs hp hw => ?_)
            have hw : Wd D A s [oM ad fu ft ff fs fa fb fn fr, ((ad 1), .inl (d 0, 1247, .inl x119.2))] H locs := hw
            subst r
            refine lv_aload_n hx hb dX9_serves_173 rfl (lv_at hl 2 rfl) ?_
            refine va_get (ci := 0) (C := RX9) (T := TX9) (N := 19) hx hb hts in_X9 hown hK hw.1 0 rfl rfl 0 (by decide) (hts _ q1248) (fun _ h9 => h9) rfl dX9_serves_174 ?_
            refine lv_iload_n hx hb dX9_serves_177 rfl (lv_at hl 3 rfl) ?_
            refine lv_bipush (v := 25) hx hb dX9_serves_178 (by decide) ?_
            refine lv_iadd hx hb dX9_serves_180 ?_
            refine lv_iload_n hx hb dX9_serves_181 rfl (lv_at hl 1 rfl) ?_
            refine lv_iadd hx hb dX9_serves_182 ?_
            obtain ⟨v16, hv, hf⟩ := op_e hf
            refine x_iald (q0 := 1) cx hw rfl hv dX9_serves_183 ?_
            refine lv_iadd hx hb dX9_serves_184 ?_
            refine lv_aload_n hx hb dX9_serves_185 rfl (lv_at hl 2 rfl) ?_
            refine va_get (ci := 0) (C := RX9) (T := TX9) (N := 19) hx hb hts in_X9 hown hK hw.1 0 rfl rfl 0 (by decide) (hts _ q1248) (fun _ h9 => h9) rfl dX9_serves_186 ?_
            refine lv_iload_n hx hb dX9_serves_189 rfl (lv_at hl 3 rfl) ?_
            refine lv_iconst (v := 3) hx hb dX9_serves_190 (by decide) ?_
            refine lv_iadd hx hb dX9_serves_191 ?_
            obtain ⟨v17, hv, hf⟩ := op_e hf
            refine x_iald (q0 := 1) cx hw rfl hv dX9_serves_192 ?_
            refine lv_icmp_gt (tgt := 200) hx hb dX9_serves_193 (by decide) (fun c193 => ?_) (fun c193 => ?_)
            · have hf := if_t hf c193
              refine lv_iconst (v := 0) hx hb dX9_serves_200 (by decide) ?_
              have hf := sm_e hf
              subst hf
              exact hKj201_j8 _ _ _ hw (lv_sub hl [2, 3, 4, 1] rfl)
            · have hf := if_f hf c193
              refine lv_iconst (v := 1) hx hb dX9_serves_196 (by decide) ?_
              refine lv_goto (tgt := 201) hx hb dX9_serves_197 (by decide) ?_
              have hf := sm_e hf
              subst hf
              exact hKj201_j8 _ _ _ hw (lv_sub hl [2, 3, 4, 1] rfl)
  · refine x_lp hlp2 (fun x2 => [oM ad fu ft ff fs fa fb fn fr, ((ad 1), .inl (d 0, 1247, .inl x2.2))]) (fun x2 => [(0, .ref (ad 0)), (1, .int p1), (2, .int x2.1)]) hw (lv_sub hl [1, 2, 0] rfl) (fun x2 y2 hf hin2 hout2 H locs ls hw hl => ?_)
    have hw : Wd D A s [oM ad fu ft ff fs fa fb fn fr, ((ad 1), .inl (d 0, 1247, .inl x2.2))] H locs := hw
    have hl : lv_has ls 6 [(0, .ref (ad 0)), (1, .int p1), (2, .int x2.1)] := hl
    refine lv_iload_n hx hb dX9_serves_2 rfl (lv_at hl 2 rfl) ?_
    refine lv_aload_n hx hb dX9_serves_3 rfl (lv_at hl 0 rfl) ?_
    refine va_get (ci := 0) (C := RX9) (T := TX9) (N := 19) hx hb hts in_X9 hown hK hw.1 0 rfl rfl 0 (by decide) (hts _ q1248) (fun _ h9 => h9) rfl dX9_serves_4 ?_
    refine lv_iload_n hx hb dX9_serves_7 rfl (lv_at hl 1 rfl) ?_
    refine lv_iconst (v := 0) hx hb dX9_serves_8 (by decide) ?_
    refine lv_iadd hx hb dX9_serves_9 ?_
    obtain ⟨v18, hv, hf⟩ := op_e hf
    refine x_iald (q0 := 1) cx hw rfl hv dX9_serves_10 ?_
    refine lv_icmp_ge (tgt := 117) hx hb dX9_serves_11 (by decide) (fun c11 => ?_) (fun c11 => ?_)
    · have hf := if_t hf c11
      have hf := sm_e hf
      subst hf
      have hz := hout2 _ rfl
      subst hz
      exact hK2 _ _ _ hw (lv_sub hl [0, 1] rfl)
    · have hf := if_f hf c11
      refine lv_aload_n hx hb dX9_serves_14 rfl (lv_at hl 0 rfl) ?_
      refine va_get (ci := 0) (C := RX9) (T := TX9) (N := 19) hx hb hts in_X9 hown hK hw.1 0 rfl rfl 0 (by decide) (hts _ q1248) (fun _ h9 => h9) rfl dX9_serves_15 ?_
      refine lv_iload_n hx hb dX9_serves_18 rfl (lv_at hl 1 rfl) ?_
      refine lv_bipush (v := 13) hx hb dX9_serves_19 (by decide) ?_
      refine lv_iadd hx hb dX9_serves_21 ?_
      refine lv_iload_n hx hb dX9_serves_22 rfl (lv_at hl 2 rfl) ?_
      refine lv_iadd hx hb dX9_serves_23 ?_
      obtain ⟨v19, hv, hf⟩ := op_e hf
      refine x_iald (q0 := 1) cx hw rfl hv dX9_serves_24 ?_
      refine lv_bipush (v := 10) hx hb dX9_serves_25 (by decide) ?_
      obtain ⟨j20, ha, hr⟩ := op_e hf
      refine x_join (A := A) (D := D) (J := 57) (nL := 6) (cells' := 0) (slots' := 0) (st := [.int j20]) [oM ad fu ft ff fs fa fb fn fr, ((ad 1), .inl (d 0, 1247, .inl x2.2))] [(0, .ref (ad 0)), (1, .int p1), (2, .int x2.1)] (fun H locs ls hw hl => ?_) (fun hKj57_j20 => ?_)
      · have hf := hr
        refine lv_istore_n (lv' := [(3, .int j20), (0, .ref (ad 0)), (1, .int p1), (2, .int x2.1)]) hx hb dX9_serves_57 rfl hl (by decide) rfl (fun ls hl => ?_)
        refine lv_aload_n hx hb dX9_serves_58 rfl (lv_at hl 1 rfl) ?_
        refine va_get (ci := 0) (C := RX9) (T := TX9) (N := 19) hx hb hts in_X9 hown hK hw.1 0 rfl rfl 0 (by decide) (hts _ q1248) (fun _ h9 => h9) rfl dX9_serves_59 ?_
        refine lv_iload_n hx hb dX9_serves_62 rfl (lv_at hl 2 rfl) ?_
        refine lv_bipush (v := 13) hx hb dX9_serves_63 (by decide) ?_
        refine lv_iadd hx hb dX9_serves_65 ?_
        refine lv_iload_n hx hb dX9_serves_66 rfl (lv_at hl 3 rfl) ?_
        refine lv_iadd hx hb dX9_serves_67 ?_
        refine lv_iload_n hx hb dX9_serves_68 rfl (lv_at hl 0 rfl) ?_
        obtain ⟨j21, ha, hr⟩ := op_e hf
        refine x_join (A := A) (D := D) (J := 110) (nL := 6) (cells' := 0) (slots' := 0) (st := [.int j21, .int ((p1 + 13) + x2.1), .ref (ad 1)]) [oM ad fu ft ff fs fa fb fn fr, ((ad 1), .inl (d 0, 1247, .inl x2.2))] [(0, .ref (ad 0)), (1, .int p1), (2, .int x2.1)] (fun H locs ls hw hl => ?_) (fun hKj110_j21 => ?_)
        · have hf := hr
          obtain ⟨w22, hv, hf⟩ := op_e hf
          refine x_iast (q0 := 1) cx hw rfl hv dX9_serves_110 (fun H locs hw => ?_)
          have hw : Wd D A s [oM ad fu ft ff fs fa fb fn fr, ((ad 1), .inl (d 0, 1247, .inl w22))] H locs := hw
          refine lv_iinc (v := (x2.1 + 1)) (lv' := [(2, .int (x2.1 + 1)), (0, .ref (ad 0)), (1, .int p1)]) hx hb dX9_serves_111 hl (k := 2) rfl (by first | rfl | decide) (by decide) rfl (fun ls hl => ?_)
          refine lv_goto (tgt := 2) hx hb dX9_serves_114 (by decide) ?_
          have hf := sm_e hf
          subst hf
          exact hin2 _ rfl _ _ _ hw (lv_sub hl [1, 2, 0] rfl)
        · have hf := ha
          refine lv_if_eq (tgt := 99) hx hb dX9_serves_69 (by decide) (fun c69 => ?_) (fun c69 => ?_)
          · have hf := if_t hf c69
            refine lv_aload_n hx hb dX9_serves_99 rfl (lv_at hl 1 rfl) ?_
            refine va_get (ci := 0) (C := RX9) (T := TX9) (N := 19) hx hb hts in_X9 hown hK hw.1 0 rfl rfl 0 (by decide) (hts _ q1248) (fun _ h9 => h9) rfl dX9_serves_100 ?_
            refine lv_iload_n hx hb dX9_serves_103 rfl (lv_at hl 2 rfl) ?_
            refine lv_bipush (v := 13) hx hb dX9_serves_104 (by decide) ?_
            refine lv_iadd hx hb dX9_serves_106 ?_
            refine lv_iload_n hx hb dX9_serves_107 rfl (lv_at hl 3 rfl) ?_
            refine lv_iadd hx hb dX9_serves_108 ?_
            obtain ⟨v23, hv, hf⟩ := op_e hf
            refine x_iald (q0 := 1) cx hw rfl hv dX9_serves_109 ?_
            have hf := sm_e hf
            subst hf
            exact hKj110_j21 _ _ _ hw (lv_sub hl [1, 2, 3] rfl)
          · have hf := if_f hf c69
            refine lv_aload_n hx hb dX9_serves_72 rfl (lv_at hl 1 rfl) ?_
            refine va_get (ci := 0) (C := RX9) (T := TX9) (N := 19) hx hb hts in_X9 hown hK hw.1 0 rfl rfl 0 (by decide) (hts _ q1248) (fun _ h9 => h9) rfl dX9_serves_73 ?_
            refine lv_iload_n hx hb dX9_serves_76 rfl (lv_at hl 2 rfl) ?_
            refine lv_bipush (v := 19) hx hb dX9_serves_77 (by decide) ?_
            refine lv_iadd hx hb dX9_serves_79 ?_
            refine lv_iload_n hx hb dX9_serves_80 rfl (lv_at hl 3 rfl) ?_
            refine lv_iadd hx hb dX9_serves_81 ?_
            obtain ⟨v24, hv, hf⟩ := op_e hf
            refine x_iald (q0 := 1) cx hw rfl hv dX9_serves_82 ?_
            refine lv_aload_n hx hb dX9_serves_83 rfl (lv_at hl 1 rfl) ?_
            refine va_get (ci := 0) (C := RX9) (T := TX9) (N := 19) hx hb hts in_X9 hown hK hw.1 0 rfl rfl 0 (by decide) (hts _ q1248) (fun _ h9 => h9) rfl dX9_serves_84 ?_
            refine lv_iload_n hx hb dX9_serves_87 rfl (lv_at hl 2 rfl) ?_
            refine lv_iconst (v := 4) hx hb dX9_serves_88 (by decide) ?_
            refine lv_iadd hx hb dX9_serves_89 ?_
            obtain ⟨v25, hv, hf⟩ := op_e hf
            refine x_iald (q0 := 1) cx hw rfl hv dX9_serves_90 ?_
            refine lv_icmp_ne (tgt := 99) hx hb dX9_serves_91 (by decide) (fun c91 => ?_) (fun c91 => ?_)
            · have hf := if_f hf c91
              refine lv_aload_n hx hb dX9_serves_99 rfl (lv_at hl 1 rfl) ?_
              refine va_get (ci := 0) (C := RX9) (T := TX9) (N := 19) hx hb hts in_X9 hown hK hw.1 0 rfl rfl 0 (by decide) (hts _ q1248) (fun _ h9 => h9) rfl dX9_serves_100 ?_
              refine lv_iload_n hx hb dX9_serves_103 rfl (lv_at hl 2 rfl) ?_
              refine lv_bipush (v := 13) hx hb dX9_serves_104 (by decide) ?_
              refine lv_iadd hx hb dX9_serves_106 ?_
              refine lv_iload_n hx hb dX9_serves_107 rfl (lv_at hl 3 rfl) ?_
              refine lv_iadd hx hb dX9_serves_108 ?_
              obtain ⟨v26, hv, hf⟩ := op_e hf
              refine x_iald (q0 := 1) cx hw rfl hv dX9_serves_109 ?_
              have hf := sm_e hf
              subst hf
              exact hKj110_j21 _ _ _ hw (lv_sub hl [1, 2, 3] rfl)
            · have hf := if_t hf c91
              refine lv_bipush (v := 11) hx hb dX9_serves_94 (by decide) ?_
              refine lv_goto (tgt := 110) hx hb dX9_serves_96 (by decide) ?_
              have hf := sm_e hf
              subst hf
              exact hKj110_j21 _ _ _ hw (lv_sub hl [1, 2, 3] rfl)
      · have hf := ha
        refine lv_icmp_eq (tgt := 52) hx hb dX9_serves_27 (by decide) (fun c27 => ?_) (fun c27 => ?_)
        · have hf := if_t hf c27
          refine lv_iconst (v := 1) hx hb dX9_serves_52 (by decide) ?_
          refine lv_goto (tgt := 57) hx hb dX9_serves_53 (by decide) ?_
          have hf := sm_e hf
          subst hf
          exact hKj57_j20 _ _ _ hw hl
        · have hf := if_f hf c27
          refine lv_aload_n hx hb dX9_serves_30 rfl (lv_at hl 0 rfl) ?_
          refine va_get (ci := 0) (C := RX9) (T := TX9) (N := 19) hx hb hts in_X9 hown hK hw.1 0 rfl rfl 0 (by decide) (hts _ q1248) (fun _ h9 => h9) rfl dX9_serves_31 ?_
          refine lv_iload_n hx hb dX9_serves_34 rfl (lv_at hl 1 rfl) ?_
          refine lv_bipush (v := 13) hx hb dX9_serves_35 (by decide) ?_
          refine lv_iadd hx hb dX9_serves_37 ?_
          refine lv_iload_n hx hb dX9_serves_38 rfl (lv_at hl 2 rfl) ?_
          refine lv_iadd hx hb dX9_serves_39 ?_
          obtain ⟨v27, hv, hf⟩ := op_e hf
          refine x_iald (q0 := 1) cx hw rfl hv dX9_serves_40 ?_
          refine lv_aload_n hx hb dX9_serves_41 rfl (lv_at hl 0 rfl) ?_
          refine va_get (ci := 0) (C := RX9) (T := TX9) (N := 19) hx hb hts in_X9 hown hK hw.1 0 rfl rfl 0 (by decide) (hts _ q1248) (fun _ h9 => h9) rfl dX9_serves_42 ?_
          refine lv_iload_n hx hb dX9_serves_45 rfl (lv_at hl 1 rfl) ?_
          refine lv_iconst (v := 4) hx hb dX9_serves_46 (by decide) ?_
          refine lv_iadd hx hb dX9_serves_47 ?_
          obtain ⟨v28, hv, hf⟩ := op_e hf
          refine x_iald (q0 := 1) cx hw rfl hv dX9_serves_48 ?_
          refine lv_icmp_ne (tgt := 56) hx hb dX9_serves_49 (by decide) (fun c49 => ?_) (fun c49 => ?_)
          · have hf := if_f hf c49
            refine lv_iconst (v := 0) hx hb dX9_serves_56 (by decide) ?_
            have hf := sm_e hf
            subst hf
            exact hKj57_j20 _ _ _ hw hl
          · have hf := if_t hf c49
            refine lv_iconst (v := 1) hx hb dX9_serves_52 (by decide) ?_
            refine lv_goto (tgt := 57) hx hb dX9_serves_53 (by decide) ?_
            have hf := sm_e hf
            subst hf
            exact hKj57_j20 _ _ _ hw hl
theorem hd_X9_calledOf : yX9_calledOf.cls = "DishLiftModel" ∧ yX9_calledOf.cls ≠ "java/lang/invoke/MethodHandle" ∧ yX9_calledOf.cls ≠ "java/lang/invoke/VarHandle" ∧ (parseMethodDescriptor yX9_calledOf.desc).map (fun d => d.parameters.length) = some 1 := by decide +kernel
set_option maxHeartbeats 4000000 in
theorem mX9_calledOf (l : Launch) (X : XT) (hX : XOK X) (D : va_G) (d : Nat → ClassId) (ad : Nat → Nat) (fu : Int32) (ft : Int32) (ff : Int32) (fs : Int32) (fa : Int32) (fb : Int32) (fn : Int32) (fr : Int32) (Ww : Nat → Int32) (p1 : Int32) (res : Int32) (hf : fX9_calledOf Ww p1 = some res) : MetI l yX9_calledOf (ws_ yX9_calledOf cX9_calledOf 5 (some .int)) { frames := 0, cells := 0, slots := 0, locals := 0 } [.ref (ad 0), .int p1] X D d [oM ad fu ft ff fs fa fb fn fr, ((ad 1), .inl (d 0, 1247, .inl Ww))] (fun r (_ : Unit) => r = res) (fun _ => [oM ad fu ft ff fs fa fb fn fr, ((ad 1), .inl (d 0, 1247, .inl Ww))]) := by
  refine MetI.of (by decide +kernel) (Nat.le_of_ble_eq_true rfl) ?_
  intro p e s m below meth c A cx hw ls hl
  have cx : Cx p s m _ meth c X D d A "DishLiftModel" cX9_calledOf 5 (some .int) "calledOf" := cx
  have cx' := cx
  obtain ⟨hx, hb, hr, hlk, hml, hown, hts, hK, hA, hXs, hnm⟩ := cx'
  have hl : lv_has ls 5 [(0, .ref (ad 0)), (1, .int p1)] := hl
  unfold fX9_calledOf at hf
  refine lv_iconst (v := 0) hx hb dX9_calledOf_0 (by decide) ?_
  refine lv_istore_n (lv' := [(2, .int 0), (0, .ref (ad 0)), (1, .int p1)]) hx hb dX9_calledOf_1 rfl hl (by decide) rfl (fun ls hl => ?_)
  refine lv_iconst (v := 0) hx hb dX9_calledOf_2 (by decide) ?_
  refine lv_istore_n (lv' := [(3, .int 0), (2, .int 0), (0, .ref (ad 0)), (1, .int p1)]) hx hb dX9_calledOf_3 rfl hl (by decide) rfl (fun ls hl => ?_)
  obtain ⟨r1, hlp4, hf⟩ := op_e hf
  refine x_join (A := A) (D := D) (J := 98) (nL := 5) (cells' := 0) (slots' := 0) (st := []) [oM ad fu ft ff fs fa fb fn fr, ((ad 1), .inl (d 0, 1247, .inl Ww))] [(0, .ref (ad 0)), (1, .int p1), (2, .int r1)] (fun H locs ls hw hl => ?_) (fun hK4 => ?_)
  · refine lv_iload_n hx hb dX9_calledOf_98 rfl (lv_at hl 2 rfl) ?_
    refine lv_iconst (v := 1) hx hb dX9_calledOf_99 (by decide) ?_
    refine lv_aload_n hx hb dX9_calledOf_100 rfl (lv_at hl 0 rfl) ?_
    refine va_get (ci := 0) (C := RX9) (T := TX9) (N := 19) hx hb hts in_X9 hown hK hw.1 0 rfl rfl 0 (by decide) (hts _ q1248) (fun _ h9 => h9) rfl dX9_calledOf_101 ?_
    refine lv_iload_n hx hb dX9_calledOf_104 rfl (lv_at hl 1 rfl) ?_
    refine lv_iconst (v := 4) hx hb dX9_calledOf_105 (by decide) ?_
    refine lv_iadd hx hb dX9_calledOf_106 ?_
    obtain ⟨v2, hv, hf⟩ := op_e hf
    refine x_iald (q0 := 1) cx hw rfl hv dX9_calledOf_107 ?_
    refine lv_ishl hx hb dX9_calledOf_108 ?_
    refine lv_iconst (v := (-1)) hx hb dX9_calledOf_109 (by decide) ?_
    refine lv_ixor hx hb dX9_calledOf_110 ?_
    refine lv_iand hx hb dX9_calledOf_111 ?_
    have hf := sm_e hf
    subst hf
    exact x_retI cx hw rfl () rfl [0, 1] rfl rfl (Nat.le_of_ble_eq_true rfl) (Nat.le_of_ble_eq_true rfl) dX9_calledOf_112
  · refine x_lp hlp4 (fun x4 => [oM ad fu ft ff fs fa fb fn fr, ((ad 1), .inl (d 0, 1247, .inl Ww))]) (fun x4 => [(0, .ref (ad 0)), (1, .int p1), (2, .int x4.1), (3, .int x4.2)]) hw (lv_sub hl [2, 3, 1, 0] rfl) (fun x4 y4 hf hin4 hout4 H locs ls hw hl => ?_)
    have hw : Wd D A s [oM ad fu ft ff fs fa fb fn fr, ((ad 1), .inl (d 0, 1247, .inl Ww))] H locs := hw
    have hl : lv_has ls 5 [(0, .ref (ad 0)), (1, .int p1), (2, .int x4.1), (3, .int x4.2)] := hl
    refine lv_iload_n hx hb dX9_calledOf_4 rfl (lv_at hl 3 rfl) ?_
    refine lv_aload_n hx hb dX9_calledOf_5 rfl (lv_at hl 0 rfl) ?_
    refine va_get (ci := 0) (C := RX9) (T := TX9) (N := 19) hx hb hts in_X9 hown hK hw.1 0 rfl rfl 0 (by decide) (hts _ q1248) (fun _ h9 => h9) rfl dX9_calledOf_6 ?_
    refine lv_iload_n hx hb dX9_calledOf_9 rfl (lv_at hl 1 rfl) ?_
    refine lv_iconst (v := 0) hx hb dX9_calledOf_10 (by decide) ?_
    refine lv_iadd hx hb dX9_calledOf_11 ?_
    obtain ⟨v3, hv, hf⟩ := op_e hf
    refine x_iald (q0 := 1) cx hw rfl hv dX9_calledOf_12 ?_
    refine lv_icmp_ge (tgt := 98) hx hb dX9_calledOf_13 (by decide) (fun c13 => ?_) (fun c13 => ?_)
    · have hf := if_t hf c13
      have hf := sm_e hf
      subst hf
      have hz := hout4 _ rfl
      subst hz
      exact hK4 _ _ _ hw (lv_sub hl [0, 1, 2] rfl)
    · have hf := if_f hf c13
      refine lv_aload_n hx hb dX9_calledOf_16 rfl (lv_at hl 0 rfl) ?_
      refine va_get (ci := 0) (C := RX9) (T := TX9) (N := 19) hx hb hts in_X9 hown hK hw.1 0 rfl rfl 0 (by decide) (hts _ q1248) (fun _ h9 => h9) rfl dX9_calledOf_17 ?_
      refine lv_iload_n hx hb dX9_calledOf_20 rfl (lv_at hl 1 rfl) ?_
      refine lv_bipush (v := 13) hx hb dX9_calledOf_21 (by decide) ?_
      refine lv_iadd hx hb dX9_calledOf_23 ?_
      refine lv_iload_n hx hb dX9_calledOf_24 rfl (lv_at hl 3 rfl) ?_
      refine lv_iadd hx hb dX9_calledOf_25 ?_
      obtain ⟨v4, hv, hf⟩ := op_e hf
      refine x_iald (q0 := 1) cx hw rfl hv dX9_calledOf_26 ?_
      refine lv_istore (lv' := [(4, .int v4), (0, .ref (ad 0)), (1, .int p1), (2, .int x4.1), (3, .int x4.2)]) hx hb dX9_calledOf_27 hl (by decide) rfl (fun ls hl => ?_)
      refine lv_iload_n hx hb dX9_calledOf_29 rfl (lv_at hl 3 rfl) ?_
      refine lv_iload hx hb dX9_calledOf_30 (lv_at hl 0 rfl) ?_
      refine lv_bipush (v := 10) hx hb dX9_calledOf_32 (by decide) ?_
      refine lv_icmp_ne (tgt := 53) hx hb dX9_calledOf_34 (by decide) (fun c34 => ?_) (fun c34 => ?_)
      · have hf := if_f hf c34
        refine lv_iload hx hb dX9_calledOf_53 (lv_at hl 0 rfl) ?_
        refine lv_bipush (v := 10) hx hb dX9_calledOf_55 (by decide) ?_
        refine lv_icmp_ge (tgt := 89) hx hb dX9_calledOf_57 (by decide) (fun c57 => ?_) (fun c57 => ?_)
        · have hf := if_t hf c57
          refine lv_iconst (v := 0) hx hb dX9_calledOf_89 (by decide) ?_
          refine lv_ior hx hb dX9_calledOf_90 ?_
          refine lv_istore_n (lv' := [(2, .int (x4.1 ||| 0)), (4, .int v4), (0, .ref (ad 0)), (1, .int p1), (3, .int x4.2)]) hx hb dX9_calledOf_91 rfl hl (by decide) rfl (fun ls hl => ?_)
          refine lv_iinc (v := (x4.2 + 1)) (lv' := [(3, .int (x4.2 + 1)), (2, .int (x4.1 ||| 0)), (4, .int v4), (0, .ref (ad 0)), (1, .int p1)]) hx hb dX9_calledOf_92 hl (k := 4) rfl (by first | rfl | decide) (by decide) rfl (fun ls hl => ?_)
          refine lv_goto (tgt := 4) hx hb dX9_calledOf_95 (by decide) ?_
          have hf := sm_e hf
          subst hf
          exact hin4 _ rfl _ _ _ hw (lv_sub hl [3, 4, 1, 0] rfl)
        · have hf := if_f hf c57
          refine lv_aload_n hx hb dX9_calledOf_60 rfl (lv_at hl 1 rfl) ?_
          refine va_get (ci := 0) (C := RX9) (T := TX9) (N := 19) hx hb hts in_X9 hown hK hw.1 0 rfl rfl 0 (by decide) (hts _ q1248) (fun _ h9 => h9) rfl dX9_calledOf_61 ?_
          refine lv_iload_n hx hb dX9_calledOf_64 rfl (lv_at hl 2 rfl) ?_
          refine lv_bipush (v := 25) hx hb dX9_calledOf_65 (by decide) ?_
          refine lv_iadd hx hb dX9_calledOf_67 ?_
          refine lv_iload_n hx hb dX9_calledOf_68 rfl (lv_at hl 4 rfl) ?_
          refine lv_iadd hx hb dX9_calledOf_69 ?_
          obtain ⟨v6, hv, hf⟩ := op_e hf
          refine x_iald (q0 := 1) cx hw rfl hv dX9_calledOf_70 ?_
          refine lv_aload_n hx hb dX9_calledOf_71 rfl (lv_at hl 1 rfl) ?_
          refine va_get (ci := 0) (C := RX9) (T := TX9) (N := 19) hx hb hts in_X9 hown hK hw.1 0 rfl rfl 0 (by decide) (hts _ q1248) (fun _ h9 => h9) rfl dX9_calledOf_72 ?_
          refine lv_iload_n hx hb dX9_calledOf_75 rfl (lv_at hl 2 rfl) ?_
          refine lv_iconst (v := 3) hx hb dX9_calledOf_76 (by decide) ?_
          refine lv_iadd hx hb dX9_calledOf_77 ?_
          obtain ⟨v7, hv, hf⟩ := op_e hf
          refine x_iald (q0 := 1) cx hw rfl hv dX9_calledOf_78 ?_
          refine lv_icmp_gt (tgt := 89) hx hb dX9_calledOf_79 (by decide) (fun c79 => ?_) (fun c79 => ?_)
          · have hf := if_t hf c79
            refine lv_iconst (v := 0) hx hb dX9_calledOf_89 (by decide) ?_
            refine lv_ior hx hb dX9_calledOf_90 ?_
            refine lv_istore_n (lv' := [(2, .int (x4.1 ||| 0)), (4, .int v4), (0, .ref (ad 0)), (1, .int p1), (3, .int x4.2)]) hx hb dX9_calledOf_91 rfl hl (by decide) rfl (fun ls hl => ?_)
            refine lv_iinc (v := (x4.2 + 1)) (lv' := [(3, .int (x4.2 + 1)), (2, .int (x4.1 ||| 0)), (4, .int v4), (0, .ref (ad 0)), (1, .int p1)]) hx hb dX9_calledOf_92 hl (k := 4) rfl (by first | rfl | decide) (by decide) rfl (fun ls hl => ?_)
            refine lv_goto (tgt := 4) hx hb dX9_calledOf_95 (by decide) ?_
            have hf := sm_e hf
            subst hf
            exact hin4 _ rfl _ _ _ hw (lv_sub hl [3, 4, 1, 0] rfl)
          · have hf := if_f hf c79
            refine lv_iconst (v := 1) hx hb dX9_calledOf_82 (by decide) ?_
            refine lv_iload hx hb dX9_calledOf_83 (lv_at hl 0 rfl) ?_
            refine lv_ishl hx hb dX9_calledOf_85 ?_
            refine lv_goto (tgt := 90) hx hb dX9_calledOf_86 (by decide) ?_
            refine lv_ior hx hb dX9_calledOf_90 ?_
            refine lv_istore_n (lv' := [(2, .int (x4.1 ||| ((1 : Int32) <<< (v4 &&& 31)))), (4, .int v4), (0, .ref (ad 0)), (1, .int p1), (3, .int x4.2)]) hx hb dX9_calledOf_91 rfl hl (by decide) rfl (fun ls hl => ?_)
            refine lv_iinc (v := (x4.2 + 1)) (lv' := [(3, .int (x4.2 + 1)), (2, .int (x4.1 ||| ((1 : Int32) <<< (v4 &&& 31)))), (4, .int v4), (0, .ref (ad 0)), (1, .int p1)]) hx hb dX9_calledOf_92 hl (k := 4) rfl (by first | rfl | decide) (by decide) rfl (fun ls hl => ?_)
            refine lv_goto (tgt := 4) hx hb dX9_calledOf_95 (by decide) ?_
            have hf := sm_e hf
            subst hf
            exact hin4 _ rfl _ _ _ hw (lv_sub hl [3, 4, 1, 0] rfl)
      · have hf := if_t hf c34
        refine lv_iconst (v := 1) hx hb dX9_calledOf_37 (by decide) ?_
        refine lv_aload_n hx hb dX9_calledOf_38 rfl (lv_at hl 1 rfl) ?_
        refine va_get (ci := 0) (C := RX9) (T := TX9) (N := 19) hx hb hts in_X9 hown hK hw.1 0 rfl rfl 0 (by decide) (hts _ q1248) (fun _ h9 => h9) rfl dX9_calledOf_39 ?_
        refine lv_iload_n hx hb dX9_calledOf_42 rfl (lv_at hl 2 rfl) ?_
        refine lv_bipush (v := 19) hx hb dX9_calledOf_43 (by decide) ?_
        refine lv_iadd hx hb dX9_calledOf_45 ?_
        refine lv_iload_n hx hb dX9_calledOf_46 rfl (lv_at hl 4 rfl) ?_
        refine lv_iadd hx hb dX9_calledOf_47 ?_
        obtain ⟨v5, hv, hf⟩ := op_e hf
        refine x_iald (q0 := 1) cx hw rfl hv dX9_calledOf_48 ?_
        refine lv_ishl hx hb dX9_calledOf_49 ?_
        refine lv_goto (tgt := 90) hx hb dX9_calledOf_50 (by decide) ?_
        refine lv_ior hx hb dX9_calledOf_90 ?_
        refine lv_istore_n (lv' := [(2, .int (x4.1 ||| ((1 : Int32) <<< (v5 &&& 31)))), (4, .int v4), (0, .ref (ad 0)), (1, .int p1), (3, .int x4.2)]) hx hb dX9_calledOf_91 rfl hl (by decide) rfl (fun ls hl => ?_)
        refine lv_iinc (v := (x4.2 + 1)) (lv' := [(3, .int (x4.2 + 1)), (2, .int (x4.1 ||| ((1 : Int32) <<< (v5 &&& 31)))), (4, .int v4), (0, .ref (ad 0)), (1, .int p1)]) hx hb dX9_calledOf_92 hl (k := 4) rfl (by first | rfl | decide) (by decide) rfl (fun ls hl => ?_)
        refine lv_goto (tgt := 4) hx hb dX9_calledOf_95 (by decide) ?_
        have hf := sm_e hf
        subst hf
        exact hin4 _ rfl _ _ _ hw (lv_sub hl [3, 4, 1, 0] rfl)
theorem hd_X9_goes : yX9_goes.cls = "DishLiftModel" ∧ yX9_goes.cls ≠ "java/lang/invoke/MethodHandle" ∧ yX9_goes.cls ≠ "java/lang/invoke/VarHandle" ∧ (parseMethodDescriptor yX9_goes.desc).map (fun d => d.parameters.length) = some 1 := by decide +kernel
set_option maxHeartbeats 4000000 in
theorem mX9_goes (l : Launch) (X : XT) (hX : XOK X) (D : va_G) (d : Nat → ClassId) (ad : Nat → Nat) (fu : Int32) (ft : Int32) (ff : Int32) (fs : Int32) (fa : Int32) (fb : Int32) (fn : Int32) (fr : Int32) (Ww : Nat → Int32) (p1 : Int32) (res : Int32 × (Nat → Int32)) (hf : fX9_goes Ww p1 = some res) : MetI l yX9_goes (ws_ yX9_goes cX9_goes 5 (some .boolean)) { frames := 1, cells := 0, slots := 0, locals := 24 } [.ref (ad 0), .int p1] X D d [oM ad fu ft ff fs fa fb fn fr, ((ad 1), .inl (d 0, 1247, .inl Ww))] (fun r (_ : Unit) => r = res.1) (fun _ => [oM ad fu ft ff fs fa fb fn fr, ((ad 1), .inl (d 0, 1247, .inl res.2))]) := by
  refine MetI.of (by decide +kernel) (Nat.le_of_ble_eq_true rfl) ?_
  intro p e s m below meth c A cx hw ls hl
  have cx : Cx p s m _ meth c X D d A "DishLiftModel" cX9_goes 5 (some .boolean) "goes" := cx
  have cx' := cx
  obtain ⟨hx, hb, hr, hlk, hml, hown, hts, hK, hA, hXs, hnm⟩ := cx'
  have hl : lv_has ls 5 [(0, .ref (ad 0)), (1, .int p1)] := hl
  unfold fX9_goes at hf
  refine lv_aload_n hx hb dX9_goes_0 rfl (lv_at hl 0 rfl) ?_
  refine lv_iload_n hx hb dX9_goes_1 rfl (lv_at hl 1 rfl) ?_
  obtain ⟨q1, hcq1, hf⟩ := op_e hf
  refine x_VI (wr := []) (rest := []) [.int p1] hX cx hw hl.1 (mX9_calledOf l X hX D d ad fu ft ff fs fa fb fn fr Ww p1 q1 hcq1) (lw_V q1437 q1439 qs53 q94 q1440) hd_X9_calledOf ⟨Nat.le_of_ble_eq_true rfl, Nat.le_of_ble_eq_true rfl⟩ (va_recv hK hw.1 (ci := 0) (q0 := 0) rfl rfl) rfl rfl (Nat.le_of_ble_eq_true rfl) dX9_goes_2 [0, 1] [] rfl rfl rfl rfl (by decide) ⟨(Nat.le_of_ble_eq_true rfl), (Nat.le_of_ble_eq_true rfl)⟩ (fun r u H locs hp hw => ?_)
  have hw : Wd D A s [oM ad fu ft ff fs fa fb fn fr, ((ad 1), .inl (d 0, 1247, .inl Ww))] H locs := hw
  subst r
  refine lv_istore_n (lv' := [(2, .int q1), (0, .ref (ad 0)), (1, .int p1)]) hx hb dX9_goes_5 rfl hl (by decide) rfl (fun ls hl => ?_)
  refine lv_iload_n hx hb dX9_goes_6 rfl (lv_at hl 0 rfl) ?_
  refine lv_if_ne (tgt := 12) hx hb dX9_goes_7 (by decide) (fun c7 => ?_) (fun c7 => ?_)
  · have hf := if_f hf c7
    refine lv_iload_n hx hb dX9_goes_12 rfl (lv_at hl 0 rfl) ?_
    refine lv_aload_n hx hb dX9_goes_13 rfl (lv_at hl 1 rfl) ?_
    refine va_get (ci := 0) (C := RX9) (T := TX9) (N := 19) hx hb hts in_X9 hown hK hw.1 0 rfl rfl 0 (by decide) (hts _ q1248) (fun _ h9 => h9) rfl dX9_goes_14 ?_
    refine lv_iload_n hx hb dX9_goes_17 rfl (lv_at hl 2 rfl) ?_
    refine lv_iconst (v := 4) hx hb dX9_goes_18 (by decide) ?_
    refine lv_iadd hx hb dX9_goes_19 ?_
    obtain ⟨v2, hv, hf⟩ := op_e hf
    refine x_iald (q0 := 1) cx hw rfl hv dX9_goes_20 ?_
    refine lv_ishr hx hb dX9_goes_21 ?_
    obtain ⟨j3, ha, hr⟩ := op_e hf
    refine x_join (A := A) (D := D) (J := 30) (nL := 5) (cells' := 0) (slots' := 0) (st := [.int j3]) [oM ad fu ft ff fs fa fb fn fr, ((ad 1), .inl (d 0, 1247, .inl Ww))] [(0, .ref (ad 0)), (1, .int p1), (2, .int q1)] (fun H locs ls hw hl => ?_) (fun hKj30_j3 => ?_)
    · have hf := hr
      refine lv_istore_n (lv' := [(3, .int j3), (0, .ref (ad 0)), (1, .int p1), (2, .int q1)]) hx hb dX9_goes_30 rfl hl (by decide) rfl (fun ls hl => ?_)
      refine lv_iload_n hx hb dX9_goes_31 rfl (lv_at hl 3 rfl) ?_
      refine lv_iconst (v := 1) hx hb dX9_goes_32 (by decide) ?_
      refine lv_aload_n hx hb dX9_goes_33 rfl (lv_at hl 1 rfl) ?_
      refine va_get (ci := 0) (C := RX9) (T := TX9) (N := 19) hx hb hts in_X9 hown hK hw.1 0 rfl rfl 0 (by decide) (hts _ q1248) (fun _ h9 => h9) rfl dX9_goes_34 ?_
      refine lv_iload_n hx hb dX9_goes_37 rfl (lv_at hl 2 rfl) ?_
      refine lv_iconst (v := 4) hx hb dX9_goes_38 (by decide) ?_
      refine lv_iadd hx hb dX9_goes_39 ?_
      obtain ⟨v4, hv, hf⟩ := op_e hf
      refine x_iald (q0 := 1) cx hw rfl hv dX9_goes_40 ?_
      refine lv_ishl hx hb dX9_goes_41 ?_
      refine lv_iconst (v := 1) hx hb dX9_goes_42 (by decide) ?_
      refine lv_isub hx hb dX9_goes_43 ?_
      refine lv_iand hx hb dX9_goes_44 ?_
      obtain ⟨j5, ha, hr⟩ := op_e hf
      refine x_join (A := A) (D := D) (J := 53) (nL := 5) (cells' := 0) (slots' := 0) (st := [.int j5]) [oM ad fu ft ff fs fa fb fn fr, ((ad 1), .inl (d 0, 1247, .inl Ww))] [(0, .ref (ad 0)), (1, .int p1), (3, .int j3)] (fun H locs ls hw hl => ?_) (fun hKj53_j5 => ?_)
      · have hf := hr
        refine lv_istore (lv' := [(4, .int j5), (0, .ref (ad 0)), (1, .int p1), (3, .int j3)]) hx hb dX9_goes_53 hl (by decide) rfl (fun ls hl => ?_)
        refine lv_aload_n hx hb dX9_goes_55 rfl (lv_at hl 1 rfl) ?_
        refine va_get (ci := 0) (C := RX9) (T := TX9) (N := 19) hx hb hts in_X9 hown hK hw.1 0 rfl rfl 0 (by decide) (hts _ q1248) (fun _ h9 => h9) rfl dX9_goes_56 ?_
        refine lv_iload_n hx hb dX9_goes_59 rfl (lv_at hl 2 rfl) ?_
        refine lv_iconst (v := 5) hx hb dX9_goes_60 (by decide) ?_
        refine lv_iadd hx hb dX9_goes_61 ?_
        refine lv_aload_n hx hb dX9_goes_62 rfl (lv_at hl 1 rfl) ?_
        refine va_get (ci := 0) (C := RX9) (T := TX9) (N := 19) hx hb hts in_X9 hown hK hw.1 0 rfl rfl 0 (by decide) (hts _ q1248) (fun _ h9 => h9) rfl dX9_goes_63 ?_
        refine lv_iload_n hx hb dX9_goes_66 rfl (lv_at hl 2 rfl) ?_
        refine lv_iconst (v := 5) hx hb dX9_goes_67 (by decide) ?_
        refine lv_iadd hx hb dX9_goes_68 ?_
        obtain ⟨v6, hv, hf⟩ := op_e hf
        refine x_iald (q0 := 1) cx hw rfl hv dX9_goes_69 ?_
        refine lv_iconst (v := 1) hx hb dX9_goes_70 (by decide) ?_
        obtain ⟨j7, ha, hr⟩ := op_e hf
        refine x_join (A := A) (D := D) (J := 96) (nL := 5) (cells' := 0) (slots' := 0) (st := [.int j7, .int (p1 + 5), .ref (ad 1)]) [oM ad fu ft ff fs fa fb fn fr, ((ad 1), .inl (d 0, 1247, .inl Ww))] [(0, .ref (ad 0)), (1, .int p1)] (fun H locs ls hw hl => ?_) (fun hKj96_j7 => ?_)
        · have hf := hr
          obtain ⟨w8, hv, hf⟩ := op_e hf
          refine x_iast (q0 := 1) cx hw rfl hv dX9_goes_96 (fun H locs hw => ?_)
          have hw : Wd D A s [oM ad fu ft ff fs fa fb fn fr, ((ad 1), .inl (d 0, 1247, .inl w8))] H locs := hw
          refine lv_aload_n hx hb dX9_goes_97 rfl (lv_at hl 0 rfl) ?_
          refine va_get (ci := 0) (C := RX9) (T := TX9) (N := 19) hx hb hts in_X9 hown hK hw.1 0 rfl rfl 0 (by decide) (hts _ q1248) (fun _ h9 => h9) rfl dX9_goes_98 ?_
          refine lv_iload_n hx hb dX9_goes_101 rfl (lv_at hl 1 rfl) ?_
          refine lv_iconst (v := 4) hx hb dX9_goes_102 (by decide) ?_
          refine lv_iadd hx hb dX9_goes_103 ?_
          refine lv_dup2_11 hx hb dX9_goes_104 rfl rfl ?_
          obtain ⟨v9, hv, hf⟩ := op_e hf
          refine x_iald (q0 := 1) cx hw rfl hv dX9_goes_105 ?_
          refine lv_aload_n hx hb dX9_goes_106 rfl (lv_at hl 0 rfl) ?_
          refine va_get (ci := 0) (C := RX9) (T := TX9) (N := 19) hx hb hts in_X9 hown hK hw.1 0 rfl rfl 0 (by decide) (hts _ q1248) (fun _ h9 => h9) rfl dX9_goes_107 ?_
          refine lv_iload_n hx hb dX9_goes_110 rfl (lv_at hl 1 rfl) ?_
          refine lv_iconst (v := 5) hx hb dX9_goes_111 (by decide) ?_
          refine lv_iadd hx hb dX9_goes_112 ?_
          obtain ⟨v10, hv, hf⟩ := op_e hf
          refine x_iald (q0 := 1) cx hw rfl hv dX9_goes_113 ?_
          refine lv_iconst (v := 1) hx hb dX9_goes_114 (by decide) ?_
          obtain ⟨j11, ha, hr⟩ := op_e hf
          refine x_join (A := A) (D := D) (J := 123) (nL := 5) (cells' := 0) (slots' := 0) (st := [.int j11, .int v9, .int (p1 + 4), .ref (ad 1)]) [oM ad fu ft ff fs fa fb fn fr, ((ad 1), .inl (d 0, 1247, .inl w8))] [] (fun H locs ls hw hl => ?_) (fun hKj123_j11 => ?_)
          · have hf := hr
            refine lv_iadd hx hb dX9_goes_123 ?_
            obtain ⟨w12, hv, hf⟩ := op_e hf
            refine x_iast (q0 := 1) cx hw rfl hv dX9_goes_124 (fun H locs hw => ?_)
            have hw : Wd D A s [oM ad fu ft ff fs fa fb fn fr, ((ad 1), .inl (d 0, 1247, .inl w12))] H locs := hw
            refine lv_iconst (v := 1) hx hb dX9_goes_125 (by decide) ?_
            have hf := sm_e hf
            subst hf
            exact x_retI cx hw rfl () rfl [0, 1] rfl rfl (Nat.le_of_ble_eq_true rfl) (Nat.le_of_ble_eq_true rfl) dX9_goes_126
          · have hf := ha
            refine lv_icmp_ne (tgt := 122) hx hb dX9_goes_115 (by decide) (fun c115 => ?_) (fun c115 => ?_)
            · have hf := if_f hf c115
              refine lv_iconst (v := (-1)) hx hb dX9_goes_122 (by decide) ?_
              have hf := sm_e hf
              subst hf
              exact hKj123_j11 _ _ _ hw (lv_sub hl [] rfl)
            · have hf := if_t hf c115
              refine lv_iconst (v := 1) hx hb dX9_goes_118 (by decide) ?_
              refine lv_goto (tgt := 123) hx hb dX9_goes_119 (by decide) ?_
              have hf := sm_e hf
              subst hf
              exact hKj123_j11 _ _ _ hw (lv_sub hl [] rfl)
        · have hf := ha
          refine lv_icmp_ne (tgt := 86) hx hb dX9_goes_71 (by decide) (fun c71 => ?_) (fun c71 => ?_)
          · have hf := if_f hf c71
            refine lv_iload hx hb dX9_goes_86 (lv_at hl 0 rfl) ?_
            refine lv_if_eq (tgt := 95) hx hb dX9_goes_88 (by decide) (fun c88 => ?_) (fun c88 => ?_)
            · have hf := if_t hf c88
              refine lv_iconst (v := 1) hx hb dX9_goes_95 (by decide) ?_
              have hf := sm_e hf
              subst hf
              exact hKj96_j7 _ _ _ hw (lv_sub hl [1, 2] rfl)
            · have hf := if_f hf c88
              refine lv_iconst (v := 0) hx hb dX9_goes_91 (by decide) ?_
              refine lv_goto (tgt := 96) hx hb dX9_goes_92 (by decide) ?_
              have hf := sm_e hf
              subst hf
              exact hKj96_j7 _ _ _ hw (lv_sub hl [1, 2] rfl)
          · have hf := if_t hf c71
            refine lv_iload_n hx hb dX9_goes_74 rfl (lv_at hl 3 rfl) ?_
            refine lv_if_eq (tgt := 82) hx hb dX9_goes_75 (by decide) (fun c75 => ?_) (fun c75 => ?_)
            · have hf := if_t hf c75
              refine lv_iconst (v := 0) hx hb dX9_goes_82 (by decide) ?_
              refine lv_goto (tgt := 96) hx hb dX9_goes_83 (by decide) ?_
              have hf := sm_e hf
              subst hf
              exact hKj96_j7 _ _ _ hw (lv_sub hl [1, 2] rfl)
            · have hf := if_f hf c75
              refine lv_iconst (v := 1) hx hb dX9_goes_78 (by decide) ?_
              refine lv_goto (tgt := 96) hx hb dX9_goes_79 (by decide) ?_
              have hf := sm_e hf
              subst hf
              exact hKj96_j7 _ _ _ hw (lv_sub hl [1, 2] rfl)
      · have hf := ha
        refine lv_if_le (tgt := 52) hx hb dX9_goes_45 (by decide) (fun c45 => ?_) (fun c45 => ?_)
        · have hf := if_t hf c45
          refine lv_iconst (v := 0) hx hb dX9_goes_52 (by decide) ?_
          have hf := sm_e hf
          subst hf
          exact hKj53_j5 _ _ _ hw (lv_sub hl [1, 2, 0] rfl)
        · have hf := if_f hf c45
          refine lv_iconst (v := 1) hx hb dX9_goes_48 (by decide) ?_
          refine lv_goto (tgt := 53) hx hb dX9_goes_49 (by decide) ?_
          have hf := sm_e hf
          subst hf
          exact hKj53_j5 _ _ _ hw (lv_sub hl [1, 2, 0] rfl)
    · have hf := ha
      refine lv_if_le (tgt := 29) hx hb dX9_goes_22 (by decide) (fun c22 => ?_) (fun c22 => ?_)
      · have hf := if_t hf c22
        refine lv_iconst (v := 0) hx hb dX9_goes_29 (by decide) ?_
        have hf := sm_e hf
        subst hf
        exact hKj30_j3 _ _ _ hw (lv_sub hl [1, 2, 0] rfl)
      · have hf := if_f hf c22
        refine lv_iconst (v := 1) hx hb dX9_goes_25 (by decide) ?_
        refine lv_goto (tgt := 30) hx hb dX9_goes_26 (by decide) ?_
        have hf := sm_e hf
        subst hf
        exact hKj30_j3 _ _ _ hw (lv_sub hl [1, 2, 0] rfl)
  · have hf := if_t hf c7
    refine lv_iconst (v := 0) hx hb dX9_goes_10 (by decide) ?_
    have hf := sm_e hf
    subst hf
    exact x_retI cx hw rfl () rfl [0, 1] rfl rfl (Nat.le_of_ble_eq_true rfl) (Nat.le_of_ble_eq_true rfl) dX9_goes_11
theorem hd_X9_coolsOne : yX9_coolsOne.cls = "DishLiftModel" ∧ yX9_coolsOne.cls ≠ "java/lang/invoke/MethodHandle" ∧ yX9_coolsOne.cls ≠ "java/lang/invoke/VarHandle" ∧ (parseMethodDescriptor yX9_coolsOne.desc).map (fun d => d.parameters.length) = some 3 := by decide +kernel
set_option maxHeartbeats 4000000 in
theorem mX9_coolsOne (l : Launch) (X : XT) (hX : XOK X) (D : va_G) (d : Nat → ClassId) (ad : Nat → Nat) (fu : Int32) (ft : Int32) (ff : Int32) (fs : Int32) (fa : Int32) (fb : Int32) (fn : Int32) (fr : Int32) (Ww : Nat → Int32) (p1 : Int32) (p2 : Int32) (p3 : Int32) (res : (Nat → Int32)) (hf : fX9_coolsOne Ww p1 p2 p3 = some res) : MetV l yX9_coolsOne (ws_ yX9_coolsOne cX9_coolsOne 9 none) { frames := 0, cells := 0, slots := 0, locals := 0 } [.ref (ad 0), .int p1, .int p2, .int p3] X D d [oM ad fu ft ff fs fa fb fn fr, ((ad 1), .inl (d 0, 1247, .inl Ww))] (fun (_ : Unit) => True) (fun _ => [oM ad fu ft ff fs fa fb fn fr, ((ad 1), .inl (d 0, 1247, .inl res))]) := by
  refine MetV.of (by decide +kernel) (Nat.le_of_ble_eq_true rfl) ?_
  intro p e s m below meth c A cx hw ls hl
  have cx : Cx p s m _ meth c X D d A "DishLiftModel" cX9_coolsOne 9 none "coolsOne" := cx
  have cx' := cx
  obtain ⟨hx, hb, hr, hlk, hml, hown, hts, hK, hA, hXs, hnm⟩ := cx'
  have hl : lv_has ls 9 [(0, .ref (ad 0)), (1, .int p1), (2, .int p2), (3, .int p3)] := hl
  unfold fX9_coolsOne at hf
  refine lv_aload_n hx hb dX9_coolsOne_0 rfl (lv_at hl 0 rfl) ?_
  refine va_get (ci := 0) (C := RX9) (T := TX9) (N := 19) hx hb hts in_X9 hown hK hw.1 0 rfl rfl 0 (by decide) (hts _ q1248) (fun _ h9 => h9) rfl dX9_coolsOne_1 ?_
  refine lv_iload_n hx hb dX9_coolsOne_4 rfl (lv_at hl 1 rfl) ?_
  refine lv_bipush (v := 7) hx hb dX9_coolsOne_5 (by decide) ?_
  refine lv_iadd hx hb dX9_coolsOne_7 ?_
  refine lv_iload_n hx hb dX9_coolsOne_8 rfl (lv_at hl 2 rfl) ?_
  refine lv_iadd hx hb dX9_coolsOne_9 ?_
  obtain ⟨v1, hv, hf⟩ := op_e hf
  refine x_iald (q0 := 1) cx hw rfl hv dX9_coolsOne_10 ?_
  refine lv_istore (lv' := [(4, .int v1), (0, .ref (ad 0)), (1, .int p1), (2, .int p2), (3, .int p3)]) hx hb dX9_coolsOne_11 hl (by decide) rfl (fun ls hl => ?_)
  refine lv_aload_n hx hb dX9_coolsOne_13 rfl (lv_at hl 1 rfl) ?_
  refine va_get (ci := 0) (C := RX9) (T := TX9) (N := 19) hx hb hts in_X9 hown hK hw.1 0 rfl rfl 0 (by decide) (hts _ q1248) (fun _ h9 => h9) rfl dX9_coolsOne_14 ?_
  refine lv_iload_n hx hb dX9_coolsOne_17 rfl (lv_at hl 2 rfl) ?_
  refine lv_bipush (v := 31) hx hb dX9_coolsOne_18 (by decide) ?_
  refine lv_iadd hx hb dX9_coolsOne_20 ?_
  refine lv_iload_n hx hb dX9_coolsOne_21 rfl (lv_at hl 3 rfl) ?_
  refine lv_iadd hx hb dX9_coolsOne_22 ?_
  obtain ⟨v2, hv, hf⟩ := op_e hf
  refine x_iald (q0 := 1) cx hw rfl hv dX9_coolsOne_23 ?_
  refine lv_istore (lv' := [(5, .int v2), (4, .int v1), (0, .ref (ad 0)), (1, .int p1), (2, .int p2), (3, .int p3)]) hx hb dX9_coolsOne_24 hl (by decide) rfl (fun ls hl => ?_)
  refine lv_iload hx hb dX9_coolsOne_26 (lv_at hl 1 rfl) ?_
  refine lv_iconst (v := 1) hx hb dX9_coolsOne_28 (by decide) ?_
  obtain ⟨j3, ha, hr⟩ := op_e hf
  refine x_join (A := A) (D := D) (J := 64) (nL := 9) (cells' := 0) (slots' := 0) (st := [.int j3]) [oM ad fu ft ff fs fa fb fn fr, ((ad 1), .inl (d 0, 1247, .inl Ww))] [(0, .ref (ad 0)), (1, .int p1), (2, .int p2), (3, .int p3), (4, .int v1), (5, .int v2)] (fun H locs ls hw hl => ?_) (fun hKj64_j3 => ?_)
  · have hf := hr
    refine lv_istore (lv' := [(6, .int j3), (0, .ref (ad 0)), (1, .int p1), (2, .int p2), (3, .int p3), (4, .int v1), (5, .int v2)]) hx hb dX9_coolsOne_64 hl (by decide) rfl (fun ls hl => ?_)
    refine lv_iload hx hb dX9_coolsOne_66 (lv_at hl 5 rfl) ?_
    refine lv_iconst (v := 4) hx hb dX9_coolsOne_68 (by decide) ?_
    obtain ⟨j4, ha, hr⟩ := op_e hf
    refine x_join (A := A) (D := D) (J := 93) (nL := 9) (cells' := 0) (slots' := 0) (st := [.int j4]) [oM ad fu ft ff fs fa fb fn fr, ((ad 1), .inl (d 0, 1247, .inl Ww))] [(0, .ref (ad 0)), (1, .int p1), (2, .int p2), (3, .int p3), (4, .int v1)] (fun H locs ls hw hl => ?_) (fun hKj93_j4 => ?_)
    · have hf := hr
      refine lv_istore (lv' := [(7, .int j4), (0, .ref (ad 0)), (1, .int p1), (2, .int p2), (3, .int p3), (4, .int v1)]) hx hb dX9_coolsOne_93 hl (by decide) rfl (fun ls hl => ?_)
      refine lv_iload hx hb dX9_coolsOne_95 (lv_at hl 0 rfl) ?_
      obtain ⟨j5, ha, hr⟩ := op_e hf
      refine x_join (A := A) (D := D) (J := 118) (nL := 9) (cells' := 0) (slots' := 0) (st := [.int j5]) [oM ad fu ft ff fs fa fb fn fr, ((ad 1), .inl (d 0, 1247, .inl Ww))] [(0, .ref (ad 0)), (1, .int p1), (2, .int p2), (3, .int p3), (4, .int v1)] (fun H locs ls hw hl => ?_) (fun hKj118_j5 => ?_)
      · have hf := hr
        refine lv_istore (lv' := [(7, .int j5), (0, .ref (ad 0)), (1, .int p1), (2, .int p2), (3, .int p3), (4, .int v1)]) hx hb dX9_coolsOne_118 hl (by decide) rfl (fun ls hl => ?_)
        refine lv_aload_n hx hb dX9_coolsOne_120 rfl (lv_at hl 1 rfl) ?_
        refine va_get (ci := 0) (C := RX9) (T := TX9) (N := 19) hx hb hts in_X9 hown hK hw.1 0 rfl rfl 0 (by decide) (hts _ q1248) (fun _ h9 => h9) rfl dX9_coolsOne_121 ?_
        refine lv_iload_n hx hb dX9_coolsOne_124 rfl (lv_at hl 2 rfl) ?_
        refine lv_bipush (v := 31) hx hb dX9_coolsOne_125 (by decide) ?_
        refine lv_iadd hx hb dX9_coolsOne_127 ?_
        refine lv_iload_n hx hb dX9_coolsOne_128 rfl (lv_at hl 3 rfl) ?_
        refine lv_iadd hx hb dX9_coolsOne_129 ?_
        refine lv_iload hx hb dX9_coolsOne_130 (lv_at hl 0 rfl) ?_
        obtain ⟨w6, hv, hf⟩ := op_e hf
        refine x_iast (q0 := 1) cx hw rfl hv dX9_coolsOne_132 (fun H locs hw => ?_)
        have hw : Wd D A s [oM ad fu ft ff fs fa fb fn fr, ((ad 1), .inl (d 0, 1247, .inl w6))] H locs := hw
        refine lv_iload hx hb dX9_coolsOne_133 (lv_at hl 5 rfl) ?_
        refine lv_iconst (v := 2) hx hb dX9_coolsOne_135 (by decide) ?_
        obtain ⟨j7, ha, hr⟩ := op_e hf
        refine x_join (A := A) (D := D) (J := 185) (nL := 9) (cells' := 0) (slots' := 0) (st := [.int j7]) [oM ad fu ft ff fs fa fb fn fr, ((ad 1), .inl (d 0, 1247, .inl w6))] [(0, .ref (ad 0)), (1, .int p1), (2, .int p2)] (fun H locs ls hw hl => ?_) (fun hKj185_j7 => ?_)
        · have hf := hr
          refine lv_istore (lv' := [(8, .int j7), (0, .ref (ad 0)), (1, .int p1), (2, .int p2)]) hx hb dX9_coolsOne_185 hl (by decide) rfl (fun ls hl => ?_)
          refine lv_aload_n hx hb dX9_coolsOne_187 rfl (lv_at hl 1 rfl) ?_
          refine va_get (ci := 0) (C := RX9) (T := TX9) (N := 19) hx hb hts in_X9 hown hK hw.1 0 rfl rfl 0 (by decide) (hts _ q1248) (fun _ h9 => h9) rfl dX9_coolsOne_188 ?_
          refine lv_iload_n hx hb dX9_coolsOne_191 rfl (lv_at hl 2 rfl) ?_
          refine lv_bipush (v := 25) hx hb dX9_coolsOne_192 (by decide) ?_
          refine lv_iadd hx hb dX9_coolsOne_194 ?_
          refine lv_iload_n hx hb dX9_coolsOne_195 rfl (lv_at hl 3 rfl) ?_
          refine lv_iadd hx hb dX9_coolsOne_196 ?_
          refine lv_dup2_11 hx hb dX9_coolsOne_197 rfl rfl ?_
          obtain ⟨v8, hv, hf⟩ := op_e hf
          refine x_iald (q0 := 1) cx hw rfl hv dX9_coolsOne_198 ?_
          refine lv_iload hx hb dX9_coolsOne_199 (lv_at hl 0 rfl) ?_
          obtain ⟨j9, ha, hr⟩ := op_e hf
          refine x_join (A := A) (D := D) (J := 224) (nL := 9) (cells' := 0) (slots' := 0) (st := [.int j9, .int v8, .int ((p1 + 25) + p2), .ref (ad 1)]) [oM ad fu ft ff fs fa fb fn fr, ((ad 1), .inl (d 0, 1247, .inl w6))] [] (fun H locs ls hw hl => ?_) (fun hKj224_j9 => ?_)
          · have hf := hr
            refine lv_isub hx hb dX9_coolsOne_224 ?_
            obtain ⟨w10, hv, hf⟩ := op_e hf
            refine x_iast (q0 := 1) cx hw rfl hv dX9_coolsOne_225 (fun H locs hw => ?_)
            have hw : Wd D A s [oM ad fu ft ff fs fa fb fn fr, ((ad 1), .inl (d 0, 1247, .inl w10))] H locs := hw
            have hf := sm_e hf
            subst hf
            exact x_retV cx hw () trivial [0, 1] rfl rfl (Nat.le_of_ble_eq_true rfl) (Nat.le_of_ble_eq_true rfl) dX9_coolsOne_226
          · have hf := ha
            refine lv_if_eq (tgt := 223) hx hb dX9_coolsOne_201 (by decide) (fun c201 => ?_) (fun c201 => ?_)
            · have hf := if_t hf c201
              refine lv_iconst (v := 0) hx hb dX9_coolsOne_223 (by decide) ?_
              have hf := sm_e hf
              subst hf
              exact hKj224_j9 _ _ _ hw (lv_sub hl [] rfl)
            · have hf := if_f hf c201
              refine lv_aload_n hx hb dX9_coolsOne_204 rfl (lv_at hl 1 rfl) ?_
              refine va_get (ci := 0) (C := RX9) (T := TX9) (N := 19) hx hb hts in_X9 hown hK hw.1 0 rfl rfl 0 (by decide) (hts _ q1248) (fun _ h9 => h9) rfl dX9_coolsOne_205 ?_
              refine lv_iload_n hx hb dX9_coolsOne_208 rfl (lv_at hl 2 rfl) ?_
              refine lv_bipush (v := 25) hx hb dX9_coolsOne_209 (by decide) ?_
              refine lv_iadd hx hb dX9_coolsOne_211 ?_
              refine lv_iload_n hx hb dX9_coolsOne_212 rfl (lv_at hl 3 rfl) ?_
              refine lv_iadd hx hb dX9_coolsOne_213 ?_
              obtain ⟨v11, hv, hf⟩ := op_e hf
              refine x_iald (q0 := 1) cx hw rfl hv dX9_coolsOne_214 ?_
              refine lv_iconst (v := 1) hx hb dX9_coolsOne_215 (by decide) ?_
              refine lv_icmp_le (tgt := 223) hx hb dX9_coolsOne_216 (by decide) (fun c216 => ?_) (fun c216 => ?_)
              · have hf := if_t hf c216
                refine lv_iconst (v := 0) hx hb dX9_coolsOne_223 (by decide) ?_
                have hf := sm_e hf
                subst hf
                exact hKj224_j9 _ _ _ hw (lv_sub hl [] rfl)
              · have hf := if_f hf c216
                refine lv_iconst (v := 1) hx hb dX9_coolsOne_219 (by decide) ?_
                refine lv_goto (tgt := 224) hx hb dX9_coolsOne_220 (by decide) ?_
                have hf := sm_e hf
                subst hf
                exact hKj224_j9 _ _ _ hw (lv_sub hl [] rfl)
        · have hf := ha
          refine lv_icmp_ne (tgt := 167) hx hb dX9_coolsOne_136 (by decide) (fun c136 => ?_) (fun c136 => ?_)
          · have hf := if_f hf c136
            refine lv_iload hx hb dX9_coolsOne_167 (lv_at hl 5 rfl) ?_
            refine lv_iconst (v := 5) hx hb dX9_coolsOne_169 (by decide) ?_
            refine lv_icmp_ne (tgt := 184) hx hb dX9_coolsOne_170 (by decide) (fun c170 => ?_) (fun c170 => ?_)
            · have hf := if_f hf c170
              refine lv_iconst (v := 0) hx hb dX9_coolsOne_184 (by decide) ?_
              have hf := sm_e hf
              subst hf
              exact hKj185_j7 _ _ _ hw (lv_sub hl [1, 2, 3] rfl)
            · have hf := if_t hf c170
              refine lv_iload hx hb dX9_coolsOne_173 (lv_at hl 0 rfl) ?_
              refine lv_bipush (v := 10) hx hb dX9_coolsOne_175 (by decide) ?_
              refine lv_icmp_lt (tgt := 184) hx hb dX9_coolsOne_177 (by decide) (fun c177 => ?_) (fun c177 => ?_)
              · have hf := if_t hf c177
                refine lv_iconst (v := 0) hx hb dX9_coolsOne_184 (by decide) ?_
                have hf := sm_e hf
                subst hf
                exact hKj185_j7 _ _ _ hw (lv_sub hl [1, 2, 3] rfl)
              · have hf := if_f hf c177
                refine lv_iconst (v := 1) hx hb dX9_coolsOne_180 (by decide) ?_
                refine lv_goto (tgt := 185) hx hb dX9_coolsOne_181 (by decide) ?_
                have hf := sm_e hf
                subst hf
                exact hKj185_j7 _ _ _ hw (lv_sub hl [1, 2, 3] rfl)
          · have hf := if_t hf c136
            refine lv_aload_n hx hb dX9_coolsOne_139 rfl (lv_at hl 1 rfl) ?_
            refine va_get (ci := 0) (C := RX9) (T := TX9) (N := 19) hx hb hts in_X9 hown hK hw.1 0 rfl rfl 0 (by decide) (hts _ q1248) (fun _ h9 => h9) rfl dX9_coolsOne_140 ?_
            refine lv_iload_n hx hb dX9_coolsOne_143 rfl (lv_at hl 2 rfl) ?_
            refine lv_bipush (v := 13) hx hb dX9_coolsOne_144 (by decide) ?_
            refine lv_iadd hx hb dX9_coolsOne_146 ?_
            refine lv_iload_n hx hb dX9_coolsOne_147 rfl (lv_at hl 3 rfl) ?_
            refine lv_iadd hx hb dX9_coolsOne_148 ?_
            obtain ⟨v12, hv, hf⟩ := op_e hf
            refine x_iald (q0 := 1) cx hw rfl hv dX9_coolsOne_149 ?_
            refine lv_bipush (v := 10) hx hb dX9_coolsOne_150 (by decide) ?_
            refine lv_icmp_ne (tgt := 163) hx hb dX9_coolsOne_152 (by decide) (fun c152 => ?_) (fun c152 => ?_)
            · have hf := if_f hf c152
              refine lv_iconst (v := 0) hx hb dX9_coolsOne_163 (by decide) ?_
              refine lv_goto (tgt := 185) hx hb dX9_coolsOne_164 (by decide) ?_
              have hf := sm_e hf
              subst hf
              exact hKj185_j7 _ _ _ hw (lv_sub hl [1, 2, 3] rfl)
            · have hf := if_t hf c152
              refine lv_iload_n hx hb dX9_coolsOne_155 rfl (lv_at hl 4 rfl) ?_
              refine lv_if_eq (tgt := 163) hx hb dX9_coolsOne_156 (by decide) (fun c156 => ?_) (fun c156 => ?_)
              · have hf := if_t hf c156
                refine lv_iconst (v := 0) hx hb dX9_coolsOne_163 (by decide) ?_
                refine lv_goto (tgt := 185) hx hb dX9_coolsOne_164 (by decide) ?_
                have hf := sm_e hf
                subst hf
                exact hKj185_j7 _ _ _ hw (lv_sub hl [1, 2, 3] rfl)
              · have hf := if_f hf c156
                refine lv_iconst (v := 1) hx hb dX9_coolsOne_159 (by decide) ?_
                refine lv_goto (tgt := 185) hx hb dX9_coolsOne_160 (by decide) ?_
                have hf := sm_e hf
                subst hf
                exact hKj185_j7 _ _ _ hw (lv_sub hl [1, 2, 3] rfl)
      · have hf := ha
        refine lv_if_ge (tgt := 104) hx hb dX9_coolsOne_97 (by decide) (fun c97 => ?_) (fun c97 => ?_)
        · have hf := if_t hf c97
          refine lv_iload hx hb dX9_coolsOne_104 (lv_at hl 0 rfl) ?_
          refine lv_bipush (v := 60) hx hb dX9_coolsOne_106 (by decide) ?_
          refine lv_icmp_le (tgt := 116) hx hb dX9_coolsOne_108 (by decide) (fun c108 => ?_) (fun c108 => ?_)
          · have hf := if_t hf c108
            refine lv_iload hx hb dX9_coolsOne_116 (lv_at hl 0 rfl) ?_
            have hf := sm_e hf
            subst hf
            exact hKj118_j5 _ _ _ hw (lv_sub hl [1, 2, 3, 4, 5] rfl)
          · have hf := if_f hf c108
            refine lv_bipush (v := 60) hx hb dX9_coolsOne_111 (by decide) ?_
            refine lv_goto (tgt := 118) hx hb dX9_coolsOne_113 (by decide) ?_
            have hf := sm_e hf
            subst hf
            exact hKj118_j5 _ _ _ hw (lv_sub hl [1, 2, 3, 4, 5] rfl)
        · have hf := if_f hf c97
          refine lv_iconst (v := 0) hx hb dX9_coolsOne_100 (by decide) ?_
          refine lv_goto (tgt := 118) hx hb dX9_coolsOne_101 (by decide) ?_
          have hf := sm_e hf
          subst hf
          exact hKj118_j5 _ _ _ hw (lv_sub hl [1, 2, 3, 4, 5] rfl)
    · have hf := ha
      refine lv_icmp_lt (tgt := 79) hx hb dX9_coolsOne_69 (by decide) (fun c69 => ?_) (fun c69 => ?_)
      · have hf := if_t hf c69
        refine lv_iload hx hb dX9_coolsOne_79 (lv_at hl 0 rfl) ?_
        refine lv_if_eq (tgt := 91) hx hb dX9_coolsOne_81 (by decide) (fun c81 => ?_) (fun c81 => ?_)
        · have hf := if_t hf c81
          refine lv_iload hx hb dX9_coolsOne_91 (lv_at hl 6 rfl) ?_
          have hf := sm_e hf
          subst hf
          exact hKj93_j4 _ _ _ hw (lv_sub hl [1, 2, 3, 4, 5] rfl)
        · have hf := if_f hf c81
          refine lv_iload hx hb dX9_coolsOne_84 (lv_at hl 6 rfl) ?_
          refine lv_iconst (v := 1) hx hb dX9_coolsOne_86 (by decide) ?_
          refine lv_isub hx hb dX9_coolsOne_87 ?_
          refine lv_goto (tgt := 93) hx hb dX9_coolsOne_88 (by decide) ?_
          have hf := sm_e hf
          subst hf
          exact hKj93_j4 _ _ _ hw (lv_sub hl [1, 2, 3, 4, 5] rfl)
      · have hf := if_f hf c69
        refine lv_iload hx hb dX9_coolsOne_72 (lv_at hl 6 rfl) ?_
        refine lv_iconst (v := 1) hx hb dX9_coolsOne_74 (by decide) ?_
        refine lv_iadd hx hb dX9_coolsOne_75 ?_
        refine lv_goto (tgt := 93) hx hb dX9_coolsOne_76 (by decide) ?_
        have hf := sm_e hf
        subst hf
        exact hKj93_j4 _ _ _ hw (lv_sub hl [1, 2, 3, 4, 5] rfl)
  · have hf := ha
    refine lv_icmp_eq (tgt := 59) hx hb dX9_coolsOne_29 (by decide) (fun c29 => ?_) (fun c29 => ?_)
    · have hf := if_t hf c29
      refine lv_iconst (v := 1) hx hb dX9_coolsOne_59 (by decide) ?_
      refine lv_goto (tgt := 64) hx hb dX9_coolsOne_60 (by decide) ?_
      have hf := sm_e hf
      subst hf
      exact hKj64_j3 _ _ _ hw (lv_sub hl [2, 3, 4, 5, 1, 0] rfl)
    · have hf := if_f hf c29
      refine lv_iload hx hb dX9_coolsOne_32 (lv_at hl 1 rfl) ?_
      refine lv_iconst (v := 2) hx hb dX9_coolsOne_34 (by decide) ?_
      refine lv_icmp_eq (tgt := 59) hx hb dX9_coolsOne_35 (by decide) (fun c35 => ?_) (fun c35 => ?_)
      · have hf := if_t hf c35
        refine lv_iconst (v := 1) hx hb dX9_coolsOne_59 (by decide) ?_
        refine lv_goto (tgt := 64) hx hb dX9_coolsOne_60 (by decide) ?_
        have hf := sm_e hf
        subst hf
        exact hKj64_j3 _ _ _ hw (lv_sub hl [2, 3, 4, 5, 1, 0] rfl)
      · have hf := if_f hf c35
        refine lv_iload hx hb dX9_coolsOne_38 (lv_at hl 1 rfl) ?_
        refine lv_iconst (v := 3) hx hb dX9_coolsOne_40 (by decide) ?_
        refine lv_icmp_ne (tgt := 63) hx hb dX9_coolsOne_41 (by decide) (fun c41 => ?_) (fun c41 => ?_)
        · have hf := if_f hf c41
          refine lv_iconst (v := 0) hx hb dX9_coolsOne_63 (by decide) ?_
          have hf := sm_e hf
          subst hf
          exact hKj64_j3 _ _ _ hw (lv_sub hl [2, 3, 4, 5, 1, 0] rfl)
        · have hf := if_t hf c41
          refine lv_aload_n hx hb dX9_coolsOne_44 rfl (lv_at hl 2 rfl) ?_
          refine va_get (ci := 0) (C := RX9) (T := TX9) (N := 19) hx hb hts in_X9 hown hK hw.1 0 rfl rfl 0 (by decide) (hts _ q1248) (fun _ h9 => h9) rfl dX9_coolsOne_45 ?_
          refine lv_iload_n hx hb dX9_coolsOne_48 rfl (lv_at hl 3 rfl) ?_
          refine lv_bipush (v := 6) hx hb dX9_coolsOne_49 (by decide) ?_
          refine lv_iadd hx hb dX9_coolsOne_51 ?_
          obtain ⟨v13, hv, hf⟩ := op_e hf
          refine x_iald (q0 := 1) cx hw rfl hv dX9_coolsOne_52 ?_
          refine lv_iconst (v := 2) hx hb dX9_coolsOne_53 (by decide) ?_
          refine lv_irem hx hb dX9_coolsOne_54 (by decide) ?_
          refine lv_iconst (v := 1) hx hb dX9_coolsOne_55 (by decide) ?_
          refine lv_icmp_ne (tgt := 63) hx hb dX9_coolsOne_56 (by decide) (fun c56 => ?_) (fun c56 => ?_)
          · have hf := if_f hf c56
            refine lv_iconst (v := 0) hx hb dX9_coolsOne_63 (by decide) ?_
            have hf := sm_e hf
            subst hf
            exact hKj64_j3 _ _ _ hw (lv_sub hl [2, 3, 4, 5, 1, 0] rfl)
          · have hf := if_t hf c56
            refine lv_iconst (v := 1) hx hb dX9_coolsOne_59 (by decide) ?_
            refine lv_goto (tgt := 64) hx hb dX9_coolsOne_60 (by decide) ?_
            have hf := sm_e hf
            subst hf
            exact hKj64_j3 _ _ _ hw (lv_sub hl [2, 3, 4, 5, 1, 0] rfl)
theorem hd_X9_cools : yX9_cools.cls = "DishLiftModel" ∧ yX9_cools.cls ≠ "java/lang/invoke/MethodHandle" ∧ yX9_cools.cls ≠ "java/lang/invoke/VarHandle" ∧ (parseMethodDescriptor yX9_cools.desc).map (fun d => d.parameters.length) = some 2 := by decide +kernel
set_option maxHeartbeats 4000000 in
theorem mX9_cools (l : Launch) (X : XT) (hX : XOK X) (D : va_G) (d : Nat → ClassId) (ad : Nat → Nat) (fu : Int32) (ft : Int32) (ff : Int32) (fs : Int32) (fa : Int32) (fb : Int32) (fn : Int32) (fr : Int32) (Ww : Nat → Int32) (p1 : Int32) (p2 : Int32) (res : (Nat → Int32)) (hf : fX9_cools Ww p1 p2 = some res) : MetV l yX9_cools (ws_ yX9_cools cX9_cools 4 none) { frames := 1, cells := 0, slots := 0, locals := 28 } [.ref (ad 0), .int p1, .int p2] X D d [oM ad fu ft ff fs fa fb fn fr, ((ad 1), .inl (d 0, 1247, .inl Ww))] (fun (_ : Unit) => True) (fun _ => [oM ad fu ft ff fs fa fb fn fr, ((ad 1), .inl (d 0, 1247, .inl res))]) := by
  refine MetV.of (by decide +kernel) (Nat.le_of_ble_eq_true rfl) ?_
  intro p e s m below meth c A cx hw ls hl
  have cx : Cx p s m _ meth c X D d A "DishLiftModel" cX9_cools 4 none "cools" := cx
  have cx' := cx
  obtain ⟨hx, hb, hr, hlk, hml, hown, hts, hK, hA, hXs, hnm⟩ := cx'
  have hl : lv_has ls 4 [(0, .ref (ad 0)), (1, .int p1), (2, .int p2)] := hl
  unfold fX9_cools at hf
  refine lv_iconst (v := 0) hx hb dX9_cools_0 (by decide) ?_
  refine lv_istore_n (lv' := [(3, .int 0), (0, .ref (ad 0)), (1, .int p1), (2, .int p2)]) hx hb dX9_cools_1 rfl hl (by decide) rfl (fun ls hl => ?_)
  obtain ⟨r1, hlp2, hf⟩ := op_e hf
  refine x_join (A := A) (D := D) (J := 43) (nL := 4) (cells' := 0) (slots' := 0) (st := []) [oM ad fu ft ff fs fa fb fn fr, ((ad 1), .inl (d 0, 1247, .inl r1))] [(0, .ref (ad 0)), (1, .int p1)] (fun H locs ls hw hl => ?_) (fun hK2 => ?_)
  · refine lv_aload_n hx hb dX9_cools_43 rfl (lv_at hl 0 rfl) ?_
    refine va_get (ci := 0) (C := RX9) (T := TX9) (N := 19) hx hb hts in_X9 hown hK hw.1 0 rfl rfl 0 (by decide) (hts _ q1248) (fun _ h9 => h9) rfl dX9_cools_44 ?_
    refine lv_iload_n hx hb dX9_cools_47 rfl (lv_at hl 1 rfl) ?_
    refine lv_bipush (v := 6) hx hb dX9_cools_48 (by decide) ?_
    refine lv_iadd hx hb dX9_cools_50 ?_
    refine lv_dup2_11 hx hb dX9_cools_51 rfl rfl ?_
    obtain ⟨v2, hv, hf⟩ := op_e hf
    refine x_iald (q0 := 1) cx hw rfl hv dX9_cools_52 ?_
    refine lv_iconst (v := 1) hx hb dX9_cools_53 (by decide) ?_
    refine lv_iadd hx hb dX9_cools_54 ?_
    obtain ⟨w3, hv, hf⟩ := op_e hf
    refine x_iast (q0 := 1) cx hw rfl hv dX9_cools_55 (fun H locs hw => ?_)
    have hw : Wd D A s [oM ad fu ft ff fs fa fb fn fr, ((ad 1), .inl (d 0, 1247, .inl w3))] H locs := hw
    have hf := sm_e hf
    subst hf
    exact x_retV cx hw () trivial [0, 1] rfl rfl (Nat.le_of_ble_eq_true rfl) (Nat.le_of_ble_eq_true rfl) dX9_cools_56
  · refine x_lp hlp2 (fun x2 => [oM ad fu ft ff fs fa fb fn fr, ((ad 1), .inl (d 0, 1247, .inl x2.2))]) (fun x2 => [(0, .ref (ad 0)), (1, .int p1), (2, .int p2), (3, .int x2.1)]) hw (lv_sub hl [1, 2, 3, 0] rfl) (fun x2 y2 hf hin2 hout2 H locs ls hw hl => ?_)
    have hw : Wd D A s [oM ad fu ft ff fs fa fb fn fr, ((ad 1), .inl (d 0, 1247, .inl x2.2))] H locs := hw
    have hl : lv_has ls 4 [(0, .ref (ad 0)), (1, .int p1), (2, .int p2), (3, .int x2.1)] := hl
    refine lv_iload_n hx hb dX9_cools_2 rfl (lv_at hl 3 rfl) ?_
    refine lv_aload_n hx hb dX9_cools_3 rfl (lv_at hl 0 rfl) ?_
    refine va_get (ci := 0) (C := RX9) (T := TX9) (N := 19) hx hb hts in_X9 hown hK hw.1 0 rfl rfl 0 (by decide) (hts _ q1248) (fun _ h9 => h9) rfl dX9_cools_4 ?_
    refine lv_iload_n hx hb dX9_cools_7 rfl (lv_at hl 1 rfl) ?_
    refine lv_iconst (v := 0) hx hb dX9_cools_8 (by decide) ?_
    refine lv_iadd hx hb dX9_cools_9 ?_
    obtain ⟨v4, hv, hf⟩ := op_e hf
    refine x_iald (q0 := 1) cx hw rfl hv dX9_cools_10 ?_
    refine lv_icmp_ge (tgt := 43) hx hb dX9_cools_11 (by decide) (fun c11 => ?_) (fun c11 => ?_)
    · have hf := if_t hf c11
      have hf := sm_e hf
      subst hf
      have hz := hout2 _ rfl
      subst hz
      exact hK2 _ _ _ hw (lv_sub hl [0, 1] rfl)
    · have hf := if_f hf c11
      refine lv_aload_n hx hb dX9_cools_14 rfl (lv_at hl 0 rfl) ?_
      refine va_get (ci := 0) (C := RX9) (T := TX9) (N := 19) hx hb hts in_X9 hown hK hw.1 0 rfl rfl 0 (by decide) (hts _ q1248) (fun _ h9 => h9) rfl dX9_cools_15 ?_
      refine lv_iload_n hx hb dX9_cools_18 rfl (lv_at hl 1 rfl) ?_
      refine lv_bipush (v := 13) hx hb dX9_cools_19 (by decide) ?_
      refine lv_iadd hx hb dX9_cools_21 ?_
      refine lv_iload_n hx hb dX9_cools_22 rfl (lv_at hl 3 rfl) ?_
      refine lv_iadd hx hb dX9_cools_23 ?_
      obtain ⟨v5, hv, hf⟩ := op_e hf
      refine x_iald (q0 := 1) cx hw rfl hv dX9_cools_24 ?_
      refine lv_bipush (v := 11) hx hb dX9_cools_25 (by decide) ?_
      refine lv_icmp_eq (tgt := 37) hx hb dX9_cools_27 (by decide) (fun c27 => ?_) (fun c27 => ?_)
      · have hf := if_t hf c27
        refine lv_iinc (v := (x2.1 + 1)) (lv' := [(3, .int (x2.1 + 1)), (0, .ref (ad 0)), (1, .int p1), (2, .int p2)]) hx hb dX9_cools_37 hl (k := 3) rfl (by first | rfl | decide) (by decide) rfl (fun ls hl => ?_)
        refine lv_goto (tgt := 2) hx hb dX9_cools_40 (by decide) ?_
        have hf := sm_e hf
        subst hf
        exact hin2 _ rfl _ _ _ hw (lv_sub hl [1, 2, 3, 0] rfl)
      · have hf := if_f hf c27
        refine lv_aload_n hx hb dX9_cools_30 rfl (lv_at hl 0 rfl) ?_
        refine lv_iload_n hx hb dX9_cools_31 rfl (lv_at hl 1 rfl) ?_
        refine lv_iload_n hx hb dX9_cools_32 rfl (lv_at hl 3 rfl) ?_
        refine lv_iload_n hx hb dX9_cools_33 rfl (lv_at hl 2 rfl) ?_
        obtain ⟨q6, hcq6, hf⟩ := op_e hf
        refine x_VV (wr := []) (rest := []) [.int p1, .int x2.1, .int p2] hX cx hw hl.1 (mX9_coolsOne l X hX D d ad fu ft ff fs fa fb fn fr x2.2 p1 x2.1 p2 q6 hcq6) (lw_V q1445 q1447 qs55 q94 q1448) hd_X9_coolsOne ⟨Nat.le_of_ble_eq_true rfl, Nat.le_of_ble_eq_true rfl⟩ (va_recv hK hw.1 (ci := 0) (q0 := 0) rfl rfl) rfl rfl (Nat.le_of_ble_eq_true rfl) dX9_cools_34 [0, 1] [] rfl rfl rfl rfl (by decide) ⟨(Nat.le_of_ble_eq_true rfl), (Nat.le_of_ble_eq_true rfl)⟩ (fun u H locs hp hw => ?_)
        have hw : Wd D A s [oM ad fu ft ff fs fa fb fn fr, ((ad 1), .inl (d 0, 1247, .inl q6))] H locs := hw
        refine lv_iinc (v := (x2.1 + 1)) (lv' := [(3, .int (x2.1 + 1)), (0, .ref (ad 0)), (1, .int p1), (2, .int p2)]) hx hb dX9_cools_37 hl (k := 3) rfl (by first | rfl | decide) (by decide) rfl (fun ls hl => ?_)
        refine lv_goto (tgt := 2) hx hb dX9_cools_40 (by decide) ?_
        have hf := sm_e hf
        subst hf
        exact hin2 _ rfl _ _ _ hw (lv_sub hl [1, 2, 3, 0] rfl)
theorem hd_X9_passes : yX9_passes.cls = "DishLiftModel" ∧ yX9_passes.cls ≠ "java/lang/invoke/MethodHandle" ∧ yX9_passes.cls ≠ "java/lang/invoke/VarHandle" ∧ (parseMethodDescriptor yX9_passes.desc).map (fun d => d.parameters.length) = some 1 := by decide +kernel
set_option maxHeartbeats 4000000 in
theorem mX9_passes (l : Launch) (X : XT) (hX : XOK X) (D : va_G) (d : Nat → ClassId) (ad : Nat → Nat) (fu : Int32) (ft : Int32) (ff : Int32) (fs : Int32) (fa : Int32) (fb : Int32) (fn : Int32) (fr : Int32) (Ww : Nat → Int32) (p1 : Int32) (res : (Nat → Int32)) (hf : fX9_passes Ww p1 = some res) : MetV l yX9_passes (ws_ yX9_passes cX9_passes 2 none) { frames := 3, cells := 0, slots := 0, locals := 70 } [.ref (ad 0), .int p1] X D d [oM ad fu ft ff fs fa fb fn fr, ((ad 1), .inl (d 0, 1247, .inl Ww))] (fun (_ : Unit) => True) (fun _ => [oM ad fu ft ff fs fa fb fn fr, ((ad 1), .inl (d 0, 1247, .inl res))]) := by
  refine MetV.of (by decide +kernel) (Nat.le_of_ble_eq_true rfl) ?_
  intro p e s m below meth c A cx hw ls hl
  have cx : Cx p s m _ meth c X D d A "DishLiftModel" cX9_passes 2 none "passes" := cx
  have cx' := cx
  obtain ⟨hx, hb, hr, hlk, hml, hown, hts, hK, hA, hXs, hnm⟩ := cx'
  have hl : lv_has ls 2 [(0, .ref (ad 0)), (1, .int p1)] := hl
  unfold fX9_passes at hf
  refine lv_aload_n hx hb dX9_passes_0 rfl (lv_at hl 0 rfl) ?_
  refine lv_iload_n hx hb dX9_passes_1 rfl (lv_at hl 1 rfl) ?_
  obtain ⟨q1, hcq1, hf⟩ := op_e hf
  refine x_VV (wr := []) (rest := []) [.int p1] hX cx hw hl.1 (mX9_serves l X hX D d ad fu ft ff fs fa fb fn fr Ww p1 q1 hcq1) (lw_V q1415 q1417 qs49 q94 q1418) hd_X9_serves ⟨Nat.le_of_ble_eq_true rfl, Nat.le_of_ble_eq_true rfl⟩ (va_recv hK hw.1 (ci := 0) (q0 := 0) rfl rfl) rfl rfl (Nat.le_of_ble_eq_true rfl) dX9_passes_2 [0, 1] [] rfl rfl rfl rfl (by decide) ⟨(Nat.le_of_ble_eq_true rfl), (Nat.le_of_ble_eq_true rfl)⟩ (fun u H locs hp hw => ?_)
  have hw : Wd D A s [oM ad fu ft ff fs fa fb fn fr, ((ad 1), .inl (d 0, 1247, .inl q1))] H locs := hw
  refine lv_aload_n hx hb dX9_passes_5 rfl (lv_at hl 0 rfl) ?_
  refine lv_iload_n hx hb dX9_passes_6 rfl (lv_at hl 1 rfl) ?_
  refine lv_aload_n hx hb dX9_passes_7 rfl (lv_at hl 0 rfl) ?_
  refine lv_iload_n hx hb dX9_passes_8 rfl (lv_at hl 1 rfl) ?_
  obtain ⟨q2, hcq2, hf⟩ := op_e hf
  refine x_VI (wr := []) (rest := [.int p1, .ref (ad 0)]) [.int p1] hX cx hw hl.1 (mX9_goes l X hX D d ad fu ft ff fs fa fb fn fr q1 p1 q2 hcq2) (lw_V q1433 q1435 qs52 q94 q1436) hd_X9_goes ⟨Nat.le_of_ble_eq_true rfl, Nat.le_of_ble_eq_true rfl⟩ (va_recv hK hw.1 (ci := 0) (q0 := 0) rfl rfl) rfl rfl (Nat.le_of_ble_eq_true rfl) dX9_passes_9 [0, 1] [] rfl rfl rfl rfl (by decide) ⟨(Nat.le_of_ble_eq_true rfl), (Nat.le_of_ble_eq_true rfl)⟩ (fun r u H locs hp hw => ?_)
  have hw : Wd D A s [oM ad fu ft ff fs fa fb fn fr, ((ad 1), .inl (d 0, 1247, .inl q2.2))] H locs := hw
  subst r
  obtain ⟨q3, hcq3, hf⟩ := op_e hf
  refine x_VV (wr := []) (rest := []) [.int p1, .int q2.1] hX cx hw hl.1 (mX9_cools l X hX D d ad fu ft ff fs fa fb fn fr q2.2 p1 q2.1 q3 hcq3) (lw_V q1441 q1443 qs54 q94 q1444) hd_X9_cools ⟨Nat.le_of_ble_eq_true rfl, Nat.le_of_ble_eq_true rfl⟩ (va_recv hK hw.1 (ci := 0) (q0 := 0) rfl rfl) rfl rfl (Nat.le_of_ble_eq_true rfl) dX9_passes_12 [0, 1] [] rfl rfl rfl rfl (by decide) ⟨(Nat.le_of_ble_eq_true rfl), (Nat.le_of_ble_eq_true rfl)⟩ (fun u H locs hp hw => ?_)
  have hw : Wd D A s [oM ad fu ft ff fs fa fb fn fr, ((ad 1), .inl (d 0, 1247, .inl q3))] H locs := hw
  have hf := sm_e hf
  subst hf
  exact x_retV cx hw () trivial [0, 1] rfl rfl (Nat.le_of_ble_eq_true rfl) (Nat.le_of_ble_eq_true rfl) dX9_passes_15
theorem hd_X9_servedOf : yX9_servedOf.cls = "DishLiftModel" ∧ yX9_servedOf.cls ≠ "java/lang/invoke/MethodHandle" ∧ yX9_servedOf.cls ≠ "java/lang/invoke/VarHandle" ∧ (parseMethodDescriptor yX9_servedOf.desc).map (fun d => d.parameters.length) = some 1 := by decide +kernel
set_option maxHeartbeats 4000000 in
theorem mX9_servedOf (l : Launch) (X : XT) (hX : XOK X) (D : va_G) (d : Nat → ClassId) (ad : Nat → Nat) (fu : Int32) (ft : Int32) (ff : Int32) (fs : Int32) (fa : Int32) (fb : Int32) (fn : Int32) (fr : Int32) (Ww : Nat → Int32) (p1 : Int32) (res : Int32) (hf : fX9_servedOf Ww p1 = some res) : MetI l yX9_servedOf (ws_ yX9_servedOf cX9_servedOf 4 (some .int)) { frames := 0, cells := 0, slots := 0, locals := 0 } [.ref (ad 0), .int p1] X D d [oM ad fu ft ff fs fa fb fn fr, ((ad 1), .inl (d 0, 1247, .inl Ww))] (fun r (_ : Unit) => r = res) (fun _ => [oM ad fu ft ff fs fa fb fn fr, ((ad 1), .inl (d 0, 1247, .inl Ww))]) := by
  refine MetI.of (by decide +kernel) (Nat.le_of_ble_eq_true rfl) ?_
  intro p e s m below meth c A cx hw ls hl
  have cx : Cx p s m _ meth c X D d A "DishLiftModel" cX9_servedOf 4 (some .int) "servedOf" := cx
  have cx' := cx
  obtain ⟨hx, hb, hr, hlk, hml, hown, hts, hK, hA, hXs, hnm⟩ := cx'
  have hl : lv_has ls 4 [(0, .ref (ad 0)), (1, .int p1)] := hl
  unfold fX9_servedOf at hf
  refine lv_iconst (v := 0) hx hb dX9_servedOf_0 (by decide) ?_
  refine lv_istore_n (lv' := [(2, .int 0), (0, .ref (ad 0)), (1, .int p1)]) hx hb dX9_servedOf_1 rfl hl (by decide) rfl (fun ls hl => ?_)
  refine lv_iconst (v := 0) hx hb dX9_servedOf_2 (by decide) ?_
  refine lv_istore_n (lv' := [(3, .int 0), (2, .int 0), (0, .ref (ad 0)), (1, .int p1)]) hx hb dX9_servedOf_3 rfl hl (by decide) rfl (fun ls hl => ?_)
  obtain ⟨r1, hlp4, hf⟩ := op_e hf
  refine x_join (A := A) (D := D) (J := 48) (nL := 4) (cells' := 0) (slots' := 0) (st := []) [oM ad fu ft ff fs fa fb fn fr, ((ad 1), .inl (d 0, 1247, .inl Ww))] [(2, .int r1)] (fun H locs ls hw hl => ?_) (fun hK4 => ?_)
  · refine lv_iload_n hx hb dX9_servedOf_48 rfl (lv_at hl 0 rfl) ?_
    have hf := sm_e hf
    subst hf
    exact x_retI cx hw rfl () rfl [0, 1] rfl rfl (Nat.le_of_ble_eq_true rfl) (Nat.le_of_ble_eq_true rfl) dX9_servedOf_49
  · refine x_lp hlp4 (fun x4 => [oM ad fu ft ff fs fa fb fn fr, ((ad 1), .inl (d 0, 1247, .inl Ww))]) (fun x4 => [(0, .ref (ad 0)), (1, .int p1), (2, .int x4.1), (3, .int x4.2)]) hw (lv_sub hl [2, 3, 1, 0] rfl) (fun x4 y4 hf hin4 hout4 H locs ls hw hl => ?_)
    have hw : Wd D A s [oM ad fu ft ff fs fa fb fn fr, ((ad 1), .inl (d 0, 1247, .inl Ww))] H locs := hw
    have hl : lv_has ls 4 [(0, .ref (ad 0)), (1, .int p1), (2, .int x4.1), (3, .int x4.2)] := hl
    refine lv_iload_n hx hb dX9_servedOf_4 rfl (lv_at hl 3 rfl) ?_
    refine lv_aload_n hx hb dX9_servedOf_5 rfl (lv_at hl 0 rfl) ?_
    refine va_get (ci := 0) (C := RX9) (T := TX9) (N := 19) hx hb hts in_X9 hown hK hw.1 0 rfl rfl 0 (by decide) (hts _ q1248) (fun _ h9 => h9) rfl dX9_servedOf_6 ?_
    refine lv_iload_n hx hb dX9_servedOf_9 rfl (lv_at hl 1 rfl) ?_
    refine lv_iconst (v := 0) hx hb dX9_servedOf_10 (by decide) ?_
    refine lv_iadd hx hb dX9_servedOf_11 ?_
    obtain ⟨v2, hv, hf⟩ := op_e hf
    refine x_iald (q0 := 1) cx hw rfl hv dX9_servedOf_12 ?_
    refine lv_icmp_ge (tgt := 48) hx hb dX9_servedOf_13 (by decide) (fun c13 => ?_) (fun c13 => ?_)
    · have hf := if_t hf c13
      have hf := sm_e hf
      subst hf
      have hz := hout4 _ rfl
      subst hz
      exact hK4 _ _ _ hw (lv_sub hl [2] rfl)
    · have hf := if_f hf c13
      refine lv_iload_n hx hb dX9_servedOf_16 rfl (lv_at hl 2 rfl) ?_
      refine lv_aload_n hx hb dX9_servedOf_17 rfl (lv_at hl 0 rfl) ?_
      refine va_get (ci := 0) (C := RX9) (T := TX9) (N := 19) hx hb hts in_X9 hown hK hw.1 0 rfl rfl 0 (by decide) (hts _ q1248) (fun _ h9 => h9) rfl dX9_servedOf_18 ?_
      refine lv_iload_n hx hb dX9_servedOf_21 rfl (lv_at hl 1 rfl) ?_
      refine lv_bipush (v := 13) hx hb dX9_servedOf_22 (by decide) ?_
      refine lv_iadd hx hb dX9_servedOf_24 ?_
      refine lv_iload_n hx hb dX9_servedOf_25 rfl (lv_at hl 3 rfl) ?_
      refine lv_iadd hx hb dX9_servedOf_26 ?_
      obtain ⟨v3, hv, hf⟩ := op_e hf
      refine x_iald (q0 := 1) cx hw rfl hv dX9_servedOf_27 ?_
      refine lv_bipush (v := 11) hx hb dX9_servedOf_28 (by decide) ?_
      refine lv_icmp_ne (tgt := 39) hx hb dX9_servedOf_30 (by decide) (fun c30 => ?_) (fun c30 => ?_)
      · have hf := if_f hf c30
        refine lv_iconst (v := 0) hx hb dX9_servedOf_39 (by decide) ?_
        refine lv_ior hx hb dX9_servedOf_40 ?_
        refine lv_istore_n (lv' := [(2, .int (x4.1 ||| 0)), (0, .ref (ad 0)), (1, .int p1), (3, .int x4.2)]) hx hb dX9_servedOf_41 rfl hl (by decide) rfl (fun ls hl => ?_)
        refine lv_iinc (v := (x4.2 + 1)) (lv' := [(3, .int (x4.2 + 1)), (2, .int (x4.1 ||| 0)), (0, .ref (ad 0)), (1, .int p1)]) hx hb dX9_servedOf_42 hl (k := 3) rfl (by first | rfl | decide) (by decide) rfl (fun ls hl => ?_)
        refine lv_goto (tgt := 4) hx hb dX9_servedOf_45 (by decide) ?_
        have hf := sm_e hf
        subst hf
        exact hin4 _ rfl _ _ _ hw (lv_sub hl [2, 3, 1, 0] rfl)
      · have hf := if_t hf c30
        refine lv_iconst (v := 1) hx hb dX9_servedOf_33 (by decide) ?_
        refine lv_iload_n hx hb dX9_servedOf_34 rfl (lv_at hl 3 rfl) ?_
        refine lv_ishl hx hb dX9_servedOf_35 ?_
        refine lv_goto (tgt := 40) hx hb dX9_servedOf_36 (by decide) ?_
        refine lv_ior hx hb dX9_servedOf_40 ?_
        refine lv_istore_n (lv' := [(2, .int (x4.1 ||| ((1 : Int32) <<< (x4.2 &&& 31)))), (0, .ref (ad 0)), (1, .int p1), (3, .int x4.2)]) hx hb dX9_servedOf_41 rfl hl (by decide) rfl (fun ls hl => ?_)
        refine lv_iinc (v := (x4.2 + 1)) (lv' := [(3, .int (x4.2 + 1)), (2, .int (x4.1 ||| ((1 : Int32) <<< (x4.2 &&& 31)))), (0, .ref (ad 0)), (1, .int p1)]) hx hb dX9_servedOf_42 hl (k := 3) rfl (by first | rfl | decide) (by decide) rfl (fun ls hl => ?_)
        refine lv_goto (tgt := 4) hx hb dX9_servedOf_45 (by decide) ?_
        have hf := sm_e hf
        subst hf
        exact hin4 _ rfl _ _ _ hw (lv_sub hl [2, 3, 1, 0] rfl)
theorem hd_X9_minutes : yX9_minutes.cls = "DishLiftModel" ∧ yX9_minutes.cls ≠ "java/lang/invoke/MethodHandle" ∧ yX9_minutes.cls ≠ "java/lang/invoke/VarHandle" ∧ (parseMethodDescriptor yX9_minutes.desc).map (fun d => d.parameters.length) = some 1 := by decide +kernel
set_option maxHeartbeats 4000000 in
theorem mX9_minutes (l : Launch) (X : XT) (hX : XOK X) (D : va_G) (d : Nat → ClassId) (ad : Nat → Nat) (fu : Int32) (ft : Int32) (ff : Int32) (fs : Int32) (fa : Int32) (fb : Int32) (fn : Int32) (fr : Int32) (Ww : Nat → Int32) (p1 : Int32) (res : Int32 × Int32 × (Nat → Int32)) (hf : fX9_minutes Ww fu p1 = some res) : MetI l yX9_minutes (ws_ yX9_minutes cX9_minutes 3 (some .int)) { frames := 4, cells := 0, slots := 0, locals := 91 } [.ref (ad 0), .int p1] X D d [oM ad fu ft ff fs fa fb fn fr, ((ad 1), .inl (d 0, 1247, .inl Ww))] (fun r (_ : Unit) => r = res.1) (fun _ => [oM ad res.2.1 ft ff fs fa fb fn fr, ((ad 1), .inl (d 0, 1247, .inl res.2.2))]) := by
  refine MetI.of (by decide +kernel) (Nat.le_of_ble_eq_true rfl) ?_
  intro p e s m below meth c A cx hw ls hl
  have cx : Cx p s m _ meth c X D d A "DishLiftModel" cX9_minutes 3 (some .int) "minutes" := cx
  have cx' := cx
  obtain ⟨hx, hb, hr, hlk, hml, hown, hts, hK, hA, hXs, hnm⟩ := cx'
  have hl : lv_has ls 3 [(0, .ref (ad 0)), (1, .int p1)] := hl
  unfold fX9_minutes at hf
  refine lv_aload_n hx hb dX9_minutes_0 rfl (lv_at hl 0 rfl) ?_
  obtain ⟨q1, hcq1, hf⟩ := op_e hf
  refine x_VI (wr := []) (rest := []) [] hX cx hw hl.1 (mX9_isHouse l X hX D d ad fu ft ff fs fa fb fn fr Ww q1 hcq1) (lw_V q1402 q1404 qs46 q94 q1405) hd_X9_isHouse ⟨Nat.le_of_ble_eq_true rfl, Nat.le_of_ble_eq_true rfl⟩ (va_recv hK hw.1 (ci := 0) (q0 := 0) rfl rfl) rfl rfl (Nat.le_of_ble_eq_true rfl) dX9_minutes_1 [0, 1] [] rfl rfl rfl rfl (by decide) ⟨(Nat.le_of_ble_eq_true rfl), (Nat.le_of_ble_eq_true rfl)⟩ (fun r u H locs hp hw => ?_)
  have hw : Wd D A s [oM ad fu ft ff fs fa fb fn fr, ((ad 1), .inl (d 0, 1247, .inl Ww))] H locs := hw
  subst r
  refine lv_if_ne (tgt := 10) hx hb dX9_minutes_4 (by decide) (fun c4 => ?_) (fun c4 => ?_)
  · have hf := if_f hf c4
    refine lv_iload_n hx hb dX9_minutes_10 rfl (lv_at hl 1 rfl) ?_
    refine lv_i2l (v := p1.toInt64) hx hb dX9_minutes_11 rfl ?_
    refine lv_lconst (v := 1) hx hb dX9_minutes_12 (by decide) ?_
    refine lv_ldc2 (v := 24) hx hb hown (hts _ q1406) dX9_minutes_13 ?_
    obtain ⟨q2, hcq2, hf⟩ := op_e hf
    refine x_SI (wr := [oM ad fu ft ff fs fa fb fn fr, ((ad 1), .inl (d 0, 1247, .inl Ww))]) (rest := []) [.long p1.toInt64, .long 1, .long 24] hX cx hw hl.1 (mX9_in l X hX D d p1.toInt64 1 24 q2 hcq2) (lw_S q1315 q1316 q94 q1317) hd_X9_in ⟨Nat.le_of_ble_eq_true rfl, Nat.le_of_ble_eq_true rfl⟩ rfl rfl (Nat.le_of_ble_eq_true rfl) dX9_minutes_16 [] [0, 1] rfl rfl rfl rfl (by decide) ⟨(Nat.le_of_ble_eq_true rfl), (Nat.le_of_ble_eq_true rfl)⟩ (fun r u H locs hp hw => ?_)
    have hw : Wd D A s [oM ad fu ft ff fs fa fb fn fr, ((ad 1), .inl (d 0, 1247, .inl Ww))] H locs := hw
    subst r
    refine lv_if_ne (tgt := 25) hx hb dX9_minutes_19 (by decide) (fun c19 => ?_) (fun c19 => ?_)
    · have hf := if_f hf c19
      refine lv_aload_n hx hb dX9_minutes_25 rfl (lv_at hl 0 rfl) ?_
      refine va_get (ci := 0) (C := RX9) (T := TX9) (N := 19) hx hb hts in_X9 hown hK hw.1 0 rfl rfl 0 (by decide) (hts _ q1248) (fun _ h9 => h9) rfl dX9_minutes_26 ?_
      refine lv_bipush (v := 6) hx hb dX9_minutes_29 (by decide) ?_
      obtain ⟨v3, hv, hf⟩ := op_e hf
      refine x_iald (q0 := 1) cx hw rfl hv dX9_minutes_31 ?_
      refine lv_iload_n hx hb dX9_minutes_32 rfl (lv_at hl 1 rfl) ?_
      refine lv_iadd hx hb dX9_minutes_33 ?_
      refine lv_sipush (v := 999) hx hb dX9_minutes_34 (by decide) ?_
      refine lv_icmp_le (tgt := 43) hx hb dX9_minutes_37 (by decide) (fun c37 => ?_) (fun c37 => ?_)
      · have hf := if_t hf c37
        refine lv_iconst (v := 0) hx hb dX9_minutes_43 (by decide) ?_
        refine lv_istore_n (lv' := [(2, .int 0), (0, .ref (ad 0)), (1, .int p1)]) hx hb dX9_minutes_44 rfl hl (by decide) rfl (fun ls hl => ?_)
        obtain ⟨r4, hlp45, hf⟩ := op_e hf
        refine x_join (A := A) (D := D) (J := 65) (nL := 3) (cells' := 0) (slots' := 0) (st := []) [oM ad r4.1 ft ff fs fa fb fn fr, ((ad 1), .inl (d 0, 1247, .inl r4.2))] [(0, .ref (ad 0))] (fun H locs ls hw hl => ?_) (fun hK45 => ?_)
        · refine lv_aload_n hx hb dX9_minutes_65 rfl (lv_at hl 0 rfl) ?_
          refine lv_iconst (v := 0) hx hb dX9_minutes_66 (by decide) ?_
          obtain ⟨q5, hcq5, hf⟩ := op_e hf
          refine x_VI (wr := []) (rest := []) [.int 0] hX cx hw hl.1 (mX9_servedOf l X hX D d ad r4.1 ft ff fs fa fb fn fr r4.2 0 q5 hcq5) (lw_V q1449 q1451 qs56 q94 q1452) hd_X9_servedOf ⟨Nat.le_of_ble_eq_true rfl, Nat.le_of_ble_eq_true rfl⟩ (va_recv hK hw.1 (ci := 0) (q0 := 0) rfl rfl) rfl rfl (Nat.le_of_ble_eq_true rfl) dX9_minutes_67 [0, 1] [] rfl rfl rfl rfl (by decide) ⟨(Nat.le_of_ble_eq_true rfl), (Nat.le_of_ble_eq_true rfl)⟩ (fun r u H locs hp hw => ?_)
          have hw : Wd D A s [oM ad r4.1 ft ff fs fa fb fn fr, ((ad 1), .inl (d 0, 1247, .inl r4.2))] H locs := hw
          subst r
          have hf := sm_e hf
          subst hf
          exact x_retI cx hw rfl () rfl [0, 1] rfl rfl (Nat.le_of_ble_eq_true rfl) (Nat.le_of_ble_eq_true rfl) dX9_minutes_70
        · refine x_lp hlp45 (fun x45 => [oM ad x45.2.1 ft ff fs fa fb fn fr, ((ad 1), .inl (d 0, 1247, .inl x45.2.2))]) (fun x45 => [(0, .ref (ad 0)), (1, .int p1), (2, .int x45.1)]) hw (lv_sub hl [1, 2, 0] rfl) (fun x45 y45 hf hin45 hout45 H locs ls hw hl => ?_)
          have hw : Wd D A s [oM ad x45.2.1 ft ff fs fa fb fn fr, ((ad 1), .inl (d 0, 1247, .inl x45.2.2))] H locs := hw
          have hl : lv_has ls 3 [(0, .ref (ad 0)), (1, .int p1), (2, .int x45.1)] := hl
          refine lv_iload_n hx hb dX9_minutes_45 rfl (lv_at hl 2 rfl) ?_
          refine lv_iload_n hx hb dX9_minutes_46 rfl (lv_at hl 1 rfl) ?_
          refine lv_icmp_ge (tgt := 65) hx hb dX9_minutes_47 (by decide) (fun c47 => ?_) (fun c47 => ?_)
          · have hf := if_t hf c47
            have hf := sm_e hf
            subst hf
            have hz := hout45 _ rfl
            subst hz
            exact hK45 _ _ _ hw (lv_sub hl [0] rfl)
          · have hf := if_f hf c47
            refine lv_aload_n hx hb dX9_minutes_50 rfl (lv_at hl 0 rfl) ?_
            obtain ⟨q6, hcq6, hf⟩ := op_e hf
            refine x_VV (wr := []) (rest := []) [] hX cx hw hl.1 (mX9_minds l X hX D d ad x45.2.1 ft ff fs fa fb fn fr x45.2.2 q6 hcq6) (lw_V q1407 q1409 qs47 q94 q1410) hd_X9_minds ⟨Nat.le_of_ble_eq_true rfl, Nat.le_of_ble_eq_true rfl⟩ (va_recv hK hw.1 (ci := 0) (q0 := 0) rfl rfl) rfl rfl (Nat.le_of_ble_eq_true rfl) dX9_minutes_51 [0, 1] [] rfl rfl rfl rfl (by decide) ⟨(Nat.le_of_ble_eq_true rfl), (Nat.le_of_ble_eq_true rfl)⟩ (fun u H locs hp hw => ?_)
            have hw : Wd D A s [oM ad q6.1 ft ff fs fa fb fn fr, ((ad 1), .inl (d 0, 1247, .inl q6.2))] H locs := hw
            refine lv_aload_n hx hb dX9_minutes_54 rfl (lv_at hl 0 rfl) ?_
            refine lv_iconst (v := 0) hx hb dX9_minutes_55 (by decide) ?_
            obtain ⟨q7, hcq7, hf⟩ := op_e hf
            refine x_VV (wr := []) (rest := []) [.int 0] hX cx hw hl.1 (mX9_passes l X hX D d ad q6.1 ft ff fs fa fb fn fr q6.2 0 q7 hcq7) (lw_V q1411 q1413 qs48 q94 q1414) hd_X9_passes ⟨Nat.le_of_ble_eq_true rfl, Nat.le_of_ble_eq_true rfl⟩ (va_recv hK hw.1 (ci := 0) (q0 := 0) rfl rfl) rfl rfl (Nat.le_of_ble_eq_true rfl) dX9_minutes_56 [0, 1] [] rfl rfl rfl rfl (by decide) ⟨(Nat.le_of_ble_eq_true rfl), (Nat.le_of_ble_eq_true rfl)⟩ (fun u H locs hp hw => ?_)
            have hw : Wd D A s [oM ad q6.1 ft ff fs fa fb fn fr, ((ad 1), .inl (d 0, 1247, .inl q7))] H locs := hw
            refine lv_iinc (v := (x45.1 + 1)) (lv' := [(2, .int (x45.1 + 1)), (0, .ref (ad 0)), (1, .int p1)]) hx hb dX9_minutes_59 hl (k := 2) rfl (by first | rfl | decide) (by decide) rfl (fun ls hl => ?_)
            refine lv_goto (tgt := 45) hx hb dX9_minutes_62 (by decide) ?_
            have hf := sm_e hf
            subst hf
            exact hin45 _ rfl _ _ _ hw (lv_sub hl [1, 2, 0] rfl)
      · have hf := if_f hf c37
        refine lv_ldc (v := (-1000003)) hx hb hown (hts _ q1346) dX9_minutes_40 ?_
        have hf := sm_e hf
        subst hf
        exact x_retI cx hw rfl () rfl [0, 1] rfl rfl (Nat.le_of_ble_eq_true rfl) (Nat.le_of_ble_eq_true rfl) dX9_minutes_42
    · have hf := if_t hf c19
      refine lv_ldc (v := (-1000001)) hx hb hown (hts _ q1319) dX9_minutes_22 ?_
      have hf := sm_e hf
      subst hf
      exact x_retI cx hw rfl () rfl [0, 1] rfl rfl (Nat.le_of_ble_eq_true rfl) (Nat.le_of_ble_eq_true rfl) dX9_minutes_24
  · have hf := if_t hf c4
    refine lv_ldc (v := (-1000002)) hx hb hown (hts _ q1397) dX9_minutes_7 ?_
    have hf := sm_e hf
    subst hf
    exact x_retI cx hw rfl () rfl [0, 1] rfl rfl (Nat.le_of_ble_eq_true rfl) (Nat.le_of_ble_eq_true rfl) dX9_minutes_9
theorem hd_X9_isFloor : yX9_isFloor.cls = "DishLiftModel" ∧ yX9_isFloor.cls ≠ "java/lang/invoke/MethodHandle" ∧ yX9_isFloor.cls ≠ "java/lang/invoke/VarHandle" ∧ (parseMethodDescriptor yX9_isFloor.desc).map (fun d => d.parameters.length) = some 1 := by decide +kernel
set_option maxHeartbeats 4000000 in
theorem mX9_isFloor (l : Launch) (X : XT) (hX : XOK X) (D : va_G) (d : Nat → ClassId) (ad : Nat → Nat) (fu : Int32) (ft : Int32) (ff : Int32) (fs : Int32) (fa : Int32) (fb : Int32) (fn : Int32) (fr : Int32) (Ww : Nat → Int32) (p1 : Int32) (res : Int32) (hf : fX9_isFloor Ww p1 = some res) : MetI l yX9_isFloor (ws_ yX9_isFloor cX9_isFloor 2 (some .boolean)) { frames := 1, cells := 0, slots := 0, locals := 25 } [.ref (ad 0), .int p1] X D d [oM ad fu ft ff fs fa fb fn fr, ((ad 1), .inl (d 0, 1247, .inl Ww))] (fun r (_ : Unit) => r = res) (fun _ => [oM ad fu ft ff fs fa fb fn fr, ((ad 1), .inl (d 0, 1247, .inl Ww))]) := by
  refine MetI.of (by decide +kernel) (Nat.le_of_ble_eq_true rfl) ?_
  intro p e s m below meth c A cx hw ls hl
  have cx : Cx p s m _ meth c X D d A "DishLiftModel" cX9_isFloor 2 (some .boolean) "isFloor" := cx
  have cx' := cx
  obtain ⟨hx, hb, hr, hlk, hml, hown, hts, hK, hA, hXs, hnm⟩ := cx'
  have hl : lv_has ls 2 [(0, .ref (ad 0)), (1, .int p1)] := hl
  unfold fX9_isFloor at hf
  refine lv_iload_n hx hb dX9_isFloor_0 rfl (lv_at hl 1 rfl) ?_
  refine lv_i2l (v := p1.toInt64) hx hb dX9_isFloor_1 rfl ?_
  refine lv_lconst (v := 0) hx hb dX9_isFloor_2 (by decide) ?_
  refine lv_aload_n hx hb dX9_isFloor_3 rfl (lv_at hl 0 rfl) ?_
  refine va_get (ci := 0) (C := RX9) (T := TX9) (N := 19) hx hb hts in_X9 hown hK hw.1 0 rfl rfl 0 (by decide) (hts _ q1248) (fun _ h9 => h9) rfl dX9_isFloor_4 ?_
  refine lv_iconst (v := 1) hx hb dX9_isFloor_7 (by decide) ?_
  obtain ⟨v1, hv, hf⟩ := op_e hf
  refine x_iald (q0 := 1) cx hw rfl hv dX9_isFloor_8 ?_
  refine lv_iconst (v := 1) hx hb dX9_isFloor_9 (by decide) ?_
  refine lv_isub hx hb dX9_isFloor_10 ?_
  refine lv_i2l (v := (v1 - 1).toInt64) hx hb dX9_isFloor_11 rfl ?_
  obtain ⟨q2, hcq2, hf⟩ := op_e hf
  refine x_SI (wr := [oM ad fu ft ff fs fa fb fn fr, ((ad 1), .inl (d 0, 1247, .inl Ww))]) (rest := []) [.long p1.toInt64, .long 0, .long (v1 - 1).toInt64] hX cx hw hl.1 (mX9_in l X hX D d p1.toInt64 0 ((v1 - 1).toInt64) q2 hcq2) (lw_S q1315 q1316 q94 q1317) hd_X9_in ⟨Nat.le_of_ble_eq_true rfl, Nat.le_of_ble_eq_true rfl⟩ rfl rfl (Nat.le_of_ble_eq_true rfl) dX9_isFloor_12 [] [0, 1] rfl rfl rfl rfl (by decide) ⟨(Nat.le_of_ble_eq_true rfl), (Nat.le_of_ble_eq_true rfl)⟩ (fun r u H locs hp hw => ?_)
  have hw : Wd D A s [oM ad fu ft ff fs fa fb fn fr, ((ad 1), .inl (d 0, 1247, .inl Ww))] H locs := hw
  subst r
  obtain ⟨g3, hgb, hf⟩ := op_e hf
  have hf := sm_e hf
  subst hf
  exact x_retI cx hw (gb_spec hgb) () rfl [0, 1] rfl rfl (Nat.le_of_ble_eq_true rfl) (Nat.le_of_ble_eq_true rfl) dX9_isFloor_15
theorem hd_X9_pull : yX9_pull.cls = "DishLiftModel" ∧ yX9_pull.cls ≠ "java/lang/invoke/MethodHandle" ∧ yX9_pull.cls ≠ "java/lang/invoke/VarHandle" ∧ (parseMethodDescriptor yX9_pull.desc).map (fun d => d.parameters.length) = some 1 := by decide +kernel
set_option maxHeartbeats 4000000 in
theorem mX9_pull (l : Launch) (X : XT) (hX : XOK X) (D : va_G) (d : Nat → ClassId) (ad : Nat → Nat) (fu : Int32) (ft : Int32) (ff : Int32) (fs : Int32) (fa : Int32) (fb : Int32) (fn : Int32) (fr : Int32) (Ww : Nat → Int32) (p1 : Int32) (res : Int32 × Int32 × (Nat → Int32)) (hf : fX9_pull Ww fu p1 = some res) : MetI l yX9_pull (ws_ yX9_pull cX9_pull 3 (some .int)) { frames := 2, cells := 0, slots := 0, locals := 46 } [.ref (ad 0), .int p1] X D d [oM ad fu ft ff fs fa fb fn fr, ((ad 1), .inl (d 0, 1247, .inl Ww))] (fun r (_ : Unit) => r = res.1) (fun _ => [oM ad res.2.1 ft ff fs fa fb fn fr, ((ad 1), .inl (d 0, 1247, .inl res.2.2))]) := by
  refine MetI.of (by decide +kernel) (Nat.le_of_ble_eq_true rfl) ?_
  intro p e s m below meth c A cx hw ls hl
  have cx : Cx p s m _ meth c X D d A "DishLiftModel" cX9_pull 3 (some .int) "pull" := cx
  have cx' := cx
  obtain ⟨hx, hb, hr, hlk, hml, hown, hts, hK, hA, hXs, hnm⟩ := cx'
  have hl : lv_has ls 3 [(0, .ref (ad 0)), (1, .int p1)] := hl
  unfold fX9_pull at hf
  refine lv_aload_n hx hb dX9_pull_0 rfl (lv_at hl 0 rfl) ?_
  refine lv_iload_n hx hb dX9_pull_1 rfl (lv_at hl 1 rfl) ?_
  obtain ⟨q1, hcq1, hf⟩ := op_e hf
  refine x_VI (wr := []) (rest := []) [.int p1] hX cx hw hl.1 (mX9_isFloor l X hX D d ad fu ft ff fs fa fb fn fr Ww p1 q1 hcq1) (lw_V q1457 q1459 qs57 q94 q1460) hd_X9_isFloor ⟨Nat.le_of_ble_eq_true rfl, Nat.le_of_ble_eq_true rfl⟩ (va_recv hK hw.1 (ci := 0) (q0 := 0) rfl rfl) rfl rfl (Nat.le_of_ble_eq_true rfl) dX9_pull_2 [0, 1] [] rfl rfl rfl rfl (by decide) ⟨(Nat.le_of_ble_eq_true rfl), (Nat.le_of_ble_eq_true rfl)⟩ (fun r u H locs hp hw => ?_)
  have hw : Wd D A s [oM ad fu ft ff fs fa fb fn fr, ((ad 1), .inl (d 0, 1247, .inl Ww))] H locs := hw
  subst r
  refine lv_if_ne (tgt := 11) hx hb dX9_pull_5 (by decide) (fun c5 => ?_) (fun c5 => ?_)
  · have hf := if_f hf c5
    refine lv_aload_n hx hb dX9_pull_11 rfl (lv_at hl 0 rfl) ?_
    refine va_get (ci := 0) (C := RX9) (T := TX9) (N := 19) hx hb hts in_X9 hown hK hw.1 0 rfl rfl 0 (by decide) (hts _ q1248) (fun _ h9 => h9) rfl dX9_pull_12 ?_
    refine lv_iconst (v := 4) hx hb dX9_pull_15 (by decide) ?_
    obtain ⟨v2, hv, hf⟩ := op_e hf
    refine x_iald (q0 := 1) cx hw rfl hv dX9_pull_16 ?_
    refine lv_iload_n hx hb dX9_pull_17 rfl (lv_at hl 1 rfl) ?_
    refine lv_icmp_ne (tgt := 24) hx hb dX9_pull_18 (by decide) (fun c18 => ?_) (fun c18 => ?_)
    · have hf := if_f hf c18
      refine lv_aload_n hx hb dX9_pull_24 rfl (lv_at hl 0 rfl) ?_
      obtain ⟨q3, hcq3, hf⟩ := op_e hf
      refine x_VV (wr := []) (rest := []) [] hX cx hw hl.1 (mX9_minds l X hX D d ad fu ft ff fs fa fb fn fr Ww q3 hcq3) (lw_V q1407 q1409 qs47 q94 q1410) hd_X9_minds ⟨Nat.le_of_ble_eq_true rfl, Nat.le_of_ble_eq_true rfl⟩ (va_recv hK hw.1 (ci := 0) (q0 := 0) rfl rfl) rfl rfl (Nat.le_of_ble_eq_true rfl) dX9_pull_25 [0, 1] [] rfl rfl rfl rfl (by decide) ⟨(Nat.le_of_ble_eq_true rfl), (Nat.le_of_ble_eq_true rfl)⟩ (fun u H locs hp hw => ?_)
      have hw : Wd D A s [oM ad q3.1 ft ff fs fa fb fn fr, ((ad 1), .inl (d 0, 1247, .inl q3.2))] H locs := hw
      refine lv_aload_n hx hb dX9_pull_28 rfl (lv_at hl 0 rfl) ?_
      refine va_get (ci := 0) (C := RX9) (T := TX9) (N := 19) hx hb hts in_X9 hown hK hw.1 0 rfl rfl 0 (by decide) (hts _ q1248) (fun _ h9 => h9) rfl dX9_pull_29 ?_
      refine lv_iconst (v := 4) hx hb dX9_pull_32 (by decide) ?_
      obtain ⟨v4, hv, hf⟩ := op_e hf
      refine x_iald (q0 := 1) cx hw rfl hv dX9_pull_33 ?_
      refine lv_istore_n (lv' := [(2, .int v4), (0, .ref (ad 0)), (1, .int p1)]) hx hb dX9_pull_34 rfl hl (by decide) rfl (fun ls hl => ?_)
      refine lv_aload_n hx hb dX9_pull_35 rfl (lv_at hl 1 rfl) ?_
      refine va_get (ci := 0) (C := RX9) (T := TX9) (N := 19) hx hb hts in_X9 hown hK hw.1 0 rfl rfl 0 (by decide) (hts _ q1248) (fun _ h9 => h9) rfl dX9_pull_36 ?_
      refine lv_iconst (v := 4) hx hb dX9_pull_39 (by decide) ?_
      refine lv_iload_n hx hb dX9_pull_40 rfl (lv_at hl 2 rfl) ?_
      obtain ⟨w5, hv, hf⟩ := op_e hf
      refine x_iast (q0 := 1) cx hw rfl hv dX9_pull_41 (fun H locs hw => ?_)
      have hw : Wd D A s [oM ad q3.1 ft ff fs fa fb fn fr, ((ad 1), .inl (d 0, 1247, .inl w5))] H locs := hw
      refine lv_iload_n hx hb dX9_pull_42 rfl (lv_at hl 0 rfl) ?_
      have hf := sm_e hf
      subst hf
      exact x_retI cx hw rfl () rfl [0, 1] rfl rfl (Nat.le_of_ble_eq_true rfl) (Nat.le_of_ble_eq_true rfl) dX9_pull_43
    · have hf := if_t hf c18
      refine lv_ldc (v := (-1000002)) hx hb hown (hts _ q1397) dX9_pull_21 ?_
      have hf := sm_e hf
      subst hf
      exact x_retI cx hw rfl () rfl [0, 1] rfl rfl (Nat.le_of_ble_eq_true rfl) (Nat.le_of_ble_eq_true rfl) dX9_pull_23
  · have hf := if_t hf c5
    refine lv_ldc (v := (-1000001)) hx hb hown (hts _ q1319) dX9_pull_8 ?_
    have hf := sm_e hf
    subst hf
    exact x_retI cx hw rfl () rfl [0, 1] rfl rfl (Nat.le_of_ble_eq_true rfl) (Nat.le_of_ble_eq_true rfl) dX9_pull_10
theorem hd_X9_rope : yX9_rope.cls = "DishLiftModel" ∧ yX9_rope.cls ≠ "java/lang/invoke/MethodHandle" ∧ yX9_rope.cls ≠ "java/lang/invoke/VarHandle" ∧ (parseMethodDescriptor yX9_rope.desc).map (fun d => d.parameters.length) = some 1 := by decide +kernel
set_option maxHeartbeats 4000000 in
theorem mX9_rope (l : Launch) (X : XT) (hX : XOK X) (D : va_G) (d : Nat → ClassId) (ad : Nat → Nat) (fu : Int32) (ft : Int32) (ff : Int32) (fs : Int32) (fa : Int32) (fb : Int32) (fn : Int32) (fr : Int32) (Ww : Nat → Int32) (p1 : Int32) (res : Int32 × Int32 × (Nat → Int32)) (hf : fX9_rope Ww fu p1 = some res) : MetI l yX9_rope (ws_ yX9_rope cX9_rope 3 (some .int)) { frames := 2, cells := 0, slots := 0, locals := 44 } [.ref (ad 0), .int p1] X D d [oM ad fu ft ff fs fa fb fn fr, ((ad 1), .inl (d 0, 1247, .inl Ww))] (fun r (_ : Unit) => r = res.1) (fun _ => [oM ad res.2.1 ft ff fs fa fb fn fr, ((ad 1), .inl (d 0, 1247, .inl res.2.2))]) := by
  refine MetI.of (by decide +kernel) (Nat.le_of_ble_eq_true rfl) ?_
  intro p e s m below meth c A cx hw ls hl
  have cx : Cx p s m _ meth c X D d A "DishLiftModel" cX9_rope 3 (some .int) "rope" := cx
  have cx' := cx
  obtain ⟨hx, hb, hr, hlk, hml, hown, hts, hK, hA, hXs, hnm⟩ := cx'
  have hl : lv_has ls 3 [(0, .ref (ad 0)), (1, .int p1)] := hl
  unfold fX9_rope at hf
  refine lv_aload_n hx hb dX9_rope_0 rfl (lv_at hl 0 rfl) ?_
  obtain ⟨q1, hcq1, hf⟩ := op_e hf
  refine x_VI (wr := []) (rest := []) [] hX cx hw hl.1 (mX9_isHouse l X hX D d ad fu ft ff fs fa fb fn fr Ww q1 hcq1) (lw_V q1402 q1404 qs46 q94 q1405) hd_X9_isHouse ⟨Nat.le_of_ble_eq_true rfl, Nat.le_of_ble_eq_true rfl⟩ (va_recv hK hw.1 (ci := 0) (q0 := 0) rfl rfl) rfl rfl (Nat.le_of_ble_eq_true rfl) dX9_rope_1 [0, 1] [] rfl rfl rfl rfl (by decide) ⟨(Nat.le_of_ble_eq_true rfl), (Nat.le_of_ble_eq_true rfl)⟩ (fun r u H locs hp hw => ?_)
  have hw : Wd D A s [oM ad fu ft ff fs fa fb fn fr, ((ad 1), .inl (d 0, 1247, .inl Ww))] H locs := hw
  subst r
  refine lv_if_ne (tgt := 10) hx hb dX9_rope_4 (by decide) (fun c4 => ?_) (fun c4 => ?_)
  · have hf := if_f hf c4
    refine lv_iload_n hx hb dX9_rope_10 rfl (lv_at hl 1 rfl) ?_
    refine lv_i2l (v := p1.toInt64) hx hb dX9_rope_11 rfl ?_
    refine lv_lconst (v := 1) hx hb dX9_rope_12 (by decide) ?_
    refine lv_ldc2 (v := 40) hx hb hown (hts _ q1465) dX9_rope_13 ?_
    obtain ⟨q2, hcq2, hf⟩ := op_e hf
    refine x_SI (wr := [oM ad fu ft ff fs fa fb fn fr, ((ad 1), .inl (d 0, 1247, .inl Ww))]) (rest := []) [.long p1.toInt64, .long 1, .long 40] hX cx hw hl.1 (mX9_in l X hX D d p1.toInt64 1 40 q2 hcq2) (lw_S q1315 q1316 q94 q1317) hd_X9_in ⟨Nat.le_of_ble_eq_true rfl, Nat.le_of_ble_eq_true rfl⟩ rfl rfl (Nat.le_of_ble_eq_true rfl) dX9_rope_16 [] [0, 1] rfl rfl rfl rfl (by decide) ⟨(Nat.le_of_ble_eq_true rfl), (Nat.le_of_ble_eq_true rfl)⟩ (fun r u H locs hp hw => ?_)
    have hw : Wd D A s [oM ad fu ft ff fs fa fb fn fr, ((ad 1), .inl (d 0, 1247, .inl Ww))] H locs := hw
    subst r
    refine lv_if_ne (tgt := 25) hx hb dX9_rope_19 (by decide) (fun c19 => ?_) (fun c19 => ?_)
    · have hf := if_f hf c19
      refine lv_aload_n hx hb dX9_rope_25 rfl (lv_at hl 0 rfl) ?_
      obtain ⟨q3, hcq3, hf⟩ := op_e hf
      refine x_VV (wr := []) (rest := []) [] hX cx hw hl.1 (mX9_minds l X hX D d ad fu ft ff fs fa fb fn fr Ww q3 hcq3) (lw_V q1407 q1409 qs47 q94 q1410) hd_X9_minds ⟨Nat.le_of_ble_eq_true rfl, Nat.le_of_ble_eq_true rfl⟩ (va_recv hK hw.1 (ci := 0) (q0 := 0) rfl rfl) rfl rfl (Nat.le_of_ble_eq_true rfl) dX9_rope_26 [0, 1] [] rfl rfl rfl rfl (by decide) ⟨(Nat.le_of_ble_eq_true rfl), (Nat.le_of_ble_eq_true rfl)⟩ (fun u H locs hp hw => ?_)
      have hw : Wd D A s [oM ad q3.1 ft ff fs fa fb fn fr, ((ad 1), .inl (d 0, 1247, .inl q3.2))] H locs := hw
      refine lv_aload_n hx hb dX9_rope_29 rfl (lv_at hl 0 rfl) ?_
      refine va_get (ci := 0) (C := RX9) (T := TX9) (N := 19) hx hb hts in_X9 hown hK hw.1 0 rfl rfl 0 (by decide) (hts _ q1248) (fun _ h9 => h9) rfl dX9_rope_30 ?_
      refine lv_iconst (v := 3) hx hb dX9_rope_33 (by decide) ?_
      obtain ⟨v4, hv, hf⟩ := op_e hf
      refine x_iald (q0 := 1) cx hw rfl hv dX9_rope_34 ?_
      refine lv_istore_n (lv' := [(2, .int v4), (0, .ref (ad 0)), (1, .int p1)]) hx hb dX9_rope_35 rfl hl (by decide) rfl (fun ls hl => ?_)
      refine lv_aload_n hx hb dX9_rope_36 rfl (lv_at hl 1 rfl) ?_
      refine va_get (ci := 0) (C := RX9) (T := TX9) (N := 19) hx hb hts in_X9 hown hK hw.1 0 rfl rfl 0 (by decide) (hts _ q1248) (fun _ h9 => h9) rfl dX9_rope_37 ?_
      refine lv_iconst (v := 3) hx hb dX9_rope_40 (by decide) ?_
      refine lv_iload_n hx hb dX9_rope_41 rfl (lv_at hl 2 rfl) ?_
      obtain ⟨w5, hv, hf⟩ := op_e hf
      refine x_iast (q0 := 1) cx hw rfl hv dX9_rope_42 (fun H locs hw => ?_)
      have hw : Wd D A s [oM ad q3.1 ft ff fs fa fb fn fr, ((ad 1), .inl (d 0, 1247, .inl w5))] H locs := hw
      refine lv_iload_n hx hb dX9_rope_43 rfl (lv_at hl 0 rfl) ?_
      have hf := sm_e hf
      subst hf
      exact x_retI cx hw rfl () rfl [0, 1] rfl rfl (Nat.le_of_ble_eq_true rfl) (Nat.le_of_ble_eq_true rfl) dX9_rope_44
    · have hf := if_t hf c19
      refine lv_ldc (v := (-1000001)) hx hb hown (hts _ q1319) dX9_rope_22 ?_
      have hf := sm_e hf
      subst hf
      exact x_retI cx hw rfl () rfl [0, 1] rfl rfl (Nat.le_of_ble_eq_true rfl) (Nat.le_of_ble_eq_true rfl) dX9_rope_24
  · have hf := if_t hf c4
    refine lv_ldc (v := (-1000002)) hx hb hown (hts _ q1397) dX9_rope_7 ?_
    have hf := sm_e hf
    subst hf
    exact x_retI cx hw rfl () rfl [0, 1] rfl rfl (Nat.le_of_ble_eq_true rfl) (Nat.le_of_ble_eq_true rfl) dX9_rope_9
theorem hd_X9_room : yX9_room.cls = "DishLiftModel" ∧ yX9_room.cls ≠ "java/lang/invoke/MethodHandle" ∧ yX9_room.cls ≠ "java/lang/invoke/VarHandle" ∧ (parseMethodDescriptor yX9_room.desc).map (fun d => d.parameters.length) = some 1 := by decide +kernel
set_option maxHeartbeats 4000000 in
theorem mX9_room (l : Launch) (X : XT) (hX : XOK X) (D : va_G) (d : Nat → ClassId) (ad : Nat → Nat) (fu : Int32) (ft : Int32) (ff : Int32) (fs : Int32) (fa : Int32) (fb : Int32) (fn : Int32) (fr : Int32) (Ww : Nat → Int32) (p1 : Int32) (res : Int32 × Int32 × (Nat → Int32)) (hf : fX9_room Ww fu p1 = some res) : MetI l yX9_room (ws_ yX9_room cX9_room 3 (some .int)) { frames := 2, cells := 0, slots := 0, locals := 44 } [.ref (ad 0), .int p1] X D d [oM ad fu ft ff fs fa fb fn fr, ((ad 1), .inl (d 0, 1247, .inl Ww))] (fun r (_ : Unit) => r = res.1) (fun _ => [oM ad res.2.1 ft ff fs fa fb fn fr, ((ad 1), .inl (d 0, 1247, .inl res.2.2))]) := by
  refine MetI.of (by decide +kernel) (Nat.le_of_ble_eq_true rfl) ?_
  intro p e s m below meth c A cx hw ls hl
  have cx : Cx p s m _ meth c X D d A "DishLiftModel" cX9_room 3 (some .int) "room" := cx
  have cx' := cx
  obtain ⟨hx, hb, hr, hlk, hml, hown, hts, hK, hA, hXs, hnm⟩ := cx'
  have hl : lv_has ls 3 [(0, .ref (ad 0)), (1, .int p1)] := hl
  unfold fX9_room at hf
  refine lv_aload_n hx hb dX9_room_0 rfl (lv_at hl 0 rfl) ?_
  obtain ⟨q1, hcq1, hf⟩ := op_e hf
  refine x_VI (wr := []) (rest := []) [] hX cx hw hl.1 (mX9_isHouse l X hX D d ad fu ft ff fs fa fb fn fr Ww q1 hcq1) (lw_V q1402 q1404 qs46 q94 q1405) hd_X9_isHouse ⟨Nat.le_of_ble_eq_true rfl, Nat.le_of_ble_eq_true rfl⟩ (va_recv hK hw.1 (ci := 0) (q0 := 0) rfl rfl) rfl rfl (Nat.le_of_ble_eq_true rfl) dX9_room_1 [0, 1] [] rfl rfl rfl rfl (by decide) ⟨(Nat.le_of_ble_eq_true rfl), (Nat.le_of_ble_eq_true rfl)⟩ (fun r u H locs hp hw => ?_)
  have hw : Wd D A s [oM ad fu ft ff fs fa fb fn fr, ((ad 1), .inl (d 0, 1247, .inl Ww))] H locs := hw
  subst r
  refine lv_if_ne (tgt := 10) hx hb dX9_room_4 (by decide) (fun c4 => ?_) (fun c4 => ?_)
  · have hf := if_f hf c4
    refine lv_iload_n hx hb dX9_room_10 rfl (lv_at hl 1 rfl) ?_
    refine lv_i2l (v := p1.toInt64) hx hb dX9_room_11 rfl ?_
    refine lv_lconst (v := 1) hx hb dX9_room_12 (by decide) ?_
    refine lv_ldc2 (v := 4) hx hb hown (hts _ q1470) dX9_room_13 ?_
    obtain ⟨q2, hcq2, hf⟩ := op_e hf
    refine x_SI (wr := [oM ad fu ft ff fs fa fb fn fr, ((ad 1), .inl (d 0, 1247, .inl Ww))]) (rest := []) [.long p1.toInt64, .long 1, .long 4] hX cx hw hl.1 (mX9_in l X hX D d p1.toInt64 1 4 q2 hcq2) (lw_S q1315 q1316 q94 q1317) hd_X9_in ⟨Nat.le_of_ble_eq_true rfl, Nat.le_of_ble_eq_true rfl⟩ rfl rfl (Nat.le_of_ble_eq_true rfl) dX9_room_16 [] [0, 1] rfl rfl rfl rfl (by decide) ⟨(Nat.le_of_ble_eq_true rfl), (Nat.le_of_ble_eq_true rfl)⟩ (fun r u H locs hp hw => ?_)
    have hw : Wd D A s [oM ad fu ft ff fs fa fb fn fr, ((ad 1), .inl (d 0, 1247, .inl Ww))] H locs := hw
    subst r
    refine lv_if_ne (tgt := 25) hx hb dX9_room_19 (by decide) (fun c19 => ?_) (fun c19 => ?_)
    · have hf := if_f hf c19
      refine lv_aload_n hx hb dX9_room_25 rfl (lv_at hl 0 rfl) ?_
      obtain ⟨q3, hcq3, hf⟩ := op_e hf
      refine x_VV (wr := []) (rest := []) [] hX cx hw hl.1 (mX9_minds l X hX D d ad fu ft ff fs fa fb fn fr Ww q3 hcq3) (lw_V q1407 q1409 qs47 q94 q1410) hd_X9_minds ⟨Nat.le_of_ble_eq_true rfl, Nat.le_of_ble_eq_true rfl⟩ (va_recv hK hw.1 (ci := 0) (q0 := 0) rfl rfl) rfl rfl (Nat.le_of_ble_eq_true rfl) dX9_room_26 [0, 1] [] rfl rfl rfl rfl (by decide) ⟨(Nat.le_of_ble_eq_true rfl), (Nat.le_of_ble_eq_true rfl)⟩ (fun u H locs hp hw => ?_)
      have hw : Wd D A s [oM ad q3.1 ft ff fs fa fb fn fr, ((ad 1), .inl (d 0, 1247, .inl q3.2))] H locs := hw
      refine lv_aload_n hx hb dX9_room_29 rfl (lv_at hl 0 rfl) ?_
      refine va_get (ci := 0) (C := RX9) (T := TX9) (N := 19) hx hb hts in_X9 hown hK hw.1 0 rfl rfl 0 (by decide) (hts _ q1248) (fun _ h9 => h9) rfl dX9_room_30 ?_
      refine lv_iconst (v := 2) hx hb dX9_room_33 (by decide) ?_
      obtain ⟨v4, hv, hf⟩ := op_e hf
      refine x_iald (q0 := 1) cx hw rfl hv dX9_room_34 ?_
      refine lv_istore_n (lv' := [(2, .int v4), (0, .ref (ad 0)), (1, .int p1)]) hx hb dX9_room_35 rfl hl (by decide) rfl (fun ls hl => ?_)
      refine lv_aload_n hx hb dX9_room_36 rfl (lv_at hl 1 rfl) ?_
      refine va_get (ci := 0) (C := RX9) (T := TX9) (N := 19) hx hb hts in_X9 hown hK hw.1 0 rfl rfl 0 (by decide) (hts _ q1248) (fun _ h9 => h9) rfl dX9_room_37 ?_
      refine lv_iconst (v := 2) hx hb dX9_room_40 (by decide) ?_
      refine lv_iload_n hx hb dX9_room_41 rfl (lv_at hl 2 rfl) ?_
      obtain ⟨w5, hv, hf⟩ := op_e hf
      refine x_iast (q0 := 1) cx hw rfl hv dX9_room_42 (fun H locs hw => ?_)
      have hw : Wd D A s [oM ad q3.1 ft ff fs fa fb fn fr, ((ad 1), .inl (d 0, 1247, .inl w5))] H locs := hw
      refine lv_iload_n hx hb dX9_room_43 rfl (lv_at hl 0 rfl) ?_
      have hf := sm_e hf
      subst hf
      exact x_retI cx hw rfl () rfl [0, 1] rfl rfl (Nat.le_of_ble_eq_true rfl) (Nat.le_of_ble_eq_true rfl) dX9_room_44
    · have hf := if_t hf c19
      refine lv_ldc (v := (-1000001)) hx hb hown (hts _ q1319) dX9_room_22 ?_
      have hf := sm_e hf
      subst hf
      exact x_retI cx hw rfl () rfl [0, 1] rfl rfl (Nat.le_of_ble_eq_true rfl) (Nat.le_of_ble_eq_true rfl) dX9_room_24
  · have hf := if_t hf c4
    refine lv_ldc (v := (-1000002)) hx hb hown (hts _ q1397) dX9_room_7 ?_
    have hf := sm_e hf
    subst hf
    exact x_retI cx hw rfl () rfl [0, 1] rfl rfl (Nat.le_of_ble_eq_true rfl) (Nat.le_of_ble_eq_true rfl) dX9_room_9
theorem hd_X9_isDish : yX9_isDish.cls = "DishLiftModel" ∧ yX9_isDish.cls ≠ "java/lang/invoke/MethodHandle" ∧ yX9_isDish.cls ≠ "java/lang/invoke/VarHandle" ∧ (parseMethodDescriptor yX9_isDish.desc).map (fun d => d.parameters.length) = some 1 := by decide +kernel
set_option maxHeartbeats 4000000 in
theorem mX9_isDish (l : Launch) (X : XT) (hX : XOK X) (D : va_G) (d : Nat → ClassId) (ad : Nat → Nat) (fu : Int32) (ft : Int32) (ff : Int32) (fs : Int32) (fa : Int32) (fb : Int32) (fn : Int32) (fr : Int32) (Ww : Nat → Int32) (p1 : Int32) (res : Int32) (hf : fX9_isDish Ww p1 = some res) : MetI l yX9_isDish (ws_ yX9_isDish cX9_isDish 2 (some .boolean)) { frames := 1, cells := 0, slots := 0, locals := 25 } [.ref (ad 0), .int p1] X D d [oM ad fu ft ff fs fa fb fn fr, ((ad 1), .inl (d 0, 1247, .inl Ww))] (fun r (_ : Unit) => r = res) (fun _ => [oM ad fu ft ff fs fa fb fn fr, ((ad 1), .inl (d 0, 1247, .inl Ww))]) := by
  refine MetI.of (by decide +kernel) (Nat.le_of_ble_eq_true rfl) ?_
  intro p e s m below meth c A cx hw ls hl
  have cx : Cx p s m _ meth c X D d A "DishLiftModel" cX9_isDish 2 (some .boolean) "isDish" := cx
  have cx' := cx
  obtain ⟨hx, hb, hr, hlk, hml, hown, hts, hK, hA, hXs, hnm⟩ := cx'
  have hl : lv_has ls 2 [(0, .ref (ad 0)), (1, .int p1)] := hl
  unfold fX9_isDish at hf
  refine lv_iload_n hx hb dX9_isDish_0 rfl (lv_at hl 1 rfl) ?_
  refine lv_i2l (v := p1.toInt64) hx hb dX9_isDish_1 rfl ?_
  refine lv_lconst (v := 0) hx hb dX9_isDish_2 (by decide) ?_
  refine lv_aload_n hx hb dX9_isDish_3 rfl (lv_at hl 0 rfl) ?_
  refine va_get (ci := 0) (C := RX9) (T := TX9) (N := 19) hx hb hts in_X9 hown hK hw.1 0 rfl rfl 0 (by decide) (hts _ q1248) (fun _ h9 => h9) rfl dX9_isDish_4 ?_
  refine lv_iconst (v := 0) hx hb dX9_isDish_7 (by decide) ?_
  obtain ⟨v1, hv, hf⟩ := op_e hf
  refine x_iald (q0 := 1) cx hw rfl hv dX9_isDish_8 ?_
  refine lv_iconst (v := 1) hx hb dX9_isDish_9 (by decide) ?_
  refine lv_isub hx hb dX9_isDish_10 ?_
  refine lv_i2l (v := (v1 - 1).toInt64) hx hb dX9_isDish_11 rfl ?_
  obtain ⟨q2, hcq2, hf⟩ := op_e hf
  refine x_SI (wr := [oM ad fu ft ff fs fa fb fn fr, ((ad 1), .inl (d 0, 1247, .inl Ww))]) (rest := []) [.long p1.toInt64, .long 0, .long (v1 - 1).toInt64] hX cx hw hl.1 (mX9_in l X hX D d p1.toInt64 0 ((v1 - 1).toInt64) q2 hcq2) (lw_S q1315 q1316 q94 q1317) hd_X9_in ⟨Nat.le_of_ble_eq_true rfl, Nat.le_of_ble_eq_true rfl⟩ rfl rfl (Nat.le_of_ble_eq_true rfl) dX9_isDish_12 [] [0, 1] rfl rfl rfl rfl (by decide) ⟨(Nat.le_of_ble_eq_true rfl), (Nat.le_of_ble_eq_true rfl)⟩ (fun r u H locs hp hw => ?_)
  have hw : Wd D A s [oM ad fu ft ff fs fa fb fn fr, ((ad 1), .inl (d 0, 1247, .inl Ww))] H locs := hw
  subst r
  obtain ⟨g3, hgb, hf⟩ := op_e hf
  have hf := sm_e hf
  subst hf
  exact x_retI cx hw (gb_spec hgb) () rfl [0, 1] rfl rfl (Nat.le_of_ble_eq_true rfl) (Nat.le_of_ble_eq_true rfl) dX9_isDish_15
theorem hd_X9_sendsBack : yX9_sendsBack.cls = "DishLiftModel" ∧ yX9_sendsBack.cls ≠ "java/lang/invoke/MethodHandle" ∧ yX9_sendsBack.cls ≠ "java/lang/invoke/VarHandle" ∧ (parseMethodDescriptor yX9_sendsBack.desc).map (fun d => d.parameters.length) = some 4 := by decide +kernel
set_option maxHeartbeats 4000000 in
theorem mX9_sendsBack (l : Launch) (X : XT) (hX : XOK X) (D : va_G) (d : Nat → ClassId) (ad : Nat → Nat) (fu : Int32) (ft : Int32) (ff : Int32) (fs : Int32) (fa : Int32) (fb : Int32) (fn : Int32) (fr : Int32) (Ww : Nat → Int32) (p1 : Int32) (p2 : Int32) (p3 : Int32) (p4 : Int32) (res : (Nat → Int32)) (hf : fX9_sendsBack Ww p1 p2 p3 p4 = some res) : MetV l yX9_sendsBack (ws_ yX9_sendsBack cX9_sendsBack 5 none) { frames := 0, cells := 0, slots := 0, locals := 0 } [.ref (ad 0), .int p1, .int p2, .int p3, .int p4] X D d [oM ad fu ft ff fs fa fb fn fr, ((ad 1), .inl (d 0, 1247, .inl Ww))] (fun (_ : Unit) => True) (fun _ => [oM ad fu ft ff fs fa fb fn fr, ((ad 1), .inl (d 0, 1247, .inl res))]) := by
  refine MetV.of (by decide +kernel) (Nat.le_of_ble_eq_true rfl) ?_
  intro p e s m below meth c A cx hw ls hl
  have cx : Cx p s m _ meth c X D d A "DishLiftModel" cX9_sendsBack 5 none "sendsBack" := cx
  have cx' := cx
  obtain ⟨hx, hb, hr, hlk, hml, hown, hts, hK, hA, hXs, hnm⟩ := cx'
  have hl : lv_has ls 5 [(0, .ref (ad 0)), (1, .int p1), (2, .int p2), (3, .int p3), (4, .int p4)] := hl
  unfold fX9_sendsBack at hf
  refine lv_aload_n hx hb dX9_sendsBack_0 rfl (lv_at hl 0 rfl) ?_
  refine va_get (ci := 0) (C := RX9) (T := TX9) (N := 19) hx hb hts in_X9 hown hK hw.1 0 rfl rfl 0 (by decide) (hts _ q1248) (fun _ h9 => h9) rfl dX9_sendsBack_1 ?_
  refine lv_iload_n hx hb dX9_sendsBack_4 rfl (lv_at hl 1 rfl) ?_
  refine lv_bipush (v := 13) hx hb dX9_sendsBack_5 (by decide) ?_
  refine lv_iadd hx hb dX9_sendsBack_7 ?_
  refine lv_iload_n hx hb dX9_sendsBack_8 rfl (lv_at hl 2 rfl) ?_
  refine lv_iadd hx hb dX9_sendsBack_9 ?_
  refine lv_aload_n hx hb dX9_sendsBack_10 rfl (lv_at hl 0 rfl) ?_
  refine va_get (ci := 0) (C := RX9) (T := TX9) (N := 19) hx hb hts in_X9 hown hK hw.1 0 rfl rfl 0 (by decide) (hts _ q1248) (fun _ h9 => h9) rfl dX9_sendsBack_11 ?_
  refine lv_iload_n hx hb dX9_sendsBack_14 rfl (lv_at hl 1 rfl) ?_
  refine lv_bipush (v := 19) hx hb dX9_sendsBack_15 (by decide) ?_
  refine lv_iadd hx hb dX9_sendsBack_17 ?_
  refine lv_iload_n hx hb dX9_sendsBack_18 rfl (lv_at hl 2 rfl) ?_
  refine lv_iadd hx hb dX9_sendsBack_19 ?_
  obtain ⟨v1, hv, hf⟩ := op_e hf
  refine x_iald (q0 := 1) cx hw rfl hv dX9_sendsBack_20 ?_
  obtain ⟨w2, hv, hf⟩ := op_e hf
  refine x_iast (q0 := 1) cx hw rfl hv dX9_sendsBack_21 (fun H locs hw => ?_)
  have hw : Wd D A s [oM ad fu ft ff fs fa fb fn fr, ((ad 1), .inl (d 0, 1247, .inl w2))] H locs := hw
  refine lv_aload_n hx hb dX9_sendsBack_22 rfl (lv_at hl 0 rfl) ?_
  refine va_get (ci := 0) (C := RX9) (T := TX9) (N := 19) hx hb hts in_X9 hown hK hw.1 0 rfl rfl 0 (by decide) (hts _ q1248) (fun _ h9 => h9) rfl dX9_sendsBack_23 ?_
  refine lv_iload_n hx hb dX9_sendsBack_26 rfl (lv_at hl 1 rfl) ?_
  refine lv_bipush (v := 19) hx hb dX9_sendsBack_27 (by decide) ?_
  refine lv_iadd hx hb dX9_sendsBack_29 ?_
  refine lv_iload_n hx hb dX9_sendsBack_30 rfl (lv_at hl 2 rfl) ?_
  refine lv_iadd hx hb dX9_sendsBack_31 ?_
  refine lv_iload_n hx hb dX9_sendsBack_32 rfl (lv_at hl 3 rfl) ?_
  obtain ⟨w3, hv, hf⟩ := op_e hf
  refine x_iast (q0 := 1) cx hw rfl hv dX9_sendsBack_33 (fun H locs hw => ?_)
  have hw : Wd D A s [oM ad fu ft ff fs fa fb fn fr, ((ad 1), .inl (d 0, 1247, .inl w3))] H locs := hw
  refine lv_aload_n hx hb dX9_sendsBack_34 rfl (lv_at hl 0 rfl) ?_
  refine va_get (ci := 0) (C := RX9) (T := TX9) (N := 19) hx hb hts in_X9 hown hK hw.1 0 rfl rfl 0 (by decide) (hts _ q1248) (fun _ h9 => h9) rfl dX9_sendsBack_35 ?_
  refine lv_iload_n hx hb dX9_sendsBack_38 rfl (lv_at hl 1 rfl) ?_
  refine lv_bipush (v := 31) hx hb dX9_sendsBack_39 (by decide) ?_
  refine lv_iadd hx hb dX9_sendsBack_41 ?_
  refine lv_iload_n hx hb dX9_sendsBack_42 rfl (lv_at hl 2 rfl) ?_
  refine lv_iadd hx hb dX9_sendsBack_43 ?_
  refine lv_iload hx hb dX9_sendsBack_44 (lv_at hl 4 rfl) ?_
  obtain ⟨w4, hv, hf⟩ := op_e hf
  refine x_iast (q0 := 1) cx hw rfl hv dX9_sendsBack_46 (fun H locs hw => ?_)
  have hw : Wd D A s [oM ad fu ft ff fs fa fb fn fr, ((ad 1), .inl (d 0, 1247, .inl w4))] H locs := hw
  have hf := sm_e hf
  subst hf
  exact x_retV cx hw () trivial [0, 1] rfl rfl (Nat.le_of_ble_eq_true rfl) (Nat.le_of_ble_eq_true rfl) dX9_sendsBack_47
theorem hd_X9_send : yX9_send.cls = "DishLiftModel" ∧ yX9_send.cls ≠ "java/lang/invoke/MethodHandle" ∧ yX9_send.cls ≠ "java/lang/invoke/VarHandle" ∧ (parseMethodDescriptor yX9_send.desc).map (fun d => d.parameters.length) = some 3 := by decide +kernel
set_option maxHeartbeats 4000000 in
theorem mX9_send (l : Launch) (X : XT) (hX : XOK X) (D : va_G) (d : Nat → ClassId) (ad : Nat → Nat) (fu : Int32) (ft : Int32) (ff : Int32) (fs : Int32) (fa : Int32) (fb : Int32) (fn : Int32) (fr : Int32) (Ww : Nat → Int32) (p1 : Int32) (p2 : Int32) (p3 : Int32) (res : Int32 × Int32 × (Nat → Int32)) (hf : fX9_send Ww fu p1 p2 p3 = some res) : MetI l yX9_send (ws_ yX9_send cX9_send 4 (some .int)) { frames := 2, cells := 0, slots := 0, locals := 46 } [.ref (ad 0), .int p1, .int p2, .int p3] X D d [oM ad fu ft ff fs fa fb fn fr, ((ad 1), .inl (d 0, 1247, .inl Ww))] (fun r (_ : Unit) => r = res.1) (fun _ => [oM ad res.2.1 ft ff fs fa fb fn fr, ((ad 1), .inl (d 0, 1247, .inl res.2.2))]) := by
  refine MetI.of (by decide +kernel) (Nat.le_of_ble_eq_true rfl) ?_
  intro p e s m below meth c A cx hw ls hl
  have cx : Cx p s m _ meth c X D d A "DishLiftModel" cX9_send 4 (some .int) "send" := cx
  have cx' := cx
  obtain ⟨hx, hb, hr, hlk, hml, hown, hts, hK, hA, hXs, hnm⟩ := cx'
  have hl : lv_has ls 4 [(0, .ref (ad 0)), (1, .int p1), (2, .int p2), (3, .int p3)] := hl
  unfold fX9_send at hf
  refine lv_aload_n hx hb dX9_send_0 rfl (lv_at hl 0 rfl) ?_
  refine lv_iload_n hx hb dX9_send_1 rfl (lv_at hl 1 rfl) ?_
  obtain ⟨q1, hcq1, hf⟩ := op_e hf
  refine x_VI (wr := []) (rest := []) [.int p1] hX cx hw hl.1 (mX9_isDish l X hX D d ad fu ft ff fs fa fb fn fr Ww p1 q1 hcq1) (lw_V q1475 q1477 qs58 q94 q1478) hd_X9_isDish ⟨Nat.le_of_ble_eq_true rfl, Nat.le_of_ble_eq_true rfl⟩ (va_recv hK hw.1 (ci := 0) (q0 := 0) rfl rfl) rfl rfl (Nat.le_of_ble_eq_true rfl) dX9_send_2 [0, 1] [] rfl rfl rfl rfl (by decide) ⟨(Nat.le_of_ble_eq_true rfl), (Nat.le_of_ble_eq_true rfl)⟩ (fun r u H locs hp hw => ?_)
  have hw : Wd D A s [oM ad fu ft ff fs fa fb fn fr, ((ad 1), .inl (d 0, 1247, .inl Ww))] H locs := hw
  subst r
  refine lv_if_eq (tgt := 28) hx hb dX9_send_5 (by decide) (fun c5 => ?_) (fun c5 => ?_)
  · have hf := if_t hf c5
    refine lv_ldc (v := (-1000001)) hx hb hown (hts _ q1319) dX9_send_28 ?_
    have hf := sm_e hf
    subst hf
    exact x_retI cx hw rfl () rfl [0, 1] rfl rfl (Nat.le_of_ble_eq_true rfl) (Nat.le_of_ble_eq_true rfl) dX9_send_30
  · have hf := if_f hf c5
    refine lv_aload_n hx hb dX9_send_8 rfl (lv_at hl 0 rfl) ?_
    refine lv_iload_n hx hb dX9_send_9 rfl (lv_at hl 2 rfl) ?_
    obtain ⟨q2, hcq2, hf⟩ := op_e hf
    refine x_VI (wr := []) (rest := []) [.int p2] hX cx hw hl.1 (mX9_isFloor l X hX D d ad fu ft ff fs fa fb fn fr Ww p2 q2 hcq2) (lw_V q1457 q1459 qs57 q94 q1460) hd_X9_isFloor ⟨Nat.le_of_ble_eq_true rfl, Nat.le_of_ble_eq_true rfl⟩ (va_recv hK hw.1 (ci := 0) (q0 := 0) rfl rfl) rfl rfl (Nat.le_of_ble_eq_true rfl) dX9_send_10 [0, 1] [] rfl rfl rfl rfl (by decide) ⟨(Nat.le_of_ble_eq_true rfl), (Nat.le_of_ble_eq_true rfl)⟩ (fun r u H locs hp hw => ?_)
    have hw : Wd D A s [oM ad fu ft ff fs fa fb fn fr, ((ad 1), .inl (d 0, 1247, .inl Ww))] H locs := hw
    subst r
    refine lv_if_eq (tgt := 28) hx hb dX9_send_13 (by decide) (fun c13 => ?_) (fun c13 => ?_)
    · have hf := if_t hf c13
      refine lv_ldc (v := (-1000001)) hx hb hown (hts _ q1319) dX9_send_28 ?_
      have hf := sm_e hf
      subst hf
      exact x_retI cx hw rfl () rfl [0, 1] rfl rfl (Nat.le_of_ble_eq_true rfl) (Nat.le_of_ble_eq_true rfl) dX9_send_30
    · have hf := if_f hf c13
      refine lv_iload_n hx hb dX9_send_16 rfl (lv_at hl 3 rfl) ?_
      refine lv_i2l (v := p3.toInt64) hx hb dX9_send_17 rfl ?_
      refine lv_lconst (v := 0) hx hb dX9_send_18 (by decide) ?_
      refine lv_ldc2 (v := 60) hx hb hown (hts _ q1479) dX9_send_19 ?_
      obtain ⟨q3, hcq3, hf⟩ := op_e hf
      refine x_SI (wr := [oM ad fu ft ff fs fa fb fn fr, ((ad 1), .inl (d 0, 1247, .inl Ww))]) (rest := []) [.long p3.toInt64, .long 0, .long 60] hX cx hw hl.1 (mX9_in l X hX D d p3.toInt64 0 60 q3 hcq3) (lw_S q1315 q1316 q94 q1317) hd_X9_in ⟨Nat.le_of_ble_eq_true rfl, Nat.le_of_ble_eq_true rfl⟩ rfl rfl (Nat.le_of_ble_eq_true rfl) dX9_send_22 [] [0, 1] rfl rfl rfl rfl (by decide) ⟨(Nat.le_of_ble_eq_true rfl), (Nat.le_of_ble_eq_true rfl)⟩ (fun r u H locs hp hw => ?_)
      have hw : Wd D A s [oM ad fu ft ff fs fa fb fn fr, ((ad 1), .inl (d 0, 1247, .inl Ww))] H locs := hw
      subst r
      refine lv_if_ne (tgt := 31) hx hb dX9_send_25 (by decide) (fun c25 => ?_) (fun c25 => ?_)
      · have hf := if_f hf c25
        refine lv_aload_n hx hb dX9_send_31 rfl (lv_at hl 0 rfl) ?_
        refine va_get (ci := 0) (C := RX9) (T := TX9) (N := 19) hx hb hts in_X9 hown hK hw.1 0 rfl rfl 0 (by decide) (hts _ q1248) (fun _ h9 => h9) rfl dX9_send_32 ?_
        refine lv_bipush (v := 13) hx hb dX9_send_35 (by decide) ?_
        refine lv_iload_n hx hb dX9_send_37 rfl (lv_at hl 1 rfl) ?_
        refine lv_iadd hx hb dX9_send_38 ?_
        obtain ⟨v4, hv, hf⟩ := op_e hf
        refine x_iald (q0 := 1) cx hw rfl hv dX9_send_39 ?_
        refine lv_bipush (v := 11) hx hb dX9_send_40 (by decide) ?_
        refine lv_icmp_ne (tgt := 58) hx hb dX9_send_42 (by decide) (fun c42 => ?_) (fun c42 => ?_)
        · have hf := if_f hf c42
          refine lv_ldc (v := (-1000002)) hx hb hown (hts _ q1397) dX9_send_58 ?_
          have hf := sm_e hf
          subst hf
          exact x_retI cx hw rfl () rfl [0, 1] rfl rfl (Nat.le_of_ble_eq_true rfl) (Nat.le_of_ble_eq_true rfl) dX9_send_60
        · have hf := if_t hf c42
          refine lv_aload_n hx hb dX9_send_45 rfl (lv_at hl 0 rfl) ?_
          refine va_get (ci := 0) (C := RX9) (T := TX9) (N := 19) hx hb hts in_X9 hown hK hw.1 0 rfl rfl 0 (by decide) (hts _ q1248) (fun _ h9 => h9) rfl dX9_send_46 ?_
          refine lv_bipush (v := 19) hx hb dX9_send_49 (by decide) ?_
          refine lv_iload_n hx hb dX9_send_51 rfl (lv_at hl 1 rfl) ?_
          refine lv_iadd hx hb dX9_send_52 ?_
          obtain ⟨v5, hv, hf⟩ := op_e hf
          refine x_iald (q0 := 1) cx hw rfl hv dX9_send_53 ?_
          refine lv_iload_n hx hb dX9_send_54 rfl (lv_at hl 2 rfl) ?_
          refine lv_icmp_ne (tgt := 61) hx hb dX9_send_55 (by decide) (fun c55 => ?_) (fun c55 => ?_)
          · have hf := if_f hf c55
            refine lv_aload_n hx hb dX9_send_61 rfl (lv_at hl 0 rfl) ?_
            obtain ⟨q6, hcq6, hf⟩ := op_e hf
            refine x_VV (wr := []) (rest := []) [] hX cx hw hl.1 (mX9_minds l X hX D d ad fu ft ff fs fa fb fn fr Ww q6 hcq6) (lw_V q1407 q1409 qs47 q94 q1410) hd_X9_minds ⟨Nat.le_of_ble_eq_true rfl, Nat.le_of_ble_eq_true rfl⟩ (va_recv hK hw.1 (ci := 0) (q0 := 0) rfl rfl) rfl rfl (Nat.le_of_ble_eq_true rfl) dX9_send_62 [0, 1] [] rfl rfl rfl rfl (by decide) ⟨(Nat.le_of_ble_eq_true rfl), (Nat.le_of_ble_eq_true rfl)⟩ (fun u H locs hp hw => ?_)
            have hw : Wd D A s [oM ad q6.1 ft ff fs fa fb fn fr, ((ad 1), .inl (d 0, 1247, .inl q6.2))] H locs := hw
            refine lv_aload_n hx hb dX9_send_65 rfl (lv_at hl 0 rfl) ?_
            refine lv_iconst (v := 0) hx hb dX9_send_66 (by decide) ?_
            refine lv_iload_n hx hb dX9_send_67 rfl (lv_at hl 1 rfl) ?_
            refine lv_iload_n hx hb dX9_send_68 rfl (lv_at hl 2 rfl) ?_
            refine lv_iload_n hx hb dX9_send_69 rfl (lv_at hl 3 rfl) ?_
            obtain ⟨q7, hcq7, hf⟩ := op_e hf
            refine x_VV (wr := []) (rest := []) [.int 0, .int p1, .int p2, .int p3] hX cx hw hl.1 (mX9_sendsBack l X hX D d ad q6.1 ft ff fs fa fb fn fr q6.2 0 p1 p2 p3 q7 hcq7) (lw_V q1480 q1482 qs59 q94 q1483) hd_X9_sendsBack ⟨Nat.le_of_ble_eq_true rfl, Nat.le_of_ble_eq_true rfl⟩ (va_recv hK hw.1 (ci := 0) (q0 := 0) rfl rfl) rfl rfl (Nat.le_of_ble_eq_true rfl) dX9_send_70 [0, 1] [] rfl rfl rfl rfl (by decide) ⟨(Nat.le_of_ble_eq_true rfl), (Nat.le_of_ble_eq_true rfl)⟩ (fun u H locs hp hw => ?_)
            have hw : Wd D A s [oM ad q6.1 ft ff fs fa fb fn fr, ((ad 1), .inl (d 0, 1247, .inl q7))] H locs := hw
            refine lv_aload_n hx hb dX9_send_73 rfl (lv_at hl 0 rfl) ?_
            refine lv_iconst (v := 0) hx hb dX9_send_74 (by decide) ?_
            obtain ⟨q8, hcq8, hf⟩ := op_e hf
            refine x_VI (wr := []) (rest := []) [.int 0] hX cx hw hl.1 (mX9_servedOf l X hX D d ad q6.1 ft ff fs fa fb fn fr q7 0 q8 hcq8) (lw_V q1449 q1451 qs56 q94 q1452) hd_X9_servedOf ⟨Nat.le_of_ble_eq_true rfl, Nat.le_of_ble_eq_true rfl⟩ (va_recv hK hw.1 (ci := 0) (q0 := 0) rfl rfl) rfl rfl (Nat.le_of_ble_eq_true rfl) dX9_send_75 [0, 1] [] rfl rfl rfl rfl (by decide) ⟨(Nat.le_of_ble_eq_true rfl), (Nat.le_of_ble_eq_true rfl)⟩ (fun r u H locs hp hw => ?_)
            have hw : Wd D A s [oM ad q6.1 ft ff fs fa fb fn fr, ((ad 1), .inl (d 0, 1247, .inl q7))] H locs := hw
            subst r
            have hf := sm_e hf
            subst hf
            exact x_retI cx hw rfl () rfl [0, 1] rfl rfl (Nat.le_of_ble_eq_true rfl) (Nat.le_of_ble_eq_true rfl) dX9_send_78
          · have hf := if_t hf c55
            refine lv_ldc (v := (-1000002)) hx hb hown (hts _ q1397) dX9_send_58 ?_
            have hf := sm_e hf
            subst hf
            exact x_retI cx hw rfl () rfl [0, 1] rfl rfl (Nat.le_of_ble_eq_true rfl) (Nat.le_of_ble_eq_true rfl) dX9_send_60
      · have hf := if_t hf c25
        refine lv_ldc (v := (-1000001)) hx hb hown (hts _ q1319) dX9_send_28 ?_
        have hf := sm_e hf
        subst hf
        exact x_retI cx hw rfl () rfl [0, 1] rfl rfl (Nat.le_of_ble_eq_true rfl) (Nat.le_of_ble_eq_true rfl) dX9_send_30
theorem hd_X9_isGood : yX9_isGood.cls ≠ "java/lang/invoke/MethodHandle" ∧ yX9_isGood.cls ≠ "java/lang/invoke/VarHandle" ∧ (parseMethodDescriptor yX9_isGood.desc).map (fun d => d.parameters.length) = some 2 := by decide +kernel
set_option maxHeartbeats 4000000 in
theorem mX9_isGood (l : Launch) (X : XT) (hX : XOK X) (D : va_G) (d : Nat → ClassId) (p0 : Int32) (p1 : Int32) (res : Int32) (hf : fX9_isGood p0 p1 = some res) : MetI l yX9_isGood (ws_ yX9_isGood cX9_isGood 2 (some .boolean)) { frames := 0, cells := 0, slots := 0, locals := 0 } [.int p0, .int p1] X D d [] (fun r (_ : Unit) => r = res) (fun _ => []) := by
  refine MetI.of (by decide +kernel) (Nat.le_of_ble_eq_true rfl) ?_
  intro p e s m below meth c A cx hw ls hl
  have cx : Cx p s m _ meth c X D d A "DishLiftModel" cX9_isGood 2 (some .boolean) "isGood" := cx
  have cx' := cx
  obtain ⟨hx, hb, hr, hlk, hml, hown, hts, hK, hA, hXs, hnm⟩ := cx'
  have hl : lv_has ls 2 [(0, .int p0), (1, .int p1)] := hl
  unfold fX9_isGood at hf
  refine lv_iload_n hx hb dX9_isGood_0 rfl (lv_at hl 0 rfl) ?_
  refine lv_iconst (v := 4) hx hb dX9_isGood_1 (by decide) ?_
  refine lv_icmp_lt (tgt := 19) hx hb dX9_isGood_2 (by decide) (fun c2 => ?_) (fun c2 => ?_)
  · have hf := if_t hf c2
    refine lv_iload_n hx hb dX9_isGood_19 rfl (lv_at hl 1 rfl) ?_
    refine lv_bipush (v := 20) hx hb dX9_isGood_20 (by decide) ?_
    refine lv_icmp_lt (tgt := 29) hx hb dX9_isGood_22 (by decide) (fun c22 => ?_) (fun c22 => ?_)
    · have hf := if_t hf c22
      refine lv_iconst (v := 0) hx hb dX9_isGood_29 (by decide) ?_
      have hf := sm_e hf
      subst hf
      exact x_retI cx hw rfl () rfl [] rfl rfl (Nat.le_of_ble_eq_true rfl) (Nat.le_of_ble_eq_true rfl) dX9_isGood_30
    · have hf := if_f hf c22
      refine lv_iconst (v := 1) hx hb dX9_isGood_25 (by decide) ?_
      refine lv_goto (tgt := 30) hx hb dX9_isGood_26 (by decide) ?_
      have hf := sm_e hf
      subst hf
      exact x_retI cx hw rfl () rfl [] rfl rfl (Nat.le_of_ble_eq_true rfl) (Nat.le_of_ble_eq_true rfl) dX9_isGood_30
  · have hf := if_f hf c2
    refine lv_iload_n hx hb dX9_isGood_5 rfl (lv_at hl 1 rfl) ?_
    refine lv_bipush (v := 10) hx hb dX9_isGood_6 (by decide) ?_
    refine lv_icmp_gt (tgt := 15) hx hb dX9_isGood_8 (by decide) (fun c8 => ?_) (fun c8 => ?_)
    · have hf := if_t hf c8
      refine lv_iconst (v := 0) hx hb dX9_isGood_15 (by decide) ?_
      refine lv_goto (tgt := 30) hx hb dX9_isGood_16 (by decide) ?_
      have hf := sm_e hf
      subst hf
      exact x_retI cx hw rfl () rfl [] rfl rfl (Nat.le_of_ble_eq_true rfl) (Nat.le_of_ble_eq_true rfl) dX9_isGood_30
    · have hf := if_f hf c8
      refine lv_iconst (v := 1) hx hb dX9_isGood_11 (by decide) ?_
      refine lv_goto (tgt := 30) hx hb dX9_isGood_12 (by decide) ?_
      have hf := sm_e hf
      subst hf
      exact x_retI cx hw rfl () rfl [] rfl rfl (Nat.le_of_ble_eq_true rfl) (Nat.le_of_ble_eq_true rfl) dX9_isGood_30
theorem hd_X9_dish : yX9_dish.cls = "DishLiftModel" ∧ yX9_dish.cls ≠ "java/lang/invoke/MethodHandle" ∧ yX9_dish.cls ≠ "java/lang/invoke/VarHandle" ∧ (parseMethodDescriptor yX9_dish.desc).map (fun d => d.parameters.length) = some 2 := by decide +kernel
set_option maxHeartbeats 4000000 in
theorem mX9_dish (l : Launch) (X : XT) (hX : XOK X) (D : va_G) (d : Nat → ClassId) (ad : Nat → Nat) (fu : Int32) (ft : Int32) (ff : Int32) (fs : Int32) (fa : Int32) (fb : Int32) (fn : Int32) (fr : Int32) (Ww : Nat → Int32) (p1 : Int32) (p2 : Int32) (res : Int32) (hf : fX9_dish Ww p1 p2 = some res) : MetI l yX9_dish (ws_ yX9_dish cX9_dish 3 (some .int)) { frames := 2, cells := 0, slots := 0, locals := 46 } [.ref (ad 0), .int p1, .int p2] X D d [oM ad fu ft ff fs fa fb fn fr, ((ad 1), .inl (d 0, 1247, .inl Ww))] (fun r (_ : Unit) => r = res) (fun _ => [oM ad fu ft ff fs fa fb fn fr, ((ad 1), .inl (d 0, 1247, .inl Ww))]) := by
  refine MetI.of (by decide +kernel) (Nat.le_of_ble_eq_true rfl) ?_
  intro p e s m below meth c A cx hw ls hl
  have cx : Cx p s m _ meth c X D d A "DishLiftModel" cX9_dish 3 (some .int) "dish" := cx
  have cx' := cx
  obtain ⟨hx, hb, hr, hlk, hml, hown, hts, hK, hA, hXs, hnm⟩ := cx'
  have hl : lv_has ls 3 [(0, .ref (ad 0)), (1, .int p1), (2, .int p2)] := hl
  unfold fX9_dish at hf
  refine lv_aload_n hx hb dX9_dish_0 rfl (lv_at hl 0 rfl) ?_
  refine lv_iload_n hx hb dX9_dish_1 rfl (lv_at hl 1 rfl) ?_
  obtain ⟨q1, hcq1, hf⟩ := op_e hf
  refine x_VI (wr := []) (rest := []) [.int p1] hX cx hw hl.1 (mX9_isDish l X hX D d ad fu ft ff fs fa fb fn fr Ww p1 q1 hcq1) (lw_V q1475 q1477 qs58 q94 q1478) hd_X9_isDish ⟨Nat.le_of_ble_eq_true rfl, Nat.le_of_ble_eq_true rfl⟩ (va_recv hK hw.1 (ci := 0) (q0 := 0) rfl rfl) rfl rfl (Nat.le_of_ble_eq_true rfl) dX9_dish_2 [0, 1] [] rfl rfl rfl rfl (by decide) ⟨(Nat.le_of_ble_eq_true rfl), (Nat.le_of_ble_eq_true rfl)⟩ (fun r u H locs hp hw => ?_)
  have hw : Wd D A s [oM ad fu ft ff fs fa fb fn fr, ((ad 1), .inl (d 0, 1247, .inl Ww))] H locs := hw
  subst r
  refine lv_if_ne (tgt := 11) hx hb dX9_dish_5 (by decide) (fun c5 => ?_) (fun c5 => ?_)
  · have hf := if_f hf c5
    refine lv_iload_n hx hb dX9_dish_11 rfl (lv_at hl 2 rfl) ?_
    by_cases n0 : p2 = 0
    · have hf := if_t hf n0
      refine lv_tableIn (tgt := 48) hx hb dX9_dish_12 (by rw [n0]; decide) (by rw [n0]; decide) (by rw [n0]; rfl) (by decide) ?_
      refine lv_aload_n hx hb dX9_dish_48 rfl (lv_at hl 0 rfl) ?_
      refine va_get (ci := 0) (C := RX9) (T := TX9) (N := 19) hx hb hts in_X9 hown hK hw.1 0 rfl rfl 0 (by decide) (hts _ q1248) (fun _ h9 => h9) rfl dX9_dish_49 ?_
      refine lv_bipush (v := 13) hx hb dX9_dish_52 (by decide) ?_
      refine lv_iload_n hx hb dX9_dish_54 rfl (lv_at hl 1 rfl) ?_
      refine lv_iadd hx hb dX9_dish_55 ?_
      obtain ⟨v2, hv, hf⟩ := op_e hf
      refine x_iald (q0 := 1) cx hw rfl hv dX9_dish_56 ?_
      have hf := sm_e hf
      subst hf
      exact x_retI cx hw rfl () rfl [0, 1] rfl rfl (Nat.le_of_ble_eq_true rfl) (Nat.le_of_ble_eq_true rfl) dX9_dish_57
    · have hf := if_f hf n0
      by_cases n1 : p2 = 1
      · have hf := if_t hf n1
        refine lv_tableIn (tgt := 58) hx hb dX9_dish_12 (by rw [n1]; decide) (by rw [n1]; decide) (by rw [n1]; rfl) (by decide) ?_
        refine lv_aload_n hx hb dX9_dish_58 rfl (lv_at hl 0 rfl) ?_
        refine va_get (ci := 0) (C := RX9) (T := TX9) (N := 19) hx hb hts in_X9 hown hK hw.1 0 rfl rfl 0 (by decide) (hts _ q1248) (fun _ h9 => h9) rfl dX9_dish_59 ?_
        refine lv_bipush (v := 19) hx hb dX9_dish_62 (by decide) ?_
        refine lv_iload_n hx hb dX9_dish_64 rfl (lv_at hl 1 rfl) ?_
        refine lv_iadd hx hb dX9_dish_65 ?_
        obtain ⟨v3, hv, hf⟩ := op_e hf
        refine x_iald (q0 := 1) cx hw rfl hv dX9_dish_66 ?_
        have hf := sm_e hf
        subst hf
        exact x_retI cx hw rfl () rfl [0, 1] rfl rfl (Nat.le_of_ble_eq_true rfl) (Nat.le_of_ble_eq_true rfl) dX9_dish_67
      · have hf := if_f hf n1
        by_cases n2 : p2 = 2
        · have hf := if_t hf n2
          refine lv_tableIn (tgt := 68) hx hb dX9_dish_12 (by rw [n2]; decide) (by rw [n2]; decide) (by rw [n2]; rfl) (by decide) ?_
          refine lv_aload_n hx hb dX9_dish_68 rfl (lv_at hl 0 rfl) ?_
          refine va_get (ci := 0) (C := RX9) (T := TX9) (N := 19) hx hb hts in_X9 hown hK hw.1 0 rfl rfl 0 (by decide) (hts _ q1248) (fun _ h9 => h9) rfl dX9_dish_69 ?_
          refine lv_bipush (v := 25) hx hb dX9_dish_72 (by decide) ?_
          refine lv_iload_n hx hb dX9_dish_74 rfl (lv_at hl 1 rfl) ?_
          refine lv_iadd hx hb dX9_dish_75 ?_
          obtain ⟨v4, hv, hf⟩ := op_e hf
          refine x_iald (q0 := 1) cx hw rfl hv dX9_dish_76 ?_
          have hf := sm_e hf
          subst hf
          exact x_retI cx hw rfl () rfl [0, 1] rfl rfl (Nat.le_of_ble_eq_true rfl) (Nat.le_of_ble_eq_true rfl) dX9_dish_77
        · have hf := if_f hf n2
          by_cases n3 : p2 = 3
          · have hf := if_t hf n3
            refine lv_tableIn (tgt := 78) hx hb dX9_dish_12 (by rw [n3]; decide) (by rw [n3]; decide) (by rw [n3]; rfl) (by decide) ?_
            refine lv_aload_n hx hb dX9_dish_78 rfl (lv_at hl 0 rfl) ?_
            refine va_get (ci := 0) (C := RX9) (T := TX9) (N := 19) hx hb hts in_X9 hown hK hw.1 0 rfl rfl 0 (by decide) (hts _ q1248) (fun _ h9 => h9) rfl dX9_dish_79 ?_
            refine lv_bipush (v := 31) hx hb dX9_dish_82 (by decide) ?_
            refine lv_iload_n hx hb dX9_dish_84 rfl (lv_at hl 1 rfl) ?_
            refine lv_iadd hx hb dX9_dish_85 ?_
            obtain ⟨v5, hv, hf⟩ := op_e hf
            refine x_iald (q0 := 1) cx hw rfl hv dX9_dish_86 ?_
            have hf := sm_e hf
            subst hf
            exact x_retI cx hw rfl () rfl [0, 1] rfl rfl (Nat.le_of_ble_eq_true rfl) (Nat.le_of_ble_eq_true rfl) dX9_dish_87
          · have hf := if_f hf n3
            by_cases n4 : p2 = 4
            · have hf := if_t hf n4
              refine lv_tableIn (tgt := 88) hx hb dX9_dish_12 (by rw [n4]; decide) (by rw [n4]; decide) (by rw [n4]; rfl) (by decide) ?_
              refine lv_aload_n hx hb dX9_dish_88 rfl (lv_at hl 0 rfl) ?_
              refine va_get (ci := 0) (C := RX9) (T := TX9) (N := 19) hx hb hts in_X9 hown hK hw.1 0 rfl rfl 0 (by decide) (hts _ q1248) (fun _ h9 => h9) rfl dX9_dish_89 ?_
              refine lv_bipush (v := 7) hx hb dX9_dish_92 (by decide) ?_
              refine lv_iload_n hx hb dX9_dish_94 rfl (lv_at hl 1 rfl) ?_
              refine lv_iadd hx hb dX9_dish_95 ?_
              obtain ⟨v6, hv, hf⟩ := op_e hf
              refine x_iald (q0 := 1) cx hw rfl hv dX9_dish_96 ?_
              refine lv_aload_n hx hb dX9_dish_97 rfl (lv_at hl 0 rfl) ?_
              refine va_get (ci := 0) (C := RX9) (T := TX9) (N := 19) hx hb hts in_X9 hown hK hw.1 0 rfl rfl 0 (by decide) (hts _ q1248) (fun _ h9 => h9) rfl dX9_dish_98 ?_
              refine lv_bipush (v := 31) hx hb dX9_dish_101 (by decide) ?_
              refine lv_iload_n hx hb dX9_dish_103 rfl (lv_at hl 1 rfl) ?_
              refine lv_iadd hx hb dX9_dish_104 ?_
              obtain ⟨v7, hv, hf⟩ := op_e hf
              refine x_iald (q0 := 1) cx hw rfl hv dX9_dish_105 ?_
              obtain ⟨q8, hcq8, hf⟩ := op_e hf
              refine x_SI (wr := [oM ad fu ft ff fs fa fb fn fr, ((ad 1), .inl (d 0, 1247, .inl Ww))]) (rest := []) [.int v6, .int v7] hX cx hw hl.1 (mX9_isGood l X hX D d v6 v7 q8 hcq8) (lw_S q1488 q1489 q94 q1490) hd_X9_isGood ⟨Nat.le_of_ble_eq_true rfl, Nat.le_of_ble_eq_true rfl⟩ rfl rfl (Nat.le_of_ble_eq_true rfl) dX9_dish_106 [] [0, 1] rfl rfl rfl rfl (by decide) ⟨(Nat.le_of_ble_eq_true rfl), (Nat.le_of_ble_eq_true rfl)⟩ (fun r u H locs hp hw => ?_)
              have hw : Wd D A s [oM ad fu ft ff fs fa fb fn fr, ((ad 1), .inl (d 0, 1247, .inl Ww))] H locs := hw
              subst r
              refine lv_if_eq (tgt := 116) hx hb dX9_dish_109 (by decide) (fun c109 => ?_) (fun c109 => ?_)
              · have hf := if_t hf c109
                refine lv_iconst (v := 0) hx hb dX9_dish_116 (by decide) ?_
                have hf := sm_e hf
                subst hf
                exact x_retI cx hw rfl () rfl [0, 1] rfl rfl (Nat.le_of_ble_eq_true rfl) (Nat.le_of_ble_eq_true rfl) dX9_dish_117
              · have hf := if_f hf c109
                refine lv_iconst (v := 1) hx hb dX9_dish_112 (by decide) ?_
                refine lv_goto (tgt := 117) hx hb dX9_dish_113 (by decide) ?_
                have hf := sm_e hf
                subst hf
                exact x_retI cx hw rfl () rfl [0, 1] rfl rfl (Nat.le_of_ble_eq_true rfl) (Nat.le_of_ble_eq_true rfl) dX9_dish_117
            · have hf := if_f hf n4
              have t0 := lv_neT (a := 0) n0 (by decide)
              have t1 := lv_neT (a := 1) n1 (by decide)
              have t2 := lv_neT (a := 2) n2 (by decide)
              have t3 := lv_neT (a := 3) n3 (by decide)
              have t4 := lv_neT (a := 4) n4 (by decide)
              refine lv_tableOut (tgt := 118) hx hb dX9_dish_12 (by omega) (by decide) ?_
              refine lv_ldc (v := (-1000001)) hx hb hown (hts _ q1319) dX9_dish_118 ?_
              have hf := sm_e hf
              subst hf
              exact x_retI cx hw rfl () rfl [0, 1] rfl rfl (Nat.le_of_ble_eq_true rfl) (Nat.le_of_ble_eq_true rfl) dX9_dish_120
  · have hf := if_t hf c5
    refine lv_ldc (v := (-1000001)) hx hb hown (hts _ q1319) dX9_dish_8 ?_
    have hf := sm_e hf
    subst hf
    exact x_retI cx hw rfl () rfl [0, 1] rfl rfl (Nat.le_of_ble_eq_true rfl) (Nat.le_of_ble_eq_true rfl) dX9_dish_10
theorem hd_X9_car : yX9_car.cls = "DishLiftModel" ∧ yX9_car.cls ≠ "java/lang/invoke/MethodHandle" ∧ yX9_car.cls ≠ "java/lang/invoke/VarHandle" ∧ (parseMethodDescriptor yX9_car.desc).map (fun d => d.parameters.length) = some 1 := by decide +kernel
set_option maxHeartbeats 4000000 in
theorem mX9_car (l : Launch) (X : XT) (hX : XOK X) (D : va_G) (d : Nat → ClassId) (ad : Nat → Nat) (fu : Int32) (ft : Int32) (ff : Int32) (fs : Int32) (fa : Int32) (fb : Int32) (fn : Int32) (fr : Int32) (Ww : Nat → Int32) (p1 : Int32) (res : Int32) (hf : fX9_car Ww p1 = some res) : MetI l yX9_car (ws_ yX9_car cX9_car 2 (some .int)) { frames := 2, cells := 0, slots := 0, locals := 45 } [.ref (ad 0), .int p1] X D d [oM ad fu ft ff fs fa fb fn fr, ((ad 1), .inl (d 0, 1247, .inl Ww))] (fun r (_ : Unit) => r = res) (fun _ => [oM ad fu ft ff fs fa fb fn fr, ((ad 1), .inl (d 0, 1247, .inl Ww))]) := by
  refine MetI.of (by decide +kernel) (Nat.le_of_ble_eq_true rfl) ?_
  intro p e s m below meth c A cx hw ls hl
  have cx : Cx p s m _ meth c X D d A "DishLiftModel" cX9_car 2 (some .int) "car" := cx
  have cx' := cx
  obtain ⟨hx, hb, hr, hlk, hml, hown, hts, hK, hA, hXs, hnm⟩ := cx'
  have hl : lv_has ls 2 [(0, .ref (ad 0)), (1, .int p1)] := hl
  unfold fX9_car at hf
  refine lv_aload_n hx hb dX9_car_0 rfl (lv_at hl 0 rfl) ?_
  obtain ⟨q1, hcq1, hf⟩ := op_e hf
  refine x_VI (wr := []) (rest := []) [] hX cx hw hl.1 (mX9_isHouse l X hX D d ad fu ft ff fs fa fb fn fr Ww q1 hcq1) (lw_V q1402 q1404 qs46 q94 q1405) hd_X9_isHouse ⟨Nat.le_of_ble_eq_true rfl, Nat.le_of_ble_eq_true rfl⟩ (va_recv hK hw.1 (ci := 0) (q0 := 0) rfl rfl) rfl rfl (Nat.le_of_ble_eq_true rfl) dX9_car_1 [0, 1] [] rfl rfl rfl rfl (by decide) ⟨(Nat.le_of_ble_eq_true rfl), (Nat.le_of_ble_eq_true rfl)⟩ (fun r u H locs hp hw => ?_)
  have hw : Wd D A s [oM ad fu ft ff fs fa fb fn fr, ((ad 1), .inl (d 0, 1247, .inl Ww))] H locs := hw
  subst r
  refine lv_if_ne (tgt := 10) hx hb dX9_car_4 (by decide) (fun c4 => ?_) (fun c4 => ?_)
  · have hf := if_f hf c4
    refine lv_iload_n hx hb dX9_car_10 rfl (lv_at hl 1 rfl) ?_
    by_cases n0 : p1 = 0
    · have hf := if_t hf n0
      refine lv_tableIn (tgt := 60) hx hb dX9_car_11 (by rw [n0]; decide) (by rw [n0]; decide) (by rw [n0]; rfl) (by decide) ?_
      refine lv_aload_n hx hb dX9_car_60 rfl (lv_at hl 0 rfl) ?_
      refine va_get (ci := 0) (C := RX9) (T := TX9) (N := 19) hx hb hts in_X9 hown hK hw.1 0 rfl rfl 0 (by decide) (hts _ q1248) (fun _ h9 => h9) rfl dX9_car_61 ?_
      refine lv_iconst (v := 1) hx hb dX9_car_64 (by decide) ?_
      obtain ⟨v2, hv, hf⟩ := op_e hf
      refine x_iald (q0 := 1) cx hw rfl hv dX9_car_65 ?_
      have hf := sm_e hf
      subst hf
      exact x_retI cx hw rfl () rfl [0, 1] rfl rfl (Nat.le_of_ble_eq_true rfl) (Nat.le_of_ble_eq_true rfl) dX9_car_66
    · have hf := if_f hf n0
      by_cases n1 : p1 = 1
      · have hf := if_t hf n1
        refine lv_tableIn (tgt := 67) hx hb dX9_car_11 (by rw [n1]; decide) (by rw [n1]; decide) (by rw [n1]; rfl) (by decide) ?_
        refine lv_aload_n hx hb dX9_car_67 rfl (lv_at hl 0 rfl) ?_
        refine va_get (ci := 0) (C := RX9) (T := TX9) (N := 19) hx hb hts in_X9 hown hK hw.1 0 rfl rfl 0 (by decide) (hts _ q1248) (fun _ h9 => h9) rfl dX9_car_68 ?_
        refine lv_iconst (v := 4) hx hb dX9_car_71 (by decide) ?_
        obtain ⟨v3, hv, hf⟩ := op_e hf
        refine x_iald (q0 := 1) cx hw rfl hv dX9_car_72 ?_
        have hf := sm_e hf
        subst hf
        exact x_retI cx hw rfl () rfl [0, 1] rfl rfl (Nat.le_of_ble_eq_true rfl) (Nat.le_of_ble_eq_true rfl) dX9_car_73
      · have hf := if_f hf n1
        by_cases n2 : p1 = 2
        · have hf := if_t hf n2
          refine lv_tableIn (tgt := 74) hx hb dX9_car_11 (by rw [n2]; decide) (by rw [n2]; decide) (by rw [n2]; rfl) (by decide) ?_
          refine lv_aload_n hx hb dX9_car_74 rfl (lv_at hl 0 rfl) ?_
          refine va_get (ci := 0) (C := RX9) (T := TX9) (N := 19) hx hb hts in_X9 hown hK hw.1 0 rfl rfl 0 (by decide) (hts _ q1248) (fun _ h9 => h9) rfl dX9_car_75 ?_
          refine lv_iconst (v := 5) hx hb dX9_car_78 (by decide) ?_
          obtain ⟨v4, hv, hf⟩ := op_e hf
          refine x_iald (q0 := 1) cx hw rfl hv dX9_car_79 ?_
          have hf := sm_e hf
          subst hf
          exact x_retI cx hw rfl () rfl [0, 1] rfl rfl (Nat.le_of_ble_eq_true rfl) (Nat.le_of_ble_eq_true rfl) dX9_car_80
        · have hf := if_f hf n2
          by_cases n3 : p1 = 3
          · have hf := if_t hf n3
            refine lv_tableIn (tgt := 81) hx hb dX9_car_11 (by rw [n3]; decide) (by rw [n3]; decide) (by rw [n3]; rfl) (by decide) ?_
            refine lv_aload_n hx hb dX9_car_81 rfl (lv_at hl 0 rfl) ?_
            refine va_get (ci := 0) (C := RX9) (T := TX9) (N := 19) hx hb hts in_X9 hown hK hw.1 0 rfl rfl 0 (by decide) (hts _ q1248) (fun _ h9 => h9) rfl dX9_car_82 ?_
            refine lv_iconst (v := 2) hx hb dX9_car_85 (by decide) ?_
            obtain ⟨v5, hv, hf⟩ := op_e hf
            refine x_iald (q0 := 1) cx hw rfl hv dX9_car_86 ?_
            have hf := sm_e hf
            subst hf
            exact x_retI cx hw rfl () rfl [0, 1] rfl rfl (Nat.le_of_ble_eq_true rfl) (Nat.le_of_ble_eq_true rfl) dX9_car_87
          · have hf := if_f hf n3
            by_cases n4 : p1 = 4
            · have hf := if_t hf n4
              refine lv_tableIn (tgt := 88) hx hb dX9_car_11 (by rw [n4]; decide) (by rw [n4]; decide) (by rw [n4]; rfl) (by decide) ?_
              refine lv_aload_n hx hb dX9_car_88 rfl (lv_at hl 0 rfl) ?_
              refine va_get (ci := 0) (C := RX9) (T := TX9) (N := 19) hx hb hts in_X9 hown hK hw.1 0 rfl rfl 0 (by decide) (hts _ q1248) (fun _ h9 => h9) rfl dX9_car_89 ?_
              refine lv_iconst (v := 3) hx hb dX9_car_92 (by decide) ?_
              obtain ⟨v6, hv, hf⟩ := op_e hf
              refine x_iald (q0 := 1) cx hw rfl hv dX9_car_93 ?_
              have hf := sm_e hf
              subst hf
              exact x_retI cx hw rfl () rfl [0, 1] rfl rfl (Nat.le_of_ble_eq_true rfl) (Nat.le_of_ble_eq_true rfl) dX9_car_94
            · have hf := if_f hf n4
              by_cases n5 : p1 = 5
              · have hf := if_t hf n5
                refine lv_tableIn (tgt := 95) hx hb dX9_car_11 (by rw [n5]; decide) (by rw [n5]; decide) (by rw [n5]; rfl) (by decide) ?_
                refine lv_aload_n hx hb dX9_car_95 rfl (lv_at hl 0 rfl) ?_
                refine lv_iconst (v := 0) hx hb dX9_car_96 (by decide) ?_
                obtain ⟨q7, hcq7, hf⟩ := op_e hf
                refine x_VI (wr := []) (rest := []) [.int 0] hX cx hw hl.1 (mX9_insideOf l X hX D d ad fu ft ff fs fa fb fn fr Ww 0 q7 hcq7) (lw_V q1419 q1421 qs50 q94 q1422) hd_X9_insideOf ⟨Nat.le_of_ble_eq_true rfl, Nat.le_of_ble_eq_true rfl⟩ (va_recv hK hw.1 (ci := 0) (q0 := 0) rfl rfl) rfl rfl (Nat.le_of_ble_eq_true rfl) dX9_car_97 [0, 1] [] rfl rfl rfl rfl (by decide) ⟨(Nat.le_of_ble_eq_true rfl), (Nat.le_of_ble_eq_true rfl)⟩ (fun r u H locs hp hw => ?_)
                have hw : Wd D A s [oM ad fu ft ff fs fa fb fn fr, ((ad 1), .inl (d 0, 1247, .inl Ww))] H locs := hw
                subst r
                have hf := sm_e hf
                subst hf
                exact x_retI cx hw rfl () rfl [0, 1] rfl rfl (Nat.le_of_ble_eq_true rfl) (Nat.le_of_ble_eq_true rfl) dX9_car_100
              · have hf := if_f hf n5
                by_cases n6 : p1 = 6
                · have hf := if_t hf n6
                  refine lv_tableIn (tgt := 101) hx hb dX9_car_11 (by rw [n6]; decide) (by rw [n6]; decide) (by rw [n6]; rfl) (by decide) ?_
                  refine lv_aload_n hx hb dX9_car_101 rfl (lv_at hl 0 rfl) ?_
                  refine lv_iconst (v := 0) hx hb dX9_car_102 (by decide) ?_
                  obtain ⟨q8, hcq8, hf⟩ := op_e hf
                  refine x_VI (wr := []) (rest := []) [.int 0] hX cx hw hl.1 (mX9_servedOf l X hX D d ad fu ft ff fs fa fb fn fr Ww 0 q8 hcq8) (lw_V q1449 q1451 qs56 q94 q1452) hd_X9_servedOf ⟨Nat.le_of_ble_eq_true rfl, Nat.le_of_ble_eq_true rfl⟩ (va_recv hK hw.1 (ci := 0) (q0 := 0) rfl rfl) rfl rfl (Nat.le_of_ble_eq_true rfl) dX9_car_103 [0, 1] [] rfl rfl rfl rfl (by decide) ⟨(Nat.le_of_ble_eq_true rfl), (Nat.le_of_ble_eq_true rfl)⟩ (fun r u H locs hp hw => ?_)
                  have hw : Wd D A s [oM ad fu ft ff fs fa fb fn fr, ((ad 1), .inl (d 0, 1247, .inl Ww))] H locs := hw
                  subst r
                  have hf := sm_e hf
                  subst hf
                  exact x_retI cx hw rfl () rfl [0, 1] rfl rfl (Nat.le_of_ble_eq_true rfl) (Nat.le_of_ble_eq_true rfl) dX9_car_106
                · have hf := if_f hf n6
                  by_cases n7 : p1 = 7
                  · have hf := if_t hf n7
                    refine lv_tableIn (tgt := 107) hx hb dX9_car_11 (by rw [n7]; decide) (by rw [n7]; decide) (by rw [n7]; rfl) (by decide) ?_
                    refine lv_aload_n hx hb dX9_car_107 rfl (lv_at hl 0 rfl) ?_
                    refine lv_iconst (v := 0) hx hb dX9_car_108 (by decide) ?_
                    obtain ⟨q9, hcq9, hf⟩ := op_e hf
                    refine x_VI (wr := []) (rest := []) [.int 0] hX cx hw hl.1 (mX9_calledOf l X hX D d ad fu ft ff fs fa fb fn fr Ww 0 q9 hcq9) (lw_V q1437 q1439 qs53 q94 q1440) hd_X9_calledOf ⟨Nat.le_of_ble_eq_true rfl, Nat.le_of_ble_eq_true rfl⟩ (va_recv hK hw.1 (ci := 0) (q0 := 0) rfl rfl) rfl rfl (Nat.le_of_ble_eq_true rfl) dX9_car_109 [0, 1] [] rfl rfl rfl rfl (by decide) ⟨(Nat.le_of_ble_eq_true rfl), (Nat.le_of_ble_eq_true rfl)⟩ (fun r u H locs hp hw => ?_)
                    have hw : Wd D A s [oM ad fu ft ff fs fa fb fn fr, ((ad 1), .inl (d 0, 1247, .inl Ww))] H locs := hw
                    subst r
                    have hf := sm_e hf
                    subst hf
                    exact x_retI cx hw rfl () rfl [0, 1] rfl rfl (Nat.le_of_ble_eq_true rfl) (Nat.le_of_ble_eq_true rfl) dX9_car_112
                  · have hf := if_f hf n7
                    by_cases n8 : p1 = 8
                    · have hf := if_t hf n8
                      refine lv_tableIn (tgt := 113) hx hb dX9_car_11 (by rw [n8]; decide) (by rw [n8]; decide) (by rw [n8]; rfl) (by decide) ?_
                      refine lv_aload_n hx hb dX9_car_113 rfl (lv_at hl 0 rfl) ?_
                      refine lv_iconst (v := 0) hx hb dX9_car_114 (by decide) ?_
                      refine lv_aload_n hx hb dX9_car_115 rfl (lv_at hl 0 rfl) ?_
                      refine lv_iconst (v := 0) hx hb dX9_car_116 (by decide) ?_
                      obtain ⟨q10, hcq10, hf⟩ := op_e hf
                      refine x_VI (wr := []) (rest := [.int 0, .ref (ad 0)]) [.int 0] hX cx hw hl.1 (mX9_insideOf l X hX D d ad fu ft ff fs fa fb fn fr Ww 0 q10 hcq10) (lw_V q1419 q1421 qs50 q94 q1422) hd_X9_insideOf ⟨Nat.le_of_ble_eq_true rfl, Nat.le_of_ble_eq_true rfl⟩ (va_recv hK hw.1 (ci := 0) (q0 := 0) rfl rfl) rfl rfl (Nat.le_of_ble_eq_true rfl) dX9_car_117 [0, 1] [] rfl rfl rfl rfl (by decide) ⟨(Nat.le_of_ble_eq_true rfl), (Nat.le_of_ble_eq_true rfl)⟩ (fun r u H locs hp hw => ?_)
                      have hw : Wd D A s [oM ad fu ft ff fs fa fb fn fr, ((ad 1), .inl (d 0, 1247, .inl Ww))] H locs := hw
                      subst r
                      obtain ⟨q11, hcq11, hf⟩ := op_e hf
                      refine x_VI (wr := []) (rest := []) [.int 0, .int q10] hX cx hw hl.1 (mX9_weightOf l X hX D d ad fu ft ff fs fa fb fn fr Ww 0 q10 q11 hcq11) (lw_V q1426 q1428 qs51 q94 q1429) hd_X9_weightOf ⟨Nat.le_of_ble_eq_true rfl, Nat.le_of_ble_eq_true rfl⟩ (va_recv hK hw.1 (ci := 0) (q0 := 0) rfl rfl) rfl rfl (Nat.le_of_ble_eq_true rfl) dX9_car_120 [0, 1] [] rfl rfl rfl rfl (by decide) ⟨(Nat.le_of_ble_eq_true rfl), (Nat.le_of_ble_eq_true rfl)⟩ (fun r u H locs hp hw => ?_)
                      have hw : Wd D A s [oM ad fu ft ff fs fa fb fn fr, ((ad 1), .inl (d 0, 1247, .inl Ww))] H locs := hw
                      subst r
                      have hf := sm_e hf
                      subst hf
                      exact x_retI cx hw rfl () rfl [0, 1] rfl rfl (Nat.le_of_ble_eq_true rfl) (Nat.le_of_ble_eq_true rfl) dX9_car_123
                    · have hf := if_f hf n8
                      have t0 := lv_neT (a := 0) n0 (by decide)
                      have t1 := lv_neT (a := 1) n1 (by decide)
                      have t2 := lv_neT (a := 2) n2 (by decide)
                      have t3 := lv_neT (a := 3) n3 (by decide)
                      have t4 := lv_neT (a := 4) n4 (by decide)
                      have t5 := lv_neT (a := 5) n5 (by decide)
                      have t6 := lv_neT (a := 6) n6 (by decide)
                      have t7 := lv_neT (a := 7) n7 (by decide)
                      have t8 := lv_neT (a := 8) n8 (by decide)
                      refine lv_tableOut (tgt := 124) hx hb dX9_car_11 (by omega) (by decide) ?_
                      refine lv_ldc (v := (-1000001)) hx hb hown (hts _ q1319) dX9_car_124 ?_
                      have hf := sm_e hf
                      subst hf
                      exact x_retI cx hw rfl () rfl [0, 1] rfl rfl (Nat.le_of_ble_eq_true rfl) (Nat.le_of_ble_eq_true rfl) dX9_car_126
  · have hf := if_t hf c4
    refine lv_ldc (v := (-1000002)) hx hb hown (hts _ q1397) dX9_car_7 ?_
    have hf := sm_e hf
    subst hf
    exact x_retI cx hw rfl () rfl [0, 1] rfl rfl (Nat.le_of_ble_eq_true rfl) (Nat.le_of_ble_eq_true rfl) dX9_car_9
theorem hd_X9_tries : yX9_tries.cls = "DishLiftModel" ∧ yX9_tries.cls ≠ "java/lang/invoke/MethodHandle" ∧ yX9_tries.cls ≠ "java/lang/invoke/VarHandle" ∧ (parseMethodDescriptor yX9_tries.desc).map (fun d => d.parameters.length) = some 0 := by decide +kernel
set_option maxHeartbeats 4000000 in
theorem mX9_tries (l : Launch) (X : XT) (hX : XOK X) (D : va_G) (d : Nat → ClassId) (ad : Nat → Nat) (fu : Int32) (ft : Int32) (ff : Int32) (fs : Int32) (fa : Int32) (fb : Int32) (fn : Int32) (fr : Int32) (Ww : Nat → Int32) (res : (Nat → Int32)) (hf : fX9_tries Ww = some res) : MetV l yX9_tries (ws_ yX9_tries cX9_tries 1 none) { frames := 1, cells := 0, slots := 0, locals := 23 } [.ref (ad 0)] X D d [oM ad fu ft ff fs fa fb fn fr, ((ad 1), .inl (d 0, 1247, .inl Ww))] (fun (_ : Unit) => True) (fun _ => [oM ad fu ft ff fs fa fb fn fr, ((ad 1), .inl (d 0, 1247, .inl res))]) := by
  refine MetV.of (by decide +kernel) (Nat.le_of_ble_eq_true rfl) ?_
  intro p e s m below meth c A cx hw ls hl
  have cx : Cx p s m _ meth c X D d A "DishLiftModel" cX9_tries 1 none "tries" := cx
  have cx' := cx
  obtain ⟨hx, hb, hr, hlk, hml, hown, hts, hK, hA, hXs, hnm⟩ := cx'
  have hl : lv_has ls 1 [(0, .ref (ad 0))] := hl
  unfold fX9_tries at hf
  refine lv_aload_n hx hb dX9_tries_0 rfl (lv_at hl 0 rfl) ?_
  refine lv_iconst (v := 0) hx hb dX9_tries_1 (by decide) ?_
  refine lv_bipush (v := 43) hx hb dX9_tries_2 (by decide) ?_
  obtain ⟨q1, hcq1, hf⟩ := op_e hf
  refine x_VV (wr := []) (rest := []) [.int 0, .int 43] hX cx hw hl.1 (mX9_copyOf l X hX D d ad fu ft ff fs fa fb fn fr Ww 0 43 q1 hcq1) (lw_V q1385 q1387 qs45 q94 q1388) hd_X9_copyOf ⟨Nat.le_of_ble_eq_true rfl, Nat.le_of_ble_eq_true rfl⟩ (va_recv hK hw.1 (ci := 0) (q0 := 0) rfl rfl) rfl rfl (Nat.le_of_ble_eq_true rfl) dX9_tries_4 [0, 1] [] rfl rfl rfl rfl (by decide) ⟨(Nat.le_of_ble_eq_true rfl), (Nat.le_of_ble_eq_true rfl)⟩ (fun u H locs hp hw => ?_)
  have hw : Wd D A s [oM ad fu ft ff fs fa fb fn fr, ((ad 1), .inl (d 0, 1247, .inl q1))] H locs := hw
  have hf := sm_e hf
  subst hf
  exact x_retV cx hw () trivial [0, 1] rfl rfl (Nat.le_of_ble_eq_true rfl) (Nat.le_of_ble_eq_true rfl) dX9_tries_7
theorem hd_X9_goesOn : yX9_goesOn.cls = "DishLiftModel" ∧ yX9_goesOn.cls ≠ "java/lang/invoke/MethodHandle" ∧ yX9_goesOn.cls ≠ "java/lang/invoke/VarHandle" ∧ (parseMethodDescriptor yX9_goesOn.desc).map (fun d => d.parameters.length) = some 1 := by decide +kernel
set_option maxHeartbeats 4000000 in
theorem mX9_goesOn (l : Launch) (X : XT) (hX : XOK X) (D : va_G) (d : Nat → ClassId) (ad : Nat → Nat) (fu : Int32) (ft : Int32) (ff : Int32) (fs : Int32) (fa : Int32) (fb : Int32) (fn : Int32) (fr : Int32) (Ww : Nat → Int32) (p1 : Int32) (res : (Nat → Int32)) (hf : fX9_goesOn Ww p1 = some res) : MetV l yX9_goesOn (ws_ yX9_goesOn cX9_goesOn 3 none) { frames := 4, cells := 0, slots := 0, locals := 91 } [.ref (ad 0), .int p1] X D d [oM ad fu ft ff fs fa fb fn fr, ((ad 1), .inl (d 0, 1247, .inl Ww))] (fun (_ : Unit) => True) (fun _ => [oM ad fu ft ff fs fa fb fn fr, ((ad 1), .inl (d 0, 1247, .inl res))]) := by
  refine MetV.of (by decide +kernel) (Nat.le_of_ble_eq_true rfl) ?_
  intro p e s m below meth c A cx hw ls hl
  have cx : Cx p s m _ meth c X D d A "DishLiftModel" cX9_goesOn 3 none "goesOn" := cx
  have cx' := cx
  obtain ⟨hx, hb, hr, hlk, hml, hown, hts, hK, hA, hXs, hnm⟩ := cx'
  have hl : lv_has ls 3 [(0, .ref (ad 0)), (1, .int p1)] := hl
  unfold fX9_goesOn at hf
  refine lv_iconst (v := 0) hx hb dX9_goesOn_0 (by decide) ?_
  refine lv_istore_n (lv' := [(2, .int 0), (0, .ref (ad 0)), (1, .int p1)]) hx hb dX9_goesOn_1 rfl hl (by decide) rfl (fun ls hl => ?_)
  obtain ⟨r1, hlp2, hf⟩ := op_e hf
  refine x_join (A := A) (D := D) (J := 19) (nL := 3) (cells' := 0) (slots' := 0) (st := []) [oM ad fu ft ff fs fa fb fn fr, ((ad 1), .inl (d 0, 1247, .inl r1))] [] (fun H locs ls hw hl => ?_) (fun hK2 => ?_)
  · have hf := sm_e hf
    subst hf
    exact x_retV cx hw () trivial [0, 1] rfl rfl (Nat.le_of_ble_eq_true rfl) (Nat.le_of_ble_eq_true rfl) dX9_goesOn_19
  · refine x_lp hlp2 (fun x2 => [oM ad fu ft ff fs fa fb fn fr, ((ad 1), .inl (d 0, 1247, .inl x2.2))]) (fun x2 => [(0, .ref (ad 0)), (1, .int p1), (2, .int x2.1)]) hw (lv_sub hl [1, 2, 0] rfl) (fun x2 y2 hf hin2 hout2 H locs ls hw hl => ?_)
    have hw : Wd D A s [oM ad fu ft ff fs fa fb fn fr, ((ad 1), .inl (d 0, 1247, .inl x2.2))] H locs := hw
    have hl : lv_has ls 3 [(0, .ref (ad 0)), (1, .int p1), (2, .int x2.1)] := hl
    refine lv_iload_n hx hb dX9_goesOn_2 rfl (lv_at hl 2 rfl) ?_
    refine lv_iload_n hx hb dX9_goesOn_3 rfl (lv_at hl 1 rfl) ?_
    refine lv_icmp_ge (tgt := 19) hx hb dX9_goesOn_4 (by decide) (fun c4 => ?_) (fun c4 => ?_)
    · have hf := if_t hf c4
      have hf := sm_e hf
      subst hf
      have hz := hout2 _ rfl
      subst hz
      exact hK2 _ _ _ hw (lv_sub hl [] rfl)
    · have hf := if_f hf c4
      refine lv_aload_n hx hb dX9_goesOn_7 rfl (lv_at hl 0 rfl) ?_
      refine lv_bipush (v := 43) hx hb dX9_goesOn_8 (by decide) ?_
      obtain ⟨q2, hcq2, hf⟩ := op_e hf
      refine x_VV (wr := []) (rest := []) [.int 43] hX cx hw hl.1 (mX9_passes l X hX D d ad fu ft ff fs fa fb fn fr x2.2 43 q2 hcq2) (lw_V q1411 q1413 qs48 q94 q1414) hd_X9_passes ⟨Nat.le_of_ble_eq_true rfl, Nat.le_of_ble_eq_true rfl⟩ (va_recv hK hw.1 (ci := 0) (q0 := 0) rfl rfl) rfl rfl (Nat.le_of_ble_eq_true rfl) dX9_goesOn_10 [0, 1] [] rfl rfl rfl rfl (by decide) ⟨(Nat.le_of_ble_eq_true rfl), (Nat.le_of_ble_eq_true rfl)⟩ (fun u H locs hp hw => ?_)
      have hw : Wd D A s [oM ad fu ft ff fs fa fb fn fr, ((ad 1), .inl (d 0, 1247, .inl q2))] H locs := hw
      refine lv_iinc (v := (x2.1 + 1)) (lv' := [(2, .int (x2.1 + 1)), (0, .ref (ad 0)), (1, .int p1)]) hx hb dX9_goesOn_13 hl (k := 2) rfl (by first | rfl | decide) (by decide) rfl (fun ls hl => ?_)
      refine lv_goto (tgt := 2) hx hb dX9_goesOn_16 (by decide) ?_
      have hf := sm_e hf
      subst hf
      exact hin2 _ rfl _ _ _ hw (lv_sub hl [1, 2, 0] rfl)
theorem hd_X9_ahead : yX9_ahead.cls = "DishLiftModel" ∧ yX9_ahead.cls ≠ "java/lang/invoke/MethodHandle" ∧ yX9_ahead.cls ≠ "java/lang/invoke/VarHandle" ∧ (parseMethodDescriptor yX9_ahead.desc).map (fun d => d.parameters.length) = some 3 := by decide +kernel
set_option maxHeartbeats 4000000 in
theorem mX9_ahead (l : Launch) (X : XT) (hX : XOK X) (D : va_G) (d : Nat → ClassId) (ad : Nat → Nat) (fu : Int32) (ft : Int32) (ff : Int32) (fs : Int32) (fa : Int32) (fb : Int32) (fn : Int32) (fr : Int32) (Ww : Nat → Int32) (p1 : Int32) (p2 : Int32) (p3 : Int32) (res : Int32 × (Nat → Int32)) (hf : fX9_ahead Ww p1 p2 p3 = some res) : MetI l yX9_ahead (ws_ yX9_ahead cX9_ahead 4 (some .int)) { frames := 5, cells := 0, slots := 0, locals := 113 } [.ref (ad 0), .int p1, .int p2, .int p3] X D d [oM ad fu ft ff fs fa fb fn fr, ((ad 1), .inl (d 0, 1247, .inl Ww))] (fun r (_ : Unit) => r = res.1) (fun _ => [oM ad fu ft ff fs fa fb fn fr, ((ad 1), .inl (d 0, 1247, .inl res.2))]) := by
  refine MetI.of (by decide +kernel) (Nat.le_of_ble_eq_true rfl) ?_
  intro p e s m below meth c A cx hw ls hl
  have cx : Cx p s m _ meth c X D d A "DishLiftModel" cX9_ahead 4 (some .int) "ahead" := cx
  have cx' := cx
  obtain ⟨hx, hb, hr, hlk, hml, hown, hts, hK, hA, hXs, hnm⟩ := cx'
  have hl : lv_has ls 4 [(0, .ref (ad 0)), (1, .int p1), (2, .int p2), (3, .int p3)] := hl
  unfold fX9_ahead at hf
  refine lv_aload_n hx hb dX9_ahead_0 rfl (lv_at hl 0 rfl) ?_
  refine lv_iload_n hx hb dX9_ahead_1 rfl (lv_at hl 1 rfl) ?_
  obtain ⟨q1, hcq1, hf⟩ := op_e hf
  refine x_VI (wr := []) (rest := []) [.int p1] hX cx hw hl.1 (mX9_isDish l X hX D d ad fu ft ff fs fa fb fn fr Ww p1 q1 hcq1) (lw_V q1475 q1477 qs58 q94 q1478) hd_X9_isDish ⟨Nat.le_of_ble_eq_true rfl, Nat.le_of_ble_eq_true rfl⟩ (va_recv hK hw.1 (ci := 0) (q0 := 0) rfl rfl) rfl rfl (Nat.le_of_ble_eq_true rfl) dX9_ahead_2 [0, 1] [] rfl rfl rfl rfl (by decide) ⟨(Nat.le_of_ble_eq_true rfl), (Nat.le_of_ble_eq_true rfl)⟩ (fun r u H locs hp hw => ?_)
  have hw : Wd D A s [oM ad fu ft ff fs fa fb fn fr, ((ad 1), .inl (d 0, 1247, .inl Ww))] H locs := hw
  subst r
  refine lv_if_eq (tgt := 32) hx hb dX9_ahead_5 (by decide) (fun c5 => ?_) (fun c5 => ?_)
  · have hf := if_t hf c5
    refine lv_ldc (v := (-1000001)) hx hb hown (hts _ q1319) dX9_ahead_32 ?_
    have hf := sm_e hf
    subst hf
    exact x_retI cx hw rfl () rfl [0, 1] rfl rfl (Nat.le_of_ble_eq_true rfl) (Nat.le_of_ble_eq_true rfl) dX9_ahead_34
  · have hf := if_f hf c5
    refine lv_iload_n hx hb dX9_ahead_8 rfl (lv_at hl 2 rfl) ?_
    refine lv_i2l (v := p2.toInt64) hx hb dX9_ahead_9 rfl ?_
    refine lv_lconst (v := 0) hx hb dX9_ahead_10 (by decide) ?_
    refine lv_ldc2 (v := 60) hx hb hown (hts _ q1479) dX9_ahead_11 ?_
    obtain ⟨q2, hcq2, hf⟩ := op_e hf
    refine x_SI (wr := [oM ad fu ft ff fs fa fb fn fr, ((ad 1), .inl (d 0, 1247, .inl Ww))]) (rest := []) [.long p2.toInt64, .long 0, .long 60] hX cx hw hl.1 (mX9_in l X hX D d p2.toInt64 0 60 q2 hcq2) (lw_S q1315 q1316 q94 q1317) hd_X9_in ⟨Nat.le_of_ble_eq_true rfl, Nat.le_of_ble_eq_true rfl⟩ rfl rfl (Nat.le_of_ble_eq_true rfl) dX9_ahead_14 [] [0, 1] rfl rfl rfl rfl (by decide) ⟨(Nat.le_of_ble_eq_true rfl), (Nat.le_of_ble_eq_true rfl)⟩ (fun r u H locs hp hw => ?_)
    have hw : Wd D A s [oM ad fu ft ff fs fa fb fn fr, ((ad 1), .inl (d 0, 1247, .inl Ww))] H locs := hw
    subst r
    refine lv_if_eq (tgt := 32) hx hb dX9_ahead_17 (by decide) (fun c17 => ?_) (fun c17 => ?_)
    · have hf := if_t hf c17
      refine lv_ldc (v := (-1000001)) hx hb hown (hts _ q1319) dX9_ahead_32 ?_
      have hf := sm_e hf
      subst hf
      exact x_retI cx hw rfl () rfl [0, 1] rfl rfl (Nat.le_of_ble_eq_true rfl) (Nat.le_of_ble_eq_true rfl) dX9_ahead_34
    · have hf := if_f hf c17
      refine lv_iload_n hx hb dX9_ahead_20 rfl (lv_at hl 3 rfl) ?_
      refine lv_i2l (v := p3.toInt64) hx hb dX9_ahead_21 rfl ?_
      refine lv_lconst (v := 0) hx hb dX9_ahead_22 (by decide) ?_
      refine lv_ldc2 (v := 2) hx hb hown (hts _ q1318) dX9_ahead_23 ?_
      obtain ⟨q3, hcq3, hf⟩ := op_e hf
      refine x_SI (wr := [oM ad fu ft ff fs fa fb fn fr, ((ad 1), .inl (d 0, 1247, .inl Ww))]) (rest := []) [.long p3.toInt64, .long 0, .long 2] hX cx hw hl.1 (mX9_in l X hX D d p3.toInt64 0 2 q3 hcq3) (lw_S q1315 q1316 q94 q1317) hd_X9_in ⟨Nat.le_of_ble_eq_true rfl, Nat.le_of_ble_eq_true rfl⟩ rfl rfl (Nat.le_of_ble_eq_true rfl) dX9_ahead_26 [] [0, 1] rfl rfl rfl rfl (by decide) ⟨(Nat.le_of_ble_eq_true rfl), (Nat.le_of_ble_eq_true rfl)⟩ (fun r u H locs hp hw => ?_)
      have hw : Wd D A s [oM ad fu ft ff fs fa fb fn fr, ((ad 1), .inl (d 0, 1247, .inl Ww))] H locs := hw
      subst r
      refine lv_if_ne (tgt := 35) hx hb dX9_ahead_29 (by decide) (fun c29 => ?_) (fun c29 => ?_)
      · have hf := if_f hf c29
        refine lv_aload_n hx hb dX9_ahead_35 rfl (lv_at hl 0 rfl) ?_
        obtain ⟨q4, hcq4, hf⟩ := op_e hf
        refine x_VV (wr := []) (rest := []) [] hX cx hw hl.1 (mX9_tries l X hX D d ad fu ft ff fs fa fb fn fr Ww q4 hcq4) (lw_V q1499 q1501 qs60 q94 q1502) hd_X9_tries ⟨Nat.le_of_ble_eq_true rfl, Nat.le_of_ble_eq_true rfl⟩ (va_recv hK hw.1 (ci := 0) (q0 := 0) rfl rfl) rfl rfl (Nat.le_of_ble_eq_true rfl) dX9_ahead_36 [0, 1] [] rfl rfl rfl rfl (by decide) ⟨(Nat.le_of_ble_eq_true rfl), (Nat.le_of_ble_eq_true rfl)⟩ (fun u H locs hp hw => ?_)
        have hw : Wd D A s [oM ad fu ft ff fs fa fb fn fr, ((ad 1), .inl (d 0, 1247, .inl q4))] H locs := hw
        refine lv_aload_n hx hb dX9_ahead_39 rfl (lv_at hl 0 rfl) ?_
        refine lv_iload_n hx hb dX9_ahead_40 rfl (lv_at hl 2 rfl) ?_
        obtain ⟨q5, hcq5, hf⟩ := op_e hf
        refine x_VV (wr := []) (rest := []) [.int p2] hX cx hw hl.1 (mX9_goesOn l X hX D d ad fu ft ff fs fa fb fn fr q4 p2 q5 hcq5) (lw_V q1503 q1505 qs61 q94 q1506) hd_X9_goesOn ⟨Nat.le_of_ble_eq_true rfl, Nat.le_of_ble_eq_true rfl⟩ (va_recv hK hw.1 (ci := 0) (q0 := 0) rfl rfl) rfl rfl (Nat.le_of_ble_eq_true rfl) dX9_ahead_41 [0, 1] [] rfl rfl rfl rfl (by decide) ⟨(Nat.le_of_ble_eq_true rfl), (Nat.le_of_ble_eq_true rfl)⟩ (fun u H locs hp hw => ?_)
        have hw : Wd D A s [oM ad fu ft ff fs fa fb fn fr, ((ad 1), .inl (d 0, 1247, .inl q5))] H locs := hw
        refine lv_aload_n hx hb dX9_ahead_44 rfl (lv_at hl 0 rfl) ?_
        refine va_get (ci := 0) (C := RX9) (T := TX9) (N := 19) hx hb hts in_X9 hown hK hw.1 0 rfl rfl 0 (by decide) (hts _ q1248) (fun _ h9 => h9) rfl dX9_ahead_45 ?_
        refine lv_bipush (v := 43) hx hb dX9_ahead_48 (by decide) ?_
        refine lv_iload_n hx hb dX9_ahead_50 rfl (lv_at hl 3 rfl) ?_
        refine lv_if_ne (tgt := 59) hx hb dX9_ahead_51 (by decide) (fun c51 => ?_) (fun c51 => ?_)
        · have hf := if_f hf c51
          refine lv_iload_n hx hb dX9_ahead_59 rfl (lv_at hl 3 rfl) ?_
          refine lv_iconst (v := 1) hx hb dX9_ahead_60 (by decide) ?_
          refine lv_icmp_ne (tgt := 69) hx hb dX9_ahead_61 (by decide) (fun c61 => ?_) (fun c61 => ?_)
          · have hf := if_f hf c61
            refine lv_bipush (v := 25) hx hb dX9_ahead_69 (by decide) ?_
            refine lv_iadd hx hb dX9_ahead_71 ?_
            rw [show ((43 : Int32) + 25) = 68 from by decide]
            refine lv_iload_n hx hb dX9_ahead_72 rfl (lv_at hl 1 rfl) ?_
            refine lv_iadd hx hb dX9_ahead_73 ?_
            obtain ⟨v8, hv, hf⟩ := op_e hf
            refine x_iald (q0 := 1) cx hw rfl hv dX9_ahead_74 ?_
            have hf := sm_e hf
            subst hf
            exact x_retI cx hw rfl () rfl [0, 1] rfl rfl (Nat.le_of_ble_eq_true rfl) (Nat.le_of_ble_eq_true rfl) dX9_ahead_75
          · have hf := if_t hf c61
            refine lv_bipush (v := 31) hx hb dX9_ahead_64 (by decide) ?_
            refine lv_goto (tgt := 71) hx hb dX9_ahead_66 (by decide) ?_
            refine lv_iadd hx hb dX9_ahead_71 ?_
            rw [show ((43 : Int32) + 31) = 74 from by decide]
            refine lv_iload_n hx hb dX9_ahead_72 rfl (lv_at hl 1 rfl) ?_
            refine lv_iadd hx hb dX9_ahead_73 ?_
            obtain ⟨v7, hv, hf⟩ := op_e hf
            refine x_iald (q0 := 1) cx hw rfl hv dX9_ahead_74 ?_
            have hf := sm_e hf
            subst hf
            exact x_retI cx hw rfl () rfl [0, 1] rfl rfl (Nat.le_of_ble_eq_true rfl) (Nat.le_of_ble_eq_true rfl) dX9_ahead_75
        · have hf := if_t hf c51
          refine lv_bipush (v := 13) hx hb dX9_ahead_54 (by decide) ?_
          refine lv_goto (tgt := 71) hx hb dX9_ahead_56 (by decide) ?_
          refine lv_iadd hx hb dX9_ahead_71 ?_
          rw [show ((43 : Int32) + 13) = 56 from by decide]
          refine lv_iload_n hx hb dX9_ahead_72 rfl (lv_at hl 1 rfl) ?_
          refine lv_iadd hx hb dX9_ahead_73 ?_
          obtain ⟨v6, hv, hf⟩ := op_e hf
          refine x_iald (q0 := 1) cx hw rfl hv dX9_ahead_74 ?_
          have hf := sm_e hf
          subst hf
          exact x_retI cx hw rfl () rfl [0, 1] rfl rfl (Nat.le_of_ble_eq_true rfl) (Nat.le_of_ble_eq_true rfl) dX9_ahead_75
      · have hf := if_t hf c29
        refine lv_ldc (v := (-1000001)) hx hb hown (hts _ q1319) dX9_ahead_32 ?_
        have hf := sm_e hf
        subst hf
        exact x_retI cx hw rfl () rfl [0, 1] rfl rfl (Nat.le_of_ble_eq_true rfl) (Nat.le_of_ble_eq_true rfl) dX9_ahead_34
theorem hd_X9_later : yX9_later.cls = "DishLiftModel" ∧ yX9_later.cls ≠ "java/lang/invoke/MethodHandle" ∧ yX9_later.cls ≠ "java/lang/invoke/VarHandle" ∧ (parseMethodDescriptor yX9_later.desc).map (fun d => d.parameters.length) = some 1 := by decide +kernel
set_option maxHeartbeats 4000000 in
theorem mX9_later (l : Launch) (X : XT) (hX : XOK X) (D : va_G) (d : Nat → ClassId) (ad : Nat → Nat) (fu : Int32) (ft : Int32) (ff : Int32) (fs : Int32) (fa : Int32) (fb : Int32) (fn : Int32) (fr : Int32) (Ww : Nat → Int32) (p1 : Int32) (res : Int32 × (Nat → Int32)) (hf : fX9_later Ww p1 = some res) : MetI l yX9_later (ws_ yX9_later cX9_later 2 (some .int)) { frames := 5, cells := 0, slots := 0, locals := 113 } [.ref (ad 0), .int p1] X D d [oM ad fu ft ff fs fa fb fn fr, ((ad 1), .inl (d 0, 1247, .inl Ww))] (fun r (_ : Unit) => r = res.1) (fun _ => [oM ad fu ft ff fs fa fb fn fr, ((ad 1), .inl (d 0, 1247, .inl res.2))]) := by
  refine MetI.of (by decide +kernel) (Nat.le_of_ble_eq_true rfl) ?_
  intro p e s m below meth c A cx hw ls hl
  have cx : Cx p s m _ meth c X D d A "DishLiftModel" cX9_later 2 (some .int) "later" := cx
  have cx' := cx
  obtain ⟨hx, hb, hr, hlk, hml, hown, hts, hK, hA, hXs, hnm⟩ := cx'
  have hl : lv_has ls 2 [(0, .ref (ad 0)), (1, .int p1)] := hl
  unfold fX9_later at hf
  refine lv_aload_n hx hb dX9_later_0 rfl (lv_at hl 0 rfl) ?_
  obtain ⟨q1, hcq1, hf⟩ := op_e hf
  refine x_VI (wr := []) (rest := []) [] hX cx hw hl.1 (mX9_isHouse l X hX D d ad fu ft ff fs fa fb fn fr Ww q1 hcq1) (lw_V q1402 q1404 qs46 q94 q1405) hd_X9_isHouse ⟨Nat.le_of_ble_eq_true rfl, Nat.le_of_ble_eq_true rfl⟩ (va_recv hK hw.1 (ci := 0) (q0 := 0) rfl rfl) rfl rfl (Nat.le_of_ble_eq_true rfl) dX9_later_1 [0, 1] [] rfl rfl rfl rfl (by decide) ⟨(Nat.le_of_ble_eq_true rfl), (Nat.le_of_ble_eq_true rfl)⟩ (fun r u H locs hp hw => ?_)
  have hw : Wd D A s [oM ad fu ft ff fs fa fb fn fr, ((ad 1), .inl (d 0, 1247, .inl Ww))] H locs := hw
  subst r
  refine lv_if_ne (tgt := 10) hx hb dX9_later_4 (by decide) (fun c4 => ?_) (fun c4 => ?_)
  · have hf := if_f hf c4
    refine lv_iload_n hx hb dX9_later_10 rfl (lv_at hl 1 rfl) ?_
    refine lv_i2l (v := p1.toInt64) hx hb dX9_later_11 rfl ?_
    refine lv_lconst (v := 0) hx hb dX9_later_12 (by decide) ?_
    refine lv_ldc2 (v := 60) hx hb hown (hts _ q1479) dX9_later_13 ?_
    obtain ⟨q2, hcq2, hf⟩ := op_e hf
    refine x_SI (wr := [oM ad fu ft ff fs fa fb fn fr, ((ad 1), .inl (d 0, 1247, .inl Ww))]) (rest := []) [.long p1.toInt64, .long 0, .long 60] hX cx hw hl.1 (mX9_in l X hX D d p1.toInt64 0 60 q2 hcq2) (lw_S q1315 q1316 q94 q1317) hd_X9_in ⟨Nat.le_of_ble_eq_true rfl, Nat.le_of_ble_eq_true rfl⟩ rfl rfl (Nat.le_of_ble_eq_true rfl) dX9_later_16 [] [0, 1] rfl rfl rfl rfl (by decide) ⟨(Nat.le_of_ble_eq_true rfl), (Nat.le_of_ble_eq_true rfl)⟩ (fun r u H locs hp hw => ?_)
    have hw : Wd D A s [oM ad fu ft ff fs fa fb fn fr, ((ad 1), .inl (d 0, 1247, .inl Ww))] H locs := hw
    subst r
    refine lv_if_ne (tgt := 25) hx hb dX9_later_19 (by decide) (fun c19 => ?_) (fun c19 => ?_)
    · have hf := if_f hf c19
      refine lv_aload_n hx hb dX9_later_25 rfl (lv_at hl 0 rfl) ?_
      obtain ⟨q3, hcq3, hf⟩ := op_e hf
      refine x_VV (wr := []) (rest := []) [] hX cx hw hl.1 (mX9_tries l X hX D d ad fu ft ff fs fa fb fn fr Ww q3 hcq3) (lw_V q1499 q1501 qs60 q94 q1502) hd_X9_tries ⟨Nat.le_of_ble_eq_true rfl, Nat.le_of_ble_eq_true rfl⟩ (va_recv hK hw.1 (ci := 0) (q0 := 0) rfl rfl) rfl rfl (Nat.le_of_ble_eq_true rfl) dX9_later_26 [0, 1] [] rfl rfl rfl rfl (by decide) ⟨(Nat.le_of_ble_eq_true rfl), (Nat.le_of_ble_eq_true rfl)⟩ (fun u H locs hp hw => ?_)
      have hw : Wd D A s [oM ad fu ft ff fs fa fb fn fr, ((ad 1), .inl (d 0, 1247, .inl q3))] H locs := hw
      refine lv_aload_n hx hb dX9_later_29 rfl (lv_at hl 0 rfl) ?_
      refine lv_iload_n hx hb dX9_later_30 rfl (lv_at hl 1 rfl) ?_
      obtain ⟨q4, hcq4, hf⟩ := op_e hf
      refine x_VV (wr := []) (rest := []) [.int p1] hX cx hw hl.1 (mX9_goesOn l X hX D d ad fu ft ff fs fa fb fn fr q3 p1 q4 hcq4) (lw_V q1503 q1505 qs61 q94 q1506) hd_X9_goesOn ⟨Nat.le_of_ble_eq_true rfl, Nat.le_of_ble_eq_true rfl⟩ (va_recv hK hw.1 (ci := 0) (q0 := 0) rfl rfl) rfl rfl (Nat.le_of_ble_eq_true rfl) dX9_later_31 [0, 1] [] rfl rfl rfl rfl (by decide) ⟨(Nat.le_of_ble_eq_true rfl), (Nat.le_of_ble_eq_true rfl)⟩ (fun u H locs hp hw => ?_)
      have hw : Wd D A s [oM ad fu ft ff fs fa fb fn fr, ((ad 1), .inl (d 0, 1247, .inl q4))] H locs := hw
      refine lv_aload_n hx hb dX9_later_34 rfl (lv_at hl 0 rfl) ?_
      refine va_get (ci := 0) (C := RX9) (T := TX9) (N := 19) hx hb hts in_X9 hown hK hw.1 0 rfl rfl 0 (by decide) (hts _ q1248) (fun _ h9 => h9) rfl dX9_later_35 ?_
      refine lv_bipush (v := 47) hx hb dX9_later_38 (by decide) ?_
      obtain ⟨v5, hv, hf⟩ := op_e hf
      refine x_iald (q0 := 1) cx hw rfl hv dX9_later_40 ?_
      have hf := sm_e hf
      subst hf
      exact x_retI cx hw rfl () rfl [0, 1] rfl rfl (Nat.le_of_ble_eq_true rfl) (Nat.le_of_ble_eq_true rfl) dX9_later_41
    · have hf := if_t hf c19
      refine lv_ldc (v := (-1000001)) hx hb hown (hts _ q1319) dX9_later_22 ?_
      have hf := sm_e hf
      subst hf
      exact x_retI cx hw rfl () rfl [0, 1] rfl rfl (Nat.le_of_ble_eq_true rfl) (Nat.le_of_ble_eq_true rfl) dX9_later_24
  · have hf := if_t hf c4
    refine lv_ldc (v := (-1000002)) hx hb hown (hts _ q1397) dX9_later_7 ?_
    have hf := sm_e hf
    subst hf
    exact x_retI cx hw rfl () rfl [0, 1] rfl rfl (Nat.le_of_ble_eq_true rfl) (Nat.le_of_ble_eq_true rfl) dX9_later_9
theorem hd_X9_allServed : yX9_allServed.cls = "DishLiftModel" ∧ yX9_allServed.cls ≠ "java/lang/invoke/MethodHandle" ∧ yX9_allServed.cls ≠ "java/lang/invoke/VarHandle" ∧ (parseMethodDescriptor yX9_allServed.desc).map (fun d => d.parameters.length) = some 1 := by decide +kernel
set_option maxHeartbeats 4000000 in
theorem mX9_allServed (l : Launch) (X : XT) (hX : XOK X) (D : va_G) (d : Nat → ClassId) (ad : Nat → Nat) (fu : Int32) (ft : Int32) (ff : Int32) (fs : Int32) (fa : Int32) (fb : Int32) (fn : Int32) (fr : Int32) (Ww : Nat → Int32) (p1 : Int32) (res : Int32 × (Nat → Int32)) (hf : fX9_allServed Ww p1 = some res) : MetI l yX9_allServed (ws_ yX9_allServed cX9_allServed 3 (some .int)) { frames := 4, cells := 0, slots := 0, locals := 91 } [.ref (ad 0), .int p1] X D d [oM ad fu ft ff fs fa fb fn fr, ((ad 1), .inl (d 0, 1247, .inl Ww))] (fun r (_ : Unit) => r = res.1) (fun _ => [oM ad fu ft ff fs fa fb fn fr, ((ad 1), .inl (d 0, 1247, .inl res.2))]) := by
  refine MetI.of (by decide +kernel) (Nat.le_of_ble_eq_true rfl) ?_
  intro p e s m below meth c A cx hw ls hl
  have cx : Cx p s m _ meth c X D d A "DishLiftModel" cX9_allServed 3 (some .int) "allServed" := cx
  have cx' := cx
  obtain ⟨hx, hb, hr, hlk, hml, hown, hts, hK, hA, hXs, hnm⟩ := cx'
  have hl : lv_has ls 3 [(0, .ref (ad 0)), (1, .int p1)] := hl
  unfold fX9_allServed at hf
  refine lv_aload_n hx hb dX9_allServed_0 rfl (lv_at hl 0 rfl) ?_
  obtain ⟨q1, hcq1, hf⟩ := op_e hf
  refine x_VV (wr := []) (rest := []) [] hX cx hw hl.1 (mX9_tries l X hX D d ad fu ft ff fs fa fb fn fr Ww q1 hcq1) (lw_V q1499 q1501 qs60 q94 q1502) hd_X9_tries ⟨Nat.le_of_ble_eq_true rfl, Nat.le_of_ble_eq_true rfl⟩ (va_recv hK hw.1 (ci := 0) (q0 := 0) rfl rfl) rfl rfl (Nat.le_of_ble_eq_true rfl) dX9_allServed_1 [0, 1] [] rfl rfl rfl rfl (by decide) ⟨(Nat.le_of_ble_eq_true rfl), (Nat.le_of_ble_eq_true rfl)⟩ (fun u H locs hp hw => ?_)
  have hw : Wd D A s [oM ad fu ft ff fs fa fb fn fr, ((ad 1), .inl (d 0, 1247, .inl q1))] H locs := hw
  refine lv_iconst (v := 0) hx hb dX9_allServed_4 (by decide) ?_
  refine lv_istore_n (lv' := [(2, .int 0), (0, .ref (ad 0)), (1, .int p1)]) hx hb dX9_allServed_5 rfl hl (by decide) rfl (fun ls hl => ?_)
  refine x_lp hf (fun x6 => [oM ad fu ft ff fs fa fb fn fr, ((ad 1), .inl (d 0, 1247, .inl x6.2))]) (fun x6 => [(0, .ref (ad 0)), (1, .int p1), (2, .int x6.1)]) hw (lv_sub hl [1, 2, 0] rfl) (fun x6 y6 hf hin6 hout6 H locs ls hw hl => ?_)
  have hw : Wd D A s [oM ad fu ft ff fs fa fb fn fr, ((ad 1), .inl (d 0, 1247, .inl x6.2))] H locs := hw
  have hl : lv_has ls 3 [(0, .ref (ad 0)), (1, .int p1), (2, .int x6.1)] := hl
  refine lv_iload_n hx hb dX9_allServed_6 rfl (lv_at hl 2 rfl) ?_
  refine lv_bipush (v := 60) hx hb dX9_allServed_7 (by decide) ?_
  refine lv_icmp_gt (tgt := 38) hx hb dX9_allServed_9 (by decide) (fun c9 => ?_) (fun c9 => ?_)
  · have hf := if_t hf c9
    refine lv_ldc (v := (-1000000)) hx hb hown (hts _ q1519) dX9_allServed_38 ?_
    have hf := sm_e hf
    subst hf
    have hz := hout6 _ rfl
    subst hz
    exact x_retI cx hw rfl () rfl [0, 1] rfl rfl (Nat.le_of_ble_eq_true rfl) (Nat.le_of_ble_eq_true rfl) dX9_allServed_40
  · have hf := if_f hf c9
    refine lv_aload_n hx hb dX9_allServed_12 rfl (lv_at hl 0 rfl) ?_
    refine lv_bipush (v := 43) hx hb dX9_allServed_13 (by decide) ?_
    obtain ⟨q2, hcq2, hf⟩ := op_e hf
    refine x_VI (wr := []) (rest := []) [.int 43] hX cx hw hl.1 (mX9_servedOf l X hX D d ad fu ft ff fs fa fb fn fr x6.2 43 q2 hcq2) (lw_V q1449 q1451 qs56 q94 q1452) hd_X9_servedOf ⟨Nat.le_of_ble_eq_true rfl, Nat.le_of_ble_eq_true rfl⟩ (va_recv hK hw.1 (ci := 0) (q0 := 0) rfl rfl) rfl rfl (Nat.le_of_ble_eq_true rfl) dX9_allServed_15 [0, 1] [] rfl rfl rfl rfl (by decide) ⟨(Nat.le_of_ble_eq_true rfl), (Nat.le_of_ble_eq_true rfl)⟩ (fun r u H locs hp hw => ?_)
    have hw : Wd D A s [oM ad fu ft ff fs fa fb fn fr, ((ad 1), .inl (d 0, 1247, .inl x6.2))] H locs := hw
    subst r
    refine lv_iload_n hx hb dX9_allServed_18 rfl (lv_at hl 1 rfl) ?_
    refine lv_iand hx hb dX9_allServed_19 ?_
    refine lv_iload_n hx hb dX9_allServed_20 rfl (lv_at hl 1 rfl) ?_
    refine lv_icmp_ne (tgt := 26) hx hb dX9_allServed_21 (by decide) (fun c21 => ?_) (fun c21 => ?_)
    · have hf := if_f hf c21
      refine lv_aload_n hx hb dX9_allServed_26 rfl (lv_at hl 0 rfl) ?_
      refine lv_bipush (v := 43) hx hb dX9_allServed_27 (by decide) ?_
      obtain ⟨q3, hcq3, hf⟩ := op_e hf
      refine x_VV (wr := []) (rest := []) [.int 43] hX cx hw hl.1 (mX9_passes l X hX D d ad fu ft ff fs fa fb fn fr x6.2 43 q3 hcq3) (lw_V q1411 q1413 qs48 q94 q1414) hd_X9_passes ⟨Nat.le_of_ble_eq_true rfl, Nat.le_of_ble_eq_true rfl⟩ (va_recv hK hw.1 (ci := 0) (q0 := 0) rfl rfl) rfl rfl (Nat.le_of_ble_eq_true rfl) dX9_allServed_29 [0, 1] [] rfl rfl rfl rfl (by decide) ⟨(Nat.le_of_ble_eq_true rfl), (Nat.le_of_ble_eq_true rfl)⟩ (fun u H locs hp hw => ?_)
      have hw : Wd D A s [oM ad fu ft ff fs fa fb fn fr, ((ad 1), .inl (d 0, 1247, .inl q3))] H locs := hw
      refine lv_iinc (v := (x6.1 + 1)) (lv' := [(2, .int (x6.1 + 1)), (0, .ref (ad 0)), (1, .int p1)]) hx hb dX9_allServed_32 hl (k := 2) rfl (by first | rfl | decide) (by decide) rfl (fun ls hl => ?_)
      refine lv_goto (tgt := 6) hx hb dX9_allServed_35 (by decide) ?_
      have hf := sm_e hf
      subst hf
      exact hin6 _ rfl _ _ _ hw (lv_sub hl [1, 2, 0] rfl)
    · have hf := if_t hf c21
      refine lv_iload_n hx hb dX9_allServed_24 rfl (lv_at hl 2 rfl) ?_
      have hf := sm_e hf
      subst hf
      have hz := hout6 _ rfl
      subst hz
      exact x_retI cx hw rfl () rfl [0, 1] rfl rfl (Nat.le_of_ble_eq_true rfl) (Nat.le_of_ble_eq_true rfl) dX9_allServed_25
theorem hd_X9_when : yX9_when.cls = "DishLiftModel" ∧ yX9_when.cls ≠ "java/lang/invoke/MethodHandle" ∧ yX9_when.cls ≠ "java/lang/invoke/VarHandle" ∧ (parseMethodDescriptor yX9_when.desc).map (fun d => d.parameters.length) = some 1 := by decide +kernel
set_option maxHeartbeats 4000000 in
theorem mX9_when (l : Launch) (X : XT) (hX : XOK X) (D : va_G) (d : Nat → ClassId) (ad : Nat → Nat) (fu : Int32) (ft : Int32) (ff : Int32) (fs : Int32) (fa : Int32) (fb : Int32) (fn : Int32) (fr : Int32) (Ww : Nat → Int32) (p1 : Int32) (res : Int32 × (Nat → Int32)) (hf : fX9_when Ww p1 = some res) : MetI l yX9_when (ws_ yX9_when cX9_when 2 (some .int)) { frames := 5, cells := 0, slots := 0, locals := 113 } [.ref (ad 0), .int p1] X D d [oM ad fu ft ff fs fa fb fn fr, ((ad 1), .inl (d 0, 1247, .inl Ww))] (fun r (_ : Unit) => r = res.1) (fun _ => [oM ad fu ft ff fs fa fb fn fr, ((ad 1), .inl (d 0, 1247, .inl res.2))]) := by
  refine MetI.of (by decide +kernel) (Nat.le_of_ble_eq_true rfl) ?_
  intro p e s m below meth c A cx hw ls hl
  have cx : Cx p s m _ meth c X D d A "DishLiftModel" cX9_when 2 (some .int) "when" := cx
  have cx' := cx
  obtain ⟨hx, hb, hr, hlk, hml, hown, hts, hK, hA, hXs, hnm⟩ := cx'
  have hl : lv_has ls 2 [(0, .ref (ad 0)), (1, .int p1)] := hl
  unfold fX9_when at hf
  refine lv_aload_n hx hb dX9_when_0 rfl (lv_at hl 0 rfl) ?_
  refine lv_iload_n hx hb dX9_when_1 rfl (lv_at hl 1 rfl) ?_
  obtain ⟨q1, hcq1, hf⟩ := op_e hf
  refine x_VI (wr := []) (rest := []) [.int p1] hX cx hw hl.1 (mX9_isDish l X hX D d ad fu ft ff fs fa fb fn fr Ww p1 q1 hcq1) (lw_V q1475 q1477 qs58 q94 q1478) hd_X9_isDish ⟨Nat.le_of_ble_eq_true rfl, Nat.le_of_ble_eq_true rfl⟩ (va_recv hK hw.1 (ci := 0) (q0 := 0) rfl rfl) rfl rfl (Nat.le_of_ble_eq_true rfl) dX9_when_2 [0, 1] [] rfl rfl rfl rfl (by decide) ⟨(Nat.le_of_ble_eq_true rfl), (Nat.le_of_ble_eq_true rfl)⟩ (fun r u H locs hp hw => ?_)
  have hw : Wd D A s [oM ad fu ft ff fs fa fb fn fr, ((ad 1), .inl (d 0, 1247, .inl Ww))] H locs := hw
  subst r
  refine lv_if_eq (tgt := 18) hx hb dX9_when_5 (by decide) (fun c5 => ?_) (fun c5 => ?_)
  · have hf := if_t hf c5
    refine lv_ldc (v := (-1000001)) hx hb hown (hts _ q1319) dX9_when_18 ?_
    have hf := sm_e hf
    subst hf
    exact x_retI cx hw rfl () rfl [0, 1] rfl rfl (Nat.le_of_ble_eq_true rfl) (Nat.le_of_ble_eq_true rfl) dX9_when_20
  · have hf := if_f hf c5
    refine lv_aload_n hx hb dX9_when_8 rfl (lv_at hl 0 rfl) ?_
    refine lv_iconst (v := 1) hx hb dX9_when_9 (by decide) ?_
    refine lv_iload_n hx hb dX9_when_10 rfl (lv_at hl 1 rfl) ?_
    refine lv_ishl hx hb dX9_when_11 ?_
    obtain ⟨q2, hcq2, hf⟩ := op_e hf
    refine x_VI (wr := []) (rest := []) [.int ((1 : Int32) <<< (p1 &&& 31))] hX cx hw hl.1 (mX9_allServed l X hX D d ad fu ft ff fs fa fb fn fr Ww ((1 : Int32) <<< (p1 &&& 31)) q2 hcq2) (lw_V q1515 q1517 qs62 q94 q1518) hd_X9_allServed ⟨Nat.le_of_ble_eq_true rfl, Nat.le_of_ble_eq_true rfl⟩ (va_recv hK hw.1 (ci := 0) (q0 := 0) rfl rfl) rfl rfl (Nat.le_of_ble_eq_true rfl) dX9_when_12 [0, 1] [] rfl rfl rfl rfl (by decide) ⟨(Nat.le_of_ble_eq_true rfl), (Nat.le_of_ble_eq_true rfl)⟩ (fun r u H locs hp hw => ?_)
    have hw : Wd D A s [oM ad fu ft ff fs fa fb fn fr, ((ad 1), .inl (d 0, 1247, .inl q2.2))] H locs := hw
    subst r
    refine lv_goto (tgt := 20) hx hb dX9_when_15 (by decide) ?_
    have hf := sm_e hf
    subst hf
    exact x_retI cx hw rfl () rfl [0, 1] rfl rfl (Nat.le_of_ble_eq_true rfl) (Nat.le_of_ble_eq_true rfl) dX9_when_20
theorem hd_X9_done : yX9_done.cls = "DishLiftModel" ∧ yX9_done.cls ≠ "java/lang/invoke/MethodHandle" ∧ yX9_done.cls ≠ "java/lang/invoke/VarHandle" ∧ (parseMethodDescriptor yX9_done.desc).map (fun d => d.parameters.length) = some 0 := by decide +kernel
set_option maxHeartbeats 4000000 in
theorem mX9_done (l : Launch) (X : XT) (hX : XOK X) (D : va_G) (d : Nat → ClassId) (ad : Nat → Nat) (fu : Int32) (ft : Int32) (ff : Int32) (fs : Int32) (fa : Int32) (fb : Int32) (fn : Int32) (fr : Int32) (Ww : Nat → Int32) (res : Int32 × (Nat → Int32)) (hf : fX9_done Ww = some res) : MetI l yX9_done (ws_ yX9_done cX9_done 1 (some .int)) { frames := 5, cells := 0, slots := 0, locals := 113 } [.ref (ad 0)] X D d [oM ad fu ft ff fs fa fb fn fr, ((ad 1), .inl (d 0, 1247, .inl Ww))] (fun r (_ : Unit) => r = res.1) (fun _ => [oM ad fu ft ff fs fa fb fn fr, ((ad 1), .inl (d 0, 1247, .inl res.2))]) := by
  refine MetI.of (by decide +kernel) (Nat.le_of_ble_eq_true rfl) ?_
  intro p e s m below meth c A cx hw ls hl
  have cx : Cx p s m _ meth c X D d A "DishLiftModel" cX9_done 1 (some .int) "done" := cx
  have cx' := cx
  obtain ⟨hx, hb, hr, hlk, hml, hown, hts, hK, hA, hXs, hnm⟩ := cx'
  have hl : lv_has ls 1 [(0, .ref (ad 0))] := hl
  unfold fX9_done at hf
  refine lv_aload_n hx hb dX9_done_0 rfl (lv_at hl 0 rfl) ?_
  obtain ⟨q1, hcq1, hf⟩ := op_e hf
  refine x_VI (wr := []) (rest := []) [] hX cx hw hl.1 (mX9_isHouse l X hX D d ad fu ft ff fs fa fb fn fr Ww q1 hcq1) (lw_V q1402 q1404 qs46 q94 q1405) hd_X9_isHouse ⟨Nat.le_of_ble_eq_true rfl, Nat.le_of_ble_eq_true rfl⟩ (va_recv hK hw.1 (ci := 0) (q0 := 0) rfl rfl) rfl rfl (Nat.le_of_ble_eq_true rfl) dX9_done_1 [0, 1] [] rfl rfl rfl rfl (by decide) ⟨(Nat.le_of_ble_eq_true rfl), (Nat.le_of_ble_eq_true rfl)⟩ (fun r u H locs hp hw => ?_)
  have hw : Wd D A s [oM ad fu ft ff fs fa fb fn fr, ((ad 1), .inl (d 0, 1247, .inl Ww))] H locs := hw
  subst r
  refine lv_if_eq (tgt := 24) hx hb dX9_done_4 (by decide) (fun c4 => ?_) (fun c4 => ?_)
  · have hf := if_t hf c4
    refine lv_ldc (v := (-1000002)) hx hb hown (hts _ q1397) dX9_done_24 ?_
    have hf := sm_e hf
    subst hf
    exact x_retI cx hw rfl () rfl [0, 1] rfl rfl (Nat.le_of_ble_eq_true rfl) (Nat.le_of_ble_eq_true rfl) dX9_done_26
  · have hf := if_f hf c4
    refine lv_aload_n hx hb dX9_done_7 rfl (lv_at hl 0 rfl) ?_
    refine lv_iconst (v := 1) hx hb dX9_done_8 (by decide) ?_
    refine lv_aload_n hx hb dX9_done_9 rfl (lv_at hl 0 rfl) ?_
    refine va_get (ci := 0) (C := RX9) (T := TX9) (N := 19) hx hb hts in_X9 hown hK hw.1 0 rfl rfl 0 (by decide) (hts _ q1248) (fun _ h9 => h9) rfl dX9_done_10 ?_
    refine lv_iconst (v := 0) hx hb dX9_done_13 (by decide) ?_
    obtain ⟨v2, hv, hf⟩ := op_e hf
    refine x_iald (q0 := 1) cx hw rfl hv dX9_done_14 ?_
    refine lv_ishl hx hb dX9_done_15 ?_
    refine lv_iconst (v := 1) hx hb dX9_done_16 (by decide) ?_
    refine lv_isub hx hb dX9_done_17 ?_
    obtain ⟨q3, hcq3, hf⟩ := op_e hf
    refine x_VI (wr := []) (rest := []) [.int (((1 : Int32) <<< (v2 &&& 31)) - 1)] hX cx hw hl.1 (mX9_allServed l X hX D d ad fu ft ff fs fa fb fn fr Ww (((1 : Int32) <<< (v2 &&& 31)) - 1) q3 hcq3) (lw_V q1515 q1517 qs62 q94 q1518) hd_X9_allServed ⟨Nat.le_of_ble_eq_true rfl, Nat.le_of_ble_eq_true rfl⟩ (va_recv hK hw.1 (ci := 0) (q0 := 0) rfl rfl) rfl rfl (Nat.le_of_ble_eq_true rfl) dX9_done_18 [0, 1] [] rfl rfl rfl rfl (by decide) ⟨(Nat.le_of_ble_eq_true rfl), (Nat.le_of_ble_eq_true rfl)⟩ (fun r u H locs hp hw => ?_)
    have hw : Wd D A s [oM ad fu ft ff fs fa fb fn fr, ((ad 1), .inl (d 0, 1247, .inl q3.2))] H locs := hw
    subst r
    refine lv_goto (tgt := 26) hx hb dX9_done_21 (by decide) ?_
    have hf := sm_e hf
    subst hf
    exact x_retI cx hw rfl () rfl [0, 1] rfl rfl (Nat.le_of_ble_eq_true rfl) (Nat.le_of_ble_eq_true rfl) dX9_done_26
theorem hd_X9_fineOf : yX9_fineOf.cls = "DishLiftModel" ∧ yX9_fineOf.cls ≠ "java/lang/invoke/MethodHandle" ∧ yX9_fineOf.cls ≠ "java/lang/invoke/VarHandle" ∧ (parseMethodDescriptor yX9_fineOf.desc).map (fun d => d.parameters.length) = some 1 := by decide +kernel
set_option maxHeartbeats 4000000 in
theorem mX9_fineOf (l : Launch) (X : XT) (hX : XOK X) (D : va_G) (d : Nat → ClassId) (ad : Nat → Nat) (fu : Int32) (ft : Int32) (ff : Int32) (fs : Int32) (fa : Int32) (fb : Int32) (fn : Int32) (fr : Int32) (Ww : Nat → Int32) (p1 : Int32) (res : Int32) (hf : fX9_fineOf Ww p1 = some res) : MetI l yX9_fineOf (ws_ yX9_fineOf cX9_fineOf 4 (some .int)) { frames := 1, cells := 0, slots := 0, locals := 21 } [.ref (ad 0), .int p1] X D d [oM ad fu ft ff fs fa fb fn fr, ((ad 1), .inl (d 0, 1247, .inl Ww))] (fun r (_ : Unit) => r = res) (fun _ => [oM ad fu ft ff fs fa fb fn fr, ((ad 1), .inl (d 0, 1247, .inl Ww))]) := by
  refine MetI.of (by decide +kernel) (Nat.le_of_ble_eq_true rfl) ?_
  intro p e s m below meth c A cx hw ls hl
  have cx : Cx p s m _ meth c X D d A "DishLiftModel" cX9_fineOf 4 (some .int) "fineOf" := cx
  have cx' := cx
  obtain ⟨hx, hb, hr, hlk, hml, hown, hts, hK, hA, hXs, hnm⟩ := cx'
  have hl : lv_has ls 4 [(0, .ref (ad 0)), (1, .int p1)] := hl
  unfold fX9_fineOf at hf
  refine lv_iconst (v := 0) hx hb dX9_fineOf_0 (by decide) ?_
  refine lv_istore_n (lv' := [(2, .int 0), (0, .ref (ad 0)), (1, .int p1)]) hx hb dX9_fineOf_1 rfl hl (by decide) rfl (fun ls hl => ?_)
  refine lv_iconst (v := 0) hx hb dX9_fineOf_2 (by decide) ?_
  refine lv_istore_n (lv' := [(3, .int 0), (2, .int 0), (0, .ref (ad 0)), (1, .int p1)]) hx hb dX9_fineOf_3 rfl hl (by decide) rfl (fun ls hl => ?_)
  obtain ⟨r1, hlp4, hf⟩ := op_e hf
  refine x_join (A := A) (D := D) (J := 76) (nL := 4) (cells' := 0) (slots' := 0) (st := []) [oM ad fu ft ff fs fa fb fn fr, ((ad 1), .inl (d 0, 1247, .inl Ww))] [(2, .int r1)] (fun H locs ls hw hl => ?_) (fun hK4 => ?_)
  · refine lv_iload_n hx hb dX9_fineOf_76 rfl (lv_at hl 0 rfl) ?_
    have hf := sm_e hf
    subst hf
    exact x_retI cx hw rfl () rfl [0, 1] rfl rfl (Nat.le_of_ble_eq_true rfl) (Nat.le_of_ble_eq_true rfl) dX9_fineOf_77
  · refine x_lp hlp4 (fun x4 => [oM ad fu ft ff fs fa fb fn fr, ((ad 1), .inl (d 0, 1247, .inl Ww))]) (fun x4 => [(0, .ref (ad 0)), (1, .int p1), (2, .int x4.1), (3, .int x4.2)]) hw (lv_sub hl [2, 3, 1, 0] rfl) (fun x4 y4 hf hin4 hout4 H locs ls hw hl => ?_)
    have hw : Wd D A s [oM ad fu ft ff fs fa fb fn fr, ((ad 1), .inl (d 0, 1247, .inl Ww))] H locs := hw
    have hl : lv_has ls 4 [(0, .ref (ad 0)), (1, .int p1), (2, .int x4.1), (3, .int x4.2)] := hl
    refine lv_iload_n hx hb dX9_fineOf_4 rfl (lv_at hl 3 rfl) ?_
    refine lv_aload_n hx hb dX9_fineOf_5 rfl (lv_at hl 0 rfl) ?_
    refine va_get (ci := 0) (C := RX9) (T := TX9) (N := 19) hx hb hts in_X9 hown hK hw.1 0 rfl rfl 0 (by decide) (hts _ q1248) (fun _ h9 => h9) rfl dX9_fineOf_6 ?_
    refine lv_iload_n hx hb dX9_fineOf_9 rfl (lv_at hl 1 rfl) ?_
    refine lv_iconst (v := 0) hx hb dX9_fineOf_10 (by decide) ?_
    refine lv_iadd hx hb dX9_fineOf_11 ?_
    obtain ⟨v2, hv, hf⟩ := op_e hf
    refine x_iald (q0 := 1) cx hw rfl hv dX9_fineOf_12 ?_
    refine lv_icmp_ge (tgt := 76) hx hb dX9_fineOf_13 (by decide) (fun c13 => ?_) (fun c13 => ?_)
    · have hf := if_t hf c13
      have hf := sm_e hf
      subst hf
      have hz := hout4 _ rfl
      subst hz
      exact hK4 _ _ _ hw (lv_sub hl [2] rfl)
    · have hf := if_f hf c13
      refine lv_iload_n hx hb dX9_fineOf_16 rfl (lv_at hl 2 rfl) ?_
      refine lv_aload_n hx hb dX9_fineOf_17 rfl (lv_at hl 0 rfl) ?_
      refine va_get (ci := 0) (C := RX9) (T := TX9) (N := 19) hx hb hts in_X9 hown hK hw.1 0 rfl rfl 0 (by decide) (hts _ q1248) (fun _ h9 => h9) rfl dX9_fineOf_18 ?_
      refine lv_iload_n hx hb dX9_fineOf_21 rfl (lv_at hl 1 rfl) ?_
      refine lv_bipush (v := 13) hx hb dX9_fineOf_22 (by decide) ?_
      refine lv_iadd hx hb dX9_fineOf_24 ?_
      refine lv_iload_n hx hb dX9_fineOf_25 rfl (lv_at hl 3 rfl) ?_
      refine lv_iadd hx hb dX9_fineOf_26 ?_
      obtain ⟨v3, hv, hf⟩ := op_e hf
      refine x_iald (q0 := 1) cx hw rfl hv dX9_fineOf_27 ?_
      refine lv_bipush (v := 11) hx hb dX9_fineOf_28 (by decide) ?_
      refine lv_icmp_ne (tgt := 67) hx hb dX9_fineOf_30 (by decide) (fun c30 => ?_) (fun c30 => ?_)
      · have hf := if_f hf c30
        refine lv_iconst (v := 0) hx hb dX9_fineOf_67 (by decide) ?_
        refine lv_ior hx hb dX9_fineOf_68 ?_
        refine lv_istore_n (lv' := [(2, .int (x4.1 ||| 0)), (0, .ref (ad 0)), (1, .int p1), (3, .int x4.2)]) hx hb dX9_fineOf_69 rfl hl (by decide) rfl (fun ls hl => ?_)
        refine lv_iinc (v := (x4.2 + 1)) (lv' := [(3, .int (x4.2 + 1)), (2, .int (x4.1 ||| 0)), (0, .ref (ad 0)), (1, .int p1)]) hx hb dX9_fineOf_70 hl (k := 3) rfl (by first | rfl | decide) (by decide) rfl (fun ls hl => ?_)
        refine lv_goto (tgt := 4) hx hb dX9_fineOf_73 (by decide) ?_
        have hf := sm_e hf
        subst hf
        exact hin4 _ rfl _ _ _ hw (lv_sub hl [2, 3, 1, 0] rfl)
      · have hf := if_t hf c30
        refine lv_aload_n hx hb dX9_fineOf_33 rfl (lv_at hl 0 rfl) ?_
        refine va_get (ci := 0) (C := RX9) (T := TX9) (N := 19) hx hb hts in_X9 hown hK hw.1 0 rfl rfl 0 (by decide) (hts _ q1248) (fun _ h9 => h9) rfl dX9_fineOf_34 ?_
        refine lv_iload_n hx hb dX9_fineOf_37 rfl (lv_at hl 1 rfl) ?_
        refine lv_bipush (v := 7) hx hb dX9_fineOf_38 (by decide) ?_
        refine lv_iadd hx hb dX9_fineOf_40 ?_
        refine lv_iload_n hx hb dX9_fineOf_41 rfl (lv_at hl 3 rfl) ?_
        refine lv_iadd hx hb dX9_fineOf_42 ?_
        obtain ⟨v4, hv, hf⟩ := op_e hf
        refine x_iald (q0 := 1) cx hw rfl hv dX9_fineOf_43 ?_
        refine lv_aload_n hx hb dX9_fineOf_44 rfl (lv_at hl 0 rfl) ?_
        refine va_get (ci := 0) (C := RX9) (T := TX9) (N := 19) hx hb hts in_X9 hown hK hw.1 0 rfl rfl 0 (by decide) (hts _ q1248) (fun _ h9 => h9) rfl dX9_fineOf_45 ?_
        refine lv_iload_n hx hb dX9_fineOf_48 rfl (lv_at hl 1 rfl) ?_
        refine lv_bipush (v := 31) hx hb dX9_fineOf_49 (by decide) ?_
        refine lv_iadd hx hb dX9_fineOf_51 ?_
        refine lv_iload_n hx hb dX9_fineOf_52 rfl (lv_at hl 3 rfl) ?_
        refine lv_iadd hx hb dX9_fineOf_53 ?_
        obtain ⟨v5, hv, hf⟩ := op_e hf
        refine x_iald (q0 := 1) cx hw rfl hv dX9_fineOf_54 ?_
        obtain ⟨q6, hcq6, hf⟩ := op_e hf
        refine x_SI (wr := [oM ad fu ft ff fs fa fb fn fr, ((ad 1), .inl (d 0, 1247, .inl Ww))]) (rest := [.int x4.1]) [.int v4, .int v5] hX cx hw hl.1 (mX9_isGood l X hX D d v4 v5 q6 hcq6) (lw_S q1488 q1489 q94 q1490) hd_X9_isGood ⟨Nat.le_of_ble_eq_true rfl, Nat.le_of_ble_eq_true rfl⟩ rfl rfl (Nat.le_of_ble_eq_true rfl) dX9_fineOf_55 [] [0, 1] rfl rfl rfl rfl (by decide) ⟨(Nat.le_of_ble_eq_true rfl), (Nat.le_of_ble_eq_true rfl)⟩ (fun r u H locs hp hw => ?_)
        have hw : Wd D A s [oM ad fu ft ff fs fa fb fn fr, ((ad 1), .inl (d 0, 1247, .inl Ww))] H locs := hw
        subst r
        refine lv_if_eq (tgt := 67) hx hb dX9_fineOf_58 (by decide) (fun c58 => ?_) (fun c58 => ?_)
        · have hf := if_t hf c58
          refine lv_iconst (v := 0) hx hb dX9_fineOf_67 (by decide) ?_
          refine lv_ior hx hb dX9_fineOf_68 ?_
          refine lv_istore_n (lv' := [(2, .int (x4.1 ||| 0)), (0, .ref (ad 0)), (1, .int p1), (3, .int x4.2)]) hx hb dX9_fineOf_69 rfl hl (by decide) rfl (fun ls hl => ?_)
          refine lv_iinc (v := (x4.2 + 1)) (lv' := [(3, .int (x4.2 + 1)), (2, .int (x4.1 ||| 0)), (0, .ref (ad 0)), (1, .int p1)]) hx hb dX9_fineOf_70 hl (k := 3) rfl (by first | rfl | decide) (by decide) rfl (fun ls hl => ?_)
          refine lv_goto (tgt := 4) hx hb dX9_fineOf_73 (by decide) ?_
          have hf := sm_e hf
          subst hf
          exact hin4 _ rfl _ _ _ hw (lv_sub hl [2, 3, 1, 0] rfl)
        · have hf := if_f hf c58
          refine lv_iconst (v := 1) hx hb dX9_fineOf_61 (by decide) ?_
          refine lv_iload_n hx hb dX9_fineOf_62 rfl (lv_at hl 3 rfl) ?_
          refine lv_ishl hx hb dX9_fineOf_63 ?_
          refine lv_goto (tgt := 68) hx hb dX9_fineOf_64 (by decide) ?_
          refine lv_ior hx hb dX9_fineOf_68 ?_
          refine lv_istore_n (lv' := [(2, .int (x4.1 ||| ((1 : Int32) <<< (x4.2 &&& 31)))), (0, .ref (ad 0)), (1, .int p1), (3, .int x4.2)]) hx hb dX9_fineOf_69 rfl hl (by decide) rfl (fun ls hl => ?_)
          refine lv_iinc (v := (x4.2 + 1)) (lv' := [(3, .int (x4.2 + 1)), (2, .int (x4.1 ||| ((1 : Int32) <<< (x4.2 &&& 31)))), (0, .ref (ad 0)), (1, .int p1)]) hx hb dX9_fineOf_70 hl (k := 3) rfl (by first | rfl | decide) (by decide) rfl (fun ls hl => ?_)
          refine lv_goto (tgt := 4) hx hb dX9_fineOf_73 (by decide) ?_
          have hf := sm_e hf
          subst hf
          exact hin4 _ rfl _ _ _ hw (lv_sub hl [2, 3, 1, 0] rfl)
theorem hd_X9_fine : yX9_fine.cls = "DishLiftModel" ∧ yX9_fine.cls ≠ "java/lang/invoke/MethodHandle" ∧ yX9_fine.cls ≠ "java/lang/invoke/VarHandle" ∧ (parseMethodDescriptor yX9_fine.desc).map (fun d => d.parameters.length) = some 1 := by decide +kernel
set_option maxHeartbeats 4000000 in
theorem mX9_fine (l : Launch) (X : XT) (hX : XOK X) (D : va_G) (d : Nat → ClassId) (ad : Nat → Nat) (fu : Int32) (ft : Int32) (ff : Int32) (fs : Int32) (fa : Int32) (fb : Int32) (fn : Int32) (fr : Int32) (Ww : Nat → Int32) (p1 : Int32) (res : Int32 × (Nat → Int32)) (hf : fX9_fine Ww p1 = some res) : MetI l yX9_fine (ws_ yX9_fine cX9_fine 2 (some .int)) { frames := 5, cells := 0, slots := 0, locals := 113 } [.ref (ad 0), .int p1] X D d [oM ad fu ft ff fs fa fb fn fr, ((ad 1), .inl (d 0, 1247, .inl Ww))] (fun r (_ : Unit) => r = res.1) (fun _ => [oM ad fu ft ff fs fa fb fn fr, ((ad 1), .inl (d 0, 1247, .inl res.2))]) := by
  refine MetI.of (by decide +kernel) (Nat.le_of_ble_eq_true rfl) ?_
  intro p e s m below meth c A cx hw ls hl
  have cx : Cx p s m _ meth c X D d A "DishLiftModel" cX9_fine 2 (some .int) "fine" := cx
  have cx' := cx
  obtain ⟨hx, hb, hr, hlk, hml, hown, hts, hK, hA, hXs, hnm⟩ := cx'
  have hl : lv_has ls 2 [(0, .ref (ad 0)), (1, .int p1)] := hl
  unfold fX9_fine at hf
  refine lv_aload_n hx hb dX9_fine_0 rfl (lv_at hl 0 rfl) ?_
  obtain ⟨q1, hcq1, hf⟩ := op_e hf
  refine x_VI (wr := []) (rest := []) [] hX cx hw hl.1 (mX9_isHouse l X hX D d ad fu ft ff fs fa fb fn fr Ww q1 hcq1) (lw_V q1402 q1404 qs46 q94 q1405) hd_X9_isHouse ⟨Nat.le_of_ble_eq_true rfl, Nat.le_of_ble_eq_true rfl⟩ (va_recv hK hw.1 (ci := 0) (q0 := 0) rfl rfl) rfl rfl (Nat.le_of_ble_eq_true rfl) dX9_fine_1 [0, 1] [] rfl rfl rfl rfl (by decide) ⟨(Nat.le_of_ble_eq_true rfl), (Nat.le_of_ble_eq_true rfl)⟩ (fun r u H locs hp hw => ?_)
  have hw : Wd D A s [oM ad fu ft ff fs fa fb fn fr, ((ad 1), .inl (d 0, 1247, .inl Ww))] H locs := hw
  subst r
  refine lv_if_ne (tgt := 10) hx hb dX9_fine_4 (by decide) (fun c4 => ?_) (fun c4 => ?_)
  · have hf := if_f hf c4
    refine lv_iload_n hx hb dX9_fine_10 rfl (lv_at hl 1 rfl) ?_
    refine lv_i2l (v := p1.toInt64) hx hb dX9_fine_11 rfl ?_
    refine lv_lconst (v := 0) hx hb dX9_fine_12 (by decide) ?_
    refine lv_ldc2 (v := 60) hx hb hown (hts _ q1479) dX9_fine_13 ?_
    obtain ⟨q2, hcq2, hf⟩ := op_e hf
    refine x_SI (wr := [oM ad fu ft ff fs fa fb fn fr, ((ad 1), .inl (d 0, 1247, .inl Ww))]) (rest := []) [.long p1.toInt64, .long 0, .long 60] hX cx hw hl.1 (mX9_in l X hX D d p1.toInt64 0 60 q2 hcq2) (lw_S q1315 q1316 q94 q1317) hd_X9_in ⟨Nat.le_of_ble_eq_true rfl, Nat.le_of_ble_eq_true rfl⟩ rfl rfl (Nat.le_of_ble_eq_true rfl) dX9_fine_16 [] [0, 1] rfl rfl rfl rfl (by decide) ⟨(Nat.le_of_ble_eq_true rfl), (Nat.le_of_ble_eq_true rfl)⟩ (fun r u H locs hp hw => ?_)
    have hw : Wd D A s [oM ad fu ft ff fs fa fb fn fr, ((ad 1), .inl (d 0, 1247, .inl Ww))] H locs := hw
    subst r
    refine lv_if_ne (tgt := 25) hx hb dX9_fine_19 (by decide) (fun c19 => ?_) (fun c19 => ?_)
    · have hf := if_f hf c19
      refine lv_aload_n hx hb dX9_fine_25 rfl (lv_at hl 0 rfl) ?_
      obtain ⟨q3, hcq3, hf⟩ := op_e hf
      refine x_VV (wr := []) (rest := []) [] hX cx hw hl.1 (mX9_tries l X hX D d ad fu ft ff fs fa fb fn fr Ww q3 hcq3) (lw_V q1499 q1501 qs60 q94 q1502) hd_X9_tries ⟨Nat.le_of_ble_eq_true rfl, Nat.le_of_ble_eq_true rfl⟩ (va_recv hK hw.1 (ci := 0) (q0 := 0) rfl rfl) rfl rfl (Nat.le_of_ble_eq_true rfl) dX9_fine_26 [0, 1] [] rfl rfl rfl rfl (by decide) ⟨(Nat.le_of_ble_eq_true rfl), (Nat.le_of_ble_eq_true rfl)⟩ (fun u H locs hp hw => ?_)
      have hw : Wd D A s [oM ad fu ft ff fs fa fb fn fr, ((ad 1), .inl (d 0, 1247, .inl q3))] H locs := hw
      refine lv_aload_n hx hb dX9_fine_29 rfl (lv_at hl 0 rfl) ?_
      refine lv_iload_n hx hb dX9_fine_30 rfl (lv_at hl 1 rfl) ?_
      obtain ⟨q4, hcq4, hf⟩ := op_e hf
      refine x_VV (wr := []) (rest := []) [.int p1] hX cx hw hl.1 (mX9_goesOn l X hX D d ad fu ft ff fs fa fb fn fr q3 p1 q4 hcq4) (lw_V q1503 q1505 qs61 q94 q1506) hd_X9_goesOn ⟨Nat.le_of_ble_eq_true rfl, Nat.le_of_ble_eq_true rfl⟩ (va_recv hK hw.1 (ci := 0) (q0 := 0) rfl rfl) rfl rfl (Nat.le_of_ble_eq_true rfl) dX9_fine_31 [0, 1] [] rfl rfl rfl rfl (by decide) ⟨(Nat.le_of_ble_eq_true rfl), (Nat.le_of_ble_eq_true rfl)⟩ (fun u H locs hp hw => ?_)
      have hw : Wd D A s [oM ad fu ft ff fs fa fb fn fr, ((ad 1), .inl (d 0, 1247, .inl q4))] H locs := hw
      refine lv_aload_n hx hb dX9_fine_34 rfl (lv_at hl 0 rfl) ?_
      refine lv_bipush (v := 43) hx hb dX9_fine_35 (by decide) ?_
      obtain ⟨q5, hcq5, hf⟩ := op_e hf
      refine x_VI (wr := []) (rest := []) [.int 43] hX cx hw hl.1 (mX9_fineOf l X hX D d ad fu ft ff fs fa fb fn fr q4 43 q5 hcq5) (lw_V q1528 q1530 qs63 q94 q1531) hd_X9_fineOf ⟨Nat.le_of_ble_eq_true rfl, Nat.le_of_ble_eq_true rfl⟩ (va_recv hK hw.1 (ci := 0) (q0 := 0) rfl rfl) rfl rfl (Nat.le_of_ble_eq_true rfl) dX9_fine_37 [0, 1] [] rfl rfl rfl rfl (by decide) ⟨(Nat.le_of_ble_eq_true rfl), (Nat.le_of_ble_eq_true rfl)⟩ (fun r u H locs hp hw => ?_)
      have hw : Wd D A s [oM ad fu ft ff fs fa fb fn fr, ((ad 1), .inl (d 0, 1247, .inl q4))] H locs := hw
      subst r
      have hf := sm_e hf
      subst hf
      exact x_retI cx hw rfl () rfl [0, 1] rfl rfl (Nat.le_of_ble_eq_true rfl) (Nat.le_of_ble_eq_true rfl) dX9_fine_40
    · have hf := if_t hf c19
      refine lv_ldc (v := (-1000001)) hx hb hown (hts _ q1319) dX9_fine_22 ?_
      have hf := sm_e hf
      subst hf
      exact x_retI cx hw rfl () rfl [0, 1] rfl rfl (Nat.le_of_ble_eq_true rfl) (Nat.le_of_ble_eq_true rfl) dX9_fine_24
  · have hf := if_t hf c4
    refine lv_ldc (v := (-1000002)) hx hb hown (hts _ q1397) dX9_fine_7 ?_
    have hf := sm_e hf
    subst hf
    exact x_retI cx hw rfl () rfl [0, 1] rfl rfl (Nat.le_of_ble_eq_true rfl) (Nat.le_of_ble_eq_true rfl) dX9_fine_9
theorem hd_X9_site : yX9_site.cls = "DishLiftModel" ∧ yX9_site.cls ≠ "java/lang/invoke/MethodHandle" ∧ yX9_site.cls ≠ "java/lang/invoke/VarHandle" ∧ (parseMethodDescriptor yX9_site.desc).map (fun d => d.parameters.length) = some 2 := by decide +kernel
set_option maxHeartbeats 4000000 in
theorem mX9_site (l : Launch) (X : XT) (hX : XOK X) (D : va_G) (d : Nat → ClassId) (ad : Nat → Nat) (fu : Int32) (ft : Int32) (ff : Int32) (fs : Int32) (fa : Int32) (fb : Int32) (fn : Int32) (fr : Int32) (Ww : Nat → Int32) (p1 : Int32) (p2 : Int32) (res : Int32 × (Nat → Int32)) (hf : fX9_site Ww p1 p2 = some res) : MetI l yX9_site (ws_ yX9_site cX9_site 7 (some .int)) { frames := 5, cells := 0, slots := 0, locals := 113 } [.ref (ad 0), .int p1, .int p2] X D d [oM ad fu ft ff fs fa fb fn fr, ((ad 1), .inl (d 0, 1247, .inl Ww))] (fun r (_ : Unit) => r = res.1) (fun _ => [oM ad fu ft ff fs fa fb fn fr, ((ad 1), .inl (d 0, 1247, .inl res.2))]) := by
  refine MetI.of (by decide +kernel) (Nat.le_of_ble_eq_true rfl) ?_
  intro p e s m below meth c A cx hw ls hl
  have cx : Cx p s m _ meth c X D d A "DishLiftModel" cX9_site 7 (some .int) "site" := cx
  have cx' := cx
  obtain ⟨hx, hb, hr, hlk, hml, hown, hts, hK, hA, hXs, hnm⟩ := cx'
  have hl : lv_has ls 7 [(0, .ref (ad 0)), (1, .int p1), (2, .int p2)] := hl
  unfold fX9_site at hf
  refine lv_aload_n hx hb dX9_site_0 rfl (lv_at hl 0 rfl) ?_
  obtain ⟨q1, hcq1, hf⟩ := op_e hf
  refine x_VI (wr := []) (rest := []) [] hX cx hw hl.1 (mX9_isHouse l X hX D d ad fu ft ff fs fa fb fn fr Ww q1 hcq1) (lw_V q1402 q1404 qs46 q94 q1405) hd_X9_isHouse ⟨Nat.le_of_ble_eq_true rfl, Nat.le_of_ble_eq_true rfl⟩ (va_recv hK hw.1 (ci := 0) (q0 := 0) rfl rfl) rfl rfl (Nat.le_of_ble_eq_true rfl) dX9_site_1 [0, 1] [] rfl rfl rfl rfl (by decide) ⟨(Nat.le_of_ble_eq_true rfl), (Nat.le_of_ble_eq_true rfl)⟩ (fun r u H locs hp hw => ?_)
  have hw : Wd D A s [oM ad fu ft ff fs fa fb fn fr, ((ad 1), .inl (d 0, 1247, .inl Ww))] H locs := hw
  subst r
  refine lv_if_ne (tgt := 10) hx hb dX9_site_4 (by decide) (fun c4 => ?_) (fun c4 => ?_)
  · have hf := if_f hf c4
    refine lv_iload_n hx hb dX9_site_10 rfl (lv_at hl 1 rfl) ?_
    refine lv_i2l (v := p1.toInt64) hx hb dX9_site_11 rfl ?_
    refine lv_lconst (v := 1) hx hb dX9_site_12 (by decide) ?_
    refine lv_ldc2 (v := 40) hx hb hown (hts _ q1465) dX9_site_13 ?_
    obtain ⟨q2, hcq2, hf⟩ := op_e hf
    refine x_SI (wr := [oM ad fu ft ff fs fa fb fn fr, ((ad 1), .inl (d 0, 1247, .inl Ww))]) (rest := []) [.long p1.toInt64, .long 1, .long 40] hX cx hw hl.1 (mX9_in l X hX D d p1.toInt64 1 40 q2 hcq2) (lw_S q1315 q1316 q94 q1317) hd_X9_in ⟨Nat.le_of_ble_eq_true rfl, Nat.le_of_ble_eq_true rfl⟩ rfl rfl (Nat.le_of_ble_eq_true rfl) dX9_site_16 [] [0, 1] rfl rfl rfl rfl (by decide) ⟨(Nat.le_of_ble_eq_true rfl), (Nat.le_of_ble_eq_true rfl)⟩ (fun r u H locs hp hw => ?_)
    have hw : Wd D A s [oM ad fu ft ff fs fa fb fn fr, ((ad 1), .inl (d 0, 1247, .inl Ww))] H locs := hw
    subst r
    refine lv_if_eq (tgt := 32) hx hb dX9_site_19 (by decide) (fun c19 => ?_) (fun c19 => ?_)
    · have hf := if_t hf c19
      refine lv_ldc (v := (-1000001)) hx hb hown (hts _ q1319) dX9_site_32 ?_
      have hf := sm_e hf
      subst hf
      exact x_retI cx hw rfl () rfl [0, 1] rfl rfl (Nat.le_of_ble_eq_true rfl) (Nat.le_of_ble_eq_true rfl) dX9_site_34
    · have hf := if_f hf c19
      refine lv_iload_n hx hb dX9_site_22 rfl (lv_at hl 2 rfl) ?_
      refine lv_i2l (v := p2.toInt64) hx hb dX9_site_23 rfl ?_
      refine lv_lconst (v := 0) hx hb dX9_site_24 (by decide) ?_
      refine lv_lconst (v := 1) hx hb dX9_site_25 (by decide) ?_
      obtain ⟨q3, hcq3, hf⟩ := op_e hf
      refine x_SI (wr := [oM ad fu ft ff fs fa fb fn fr, ((ad 1), .inl (d 0, 1247, .inl Ww))]) (rest := []) [.long p2.toInt64, .long 0, .long 1] hX cx hw hl.1 (mX9_in l X hX D d p2.toInt64 0 1 q3 hcq3) (lw_S q1315 q1316 q94 q1317) hd_X9_in ⟨Nat.le_of_ble_eq_true rfl, Nat.le_of_ble_eq_true rfl⟩ rfl rfl (Nat.le_of_ble_eq_true rfl) dX9_site_26 [] [0, 1] rfl rfl rfl rfl (by decide) ⟨(Nat.le_of_ble_eq_true rfl), (Nat.le_of_ble_eq_true rfl)⟩ (fun r u H locs hp hw => ?_)
      have hw : Wd D A s [oM ad fu ft ff fs fa fb fn fr, ((ad 1), .inl (d 0, 1247, .inl Ww))] H locs := hw
      subst r
      refine lv_if_ne (tgt := 35) hx hb dX9_site_29 (by decide) (fun c29 => ?_) (fun c29 => ?_)
      · have hf := if_f hf c29
        refine lv_iconst (v := 0) hx hb dX9_site_35 (by decide) ?_
        refine lv_istore_n (lv' := [(3, .int 0), (0, .ref (ad 0)), (1, .int p1), (2, .int p2)]) hx hb dX9_site_36 rfl hl (by decide) rfl (fun ls hl => ?_)
        refine lv_iconst (v := (-1)) hx hb dX9_site_37 (by decide) ?_
        refine lv_istore (lv' := [(4, .int (-1)), (3, .int 0), (0, .ref (ad 0)), (1, .int p1), (2, .int p2)]) hx hb dX9_site_38 hl (by decide) rfl (fun ls hl => ?_)
        refine lv_iconst (v := 0) hx hb dX9_site_40 (by decide) ?_
        refine lv_istore (lv' := [(5, .int 0), (4, .int (-1)), (3, .int 0), (0, .ref (ad 0)), (1, .int p1), (2, .int p2)]) hx hb dX9_site_41 hl (by decide) rfl (fun ls hl => ?_)
        obtain ⟨r4, hlp43, hf⟩ := op_e hf
        refine x_join (A := A) (D := D) (J := 119) (nL := 7) (cells' := 0) (slots' := 0) (st := []) [oM ad fu ft ff fs fa fb fn fr, ((ad 1), .inl (d 0, 1247, .inl r4.2.2))] [(2, .int p2), (3, .int r4.1), (4, .int r4.2.1)] (fun H locs ls hw hl => ?_) (fun hK43 => ?_)
        · refine lv_iload_n hx hb dX9_site_119 rfl (lv_at hl 0 rfl) ?_
          refine lv_if_ne (tgt := 127) hx hb dX9_site_120 (by decide) (fun c120 => ?_) (fun c120 => ?_)
          · have hf := if_f hf c120
            refine lv_iload hx hb dX9_site_127 (lv_at hl 2 rfl) ?_
            have hf := sm_e hf
            subst hf
            exact x_retI cx hw rfl () rfl [0, 1] rfl rfl (Nat.le_of_ble_eq_true rfl) (Nat.le_of_ble_eq_true rfl) dX9_site_129
          · have hf := if_t hf c120
            refine lv_iload_n hx hb dX9_site_123 rfl (lv_at hl 1 rfl) ?_
            refine lv_goto (tgt := 129) hx hb dX9_site_124 (by decide) ?_
            have hf := sm_e hf
            subst hf
            exact x_retI cx hw rfl () rfl [0, 1] rfl rfl (Nat.le_of_ble_eq_true rfl) (Nat.le_of_ble_eq_true rfl) dX9_site_129
        · refine x_lp hlp43 (fun x43 => [oM ad fu ft ff fs fa fb fn fr, ((ad 1), .inl (d 0, 1247, .inl x43.2.2.2))]) (fun x43 => [(0, .ref (ad 0)), (1, .int p1), (2, .int p2), (3, .int x43.1), (4, .int x43.2.1), (5, .int x43.2.2.1)]) hw (lv_sub hl [3, 4, 5, 2, 1, 0] rfl) (fun x43 y43 hf hin43 hout43 H locs ls hw hl => ?_)
          have hw : Wd D A s [oM ad fu ft ff fs fa fb fn fr, ((ad 1), .inl (d 0, 1247, .inl x43.2.2.2))] H locs := hw
          have hl : lv_has ls 7 [(0, .ref (ad 0)), (1, .int p1), (2, .int p2), (3, .int x43.1), (4, .int x43.2.1), (5, .int x43.2.2.1)] := hl
          refine lv_iload hx hb dX9_site_43 (lv_at hl 5 rfl) ?_
          refine lv_aload_n hx hb dX9_site_45 rfl (lv_at hl 0 rfl) ?_
          refine va_get (ci := 0) (C := RX9) (T := TX9) (N := 19) hx hb hts in_X9 hown hK hw.1 0 rfl rfl 0 (by decide) (hts _ q1248) (fun _ h9 => h9) rfl dX9_site_46 ?_
          refine lv_iconst (v := 1) hx hb dX9_site_49 (by decide) ?_
          obtain ⟨v5, hv, hf⟩ := op_e hf
          refine x_iald (q0 := 1) cx hw rfl hv dX9_site_50 ?_
          refine lv_icmp_ge (tgt := 119) hx hb dX9_site_51 (by decide) (fun c51 => ?_) (fun c51 => ?_)
          · have hf := if_t hf c51
            have hf := sm_e hf
            subst hf
            have hz := hout43 _ rfl
            subst hz
            exact hK43 _ _ _ hw (lv_sub hl [2, 3, 4] rfl)
          · have hf := if_f hf c51
            refine lv_aload_n hx hb dX9_site_54 rfl (lv_at hl 0 rfl) ?_
            obtain ⟨q6, hcq6, hf⟩ := op_e hf
            refine x_VV (wr := []) (rest := []) [] hX cx hw hl.1 (mX9_tries l X hX D d ad fu ft ff fs fa fb fn fr x43.2.2.2 q6 hcq6) (lw_V q1499 q1501 qs60 q94 q1502) hd_X9_tries ⟨Nat.le_of_ble_eq_true rfl, Nat.le_of_ble_eq_true rfl⟩ (va_recv hK hw.1 (ci := 0) (q0 := 0) rfl rfl) rfl rfl (Nat.le_of_ble_eq_true rfl) dX9_site_55 [0, 1] [] rfl rfl rfl rfl (by decide) ⟨(Nat.le_of_ble_eq_true rfl), (Nat.le_of_ble_eq_true rfl)⟩ (fun u H locs hp hw => ?_)
            have hw : Wd D A s [oM ad fu ft ff fs fa fb fn fr, ((ad 1), .inl (d 0, 1247, .inl q6))] H locs := hw
            refine lv_aload_n hx hb dX9_site_58 rfl (lv_at hl 0 rfl) ?_
            refine va_get (ci := 0) (C := RX9) (T := TX9) (N := 19) hx hb hts in_X9 hown hK hw.1 0 rfl rfl 0 (by decide) (hts _ q1248) (fun _ h9 => h9) rfl dX9_site_59 ?_
            refine lv_bipush (v := 47) hx hb dX9_site_62 (by decide) ?_
            refine lv_iload hx hb dX9_site_64 (lv_at hl 5 rfl) ?_
            obtain ⟨w7, hv, hf⟩ := op_e hf
            refine x_iast (q0 := 1) cx hw rfl hv dX9_site_66 (fun H locs hw => ?_)
            have hw : Wd D A s [oM ad fu ft ff fs fa fb fn fr, ((ad 1), .inl (d 0, 1247, .inl w7))] H locs := hw
            refine lv_aload_n hx hb dX9_site_67 rfl (lv_at hl 0 rfl) ?_
            refine lv_iload_n hx hb dX9_site_68 rfl (lv_at hl 1 rfl) ?_
            obtain ⟨q8, hcq8, hf⟩ := op_e hf
            refine x_VV (wr := []) (rest := []) [.int p1] hX cx hw hl.1 (mX9_goesOn l X hX D d ad fu ft ff fs fa fb fn fr w7 p1 q8 hcq8) (lw_V q1503 q1505 qs61 q94 q1506) hd_X9_goesOn ⟨Nat.le_of_ble_eq_true rfl, Nat.le_of_ble_eq_true rfl⟩ (va_recv hK hw.1 (ci := 0) (q0 := 0) rfl rfl) rfl rfl (Nat.le_of_ble_eq_true rfl) dX9_site_69 [0, 1] [] rfl rfl rfl rfl (by decide) ⟨(Nat.le_of_ble_eq_true rfl), (Nat.le_of_ble_eq_true rfl)⟩ (fun u H locs hp hw => ?_)
            have hw : Wd D A s [oM ad fu ft ff fs fa fb fn fr, ((ad 1), .inl (d 0, 1247, .inl q8))] H locs := hw
            refine lv_aload_n hx hb dX9_site_72 rfl (lv_at hl 0 rfl) ?_
            refine lv_bipush (v := 43) hx hb dX9_site_73 (by decide) ?_
            obtain ⟨q9, hcq9, hf⟩ := op_e hf
            refine x_VI (wr := []) (rest := []) [.int 43] hX cx hw hl.1 (mX9_fineOf l X hX D d ad fu ft ff fs fa fb fn fr q8 43 q9 hcq9) (lw_V q1528 q1530 qs63 q94 q1531) hd_X9_fineOf ⟨Nat.le_of_ble_eq_true rfl, Nat.le_of_ble_eq_true rfl⟩ (va_recv hK hw.1 (ci := 0) (q0 := 0) rfl rfl) rfl rfl (Nat.le_of_ble_eq_true rfl) dX9_site_75 [0, 1] [] rfl rfl rfl rfl (by decide) ⟨(Nat.le_of_ble_eq_true rfl), (Nat.le_of_ble_eq_true rfl)⟩ (fun r u H locs hp hw => ?_)
            have hw : Wd D A s [oM ad fu ft ff fs fa fb fn fr, ((ad 1), .inl (d 0, 1247, .inl q8))] H locs := hw
            subst r
            obtain ⟨q10, hcq10, hf⟩ := op_e hf
            refine x_SI (wr := [oM ad fu ft ff fs fa fb fn fr, ((ad 1), .inl (d 0, 1247, .inl q8))]) (rest := []) [.int q9] hX cx hw hl.1 (mX9_ones l X hX D d q9 q10 hcq10) (lw_S q1423 q1424 q94 q1425) hd_X9_ones ⟨Nat.le_of_ble_eq_true rfl, Nat.le_of_ble_eq_true rfl⟩ rfl rfl (Nat.le_of_ble_eq_true rfl) dX9_site_78 [] [0, 1] rfl rfl rfl rfl (by decide) ⟨(Nat.le_of_ble_eq_true rfl), (Nat.le_of_ble_eq_true rfl)⟩ (fun r u H locs hp hw => ?_)
            have hw : Wd D A s [oM ad fu ft ff fs fa fb fn fr, ((ad 1), .inl (d 0, 1247, .inl q8))] H locs := hw
            subst r
            refine lv_istore (lv' := [(6, .int q10), (0, .ref (ad 0)), (1, .int p1), (2, .int p2), (3, .int x43.1), (4, .int x43.2.1), (5, .int x43.2.2.1)]) hx hb dX9_site_81 hl (by decide) rfl (fun ls hl => ?_)
            refine lv_iload hx hb dX9_site_83 (lv_at hl 0 rfl) ?_
            refine lv_iload hx hb dX9_site_85 (lv_at hl 5 rfl) ?_
            obtain ⟨j11, ha, hr⟩ := op_e hf
            refine x_join (A := A) (D := D) (J := 96) (nL := 7) (cells' := 0) (slots' := 0) (st := [.int j11]) [oM ad fu ft ff fs fa fb fn fr, ((ad 1), .inl (d 0, 1247, .inl q8))] [(0, .ref (ad 0)), (1, .int p1), (2, .int p2), (4, .int x43.2.1), (5, .int x43.2.2.1), (6, .int q10)] (fun H locs ls hw hl => ?_) (fun hKj96_j11 => ?_)
            · have hf := hr
              refine lv_istore_n (lv' := [(3, .int j11), (0, .ref (ad 0)), (1, .int p1), (2, .int p2), (4, .int x43.2.1), (5, .int x43.2.2.1), (6, .int q10)]) hx hb dX9_site_96 rfl hl (by decide) rfl (fun ls hl => ?_)
              refine lv_iload hx hb dX9_site_97 (lv_at hl 6 rfl) ?_
              refine lv_iload hx hb dX9_site_99 (lv_at hl 4 rfl) ?_
              refine lv_icmp_le (tgt := 109) hx hb dX9_site_101 (by decide) (fun c101 => ?_) (fun c101 => ?_)
              · have hf := if_t hf c101
                refine lv_iload hx hb dX9_site_109 (lv_at hl 4 rfl) ?_
                refine lv_istore (lv' := [(4, .int x43.2.1), (3, .int j11), (0, .ref (ad 0)), (1, .int p1), (2, .int p2), (5, .int x43.2.2.1), (6, .int q10)]) hx hb dX9_site_111 hl (by decide) rfl (fun ls hl => ?_)
                refine lv_iinc (v := (x43.2.2.1 + 1)) (lv' := [(5, .int (x43.2.2.1 + 1)), (4, .int x43.2.1), (3, .int j11), (0, .ref (ad 0)), (1, .int p1), (2, .int p2), (6, .int q10)]) hx hb dX9_site_113 hl (k := 5) rfl (by first | rfl | decide) (by decide) rfl (fun ls hl => ?_)
                refine lv_goto (tgt := 43) hx hb dX9_site_116 (by decide) ?_
                have hf := sm_e hf
                subst hf
                exact hin43 _ rfl _ _ _ hw (lv_sub hl [3, 4, 5, 2, 1, 0] rfl)
              · have hf := if_f hf c101
                refine lv_iload hx hb dX9_site_104 (lv_at hl 6 rfl) ?_
                refine lv_goto (tgt := 111) hx hb dX9_site_106 (by decide) ?_
                refine lv_istore (lv' := [(4, .int q10), (3, .int j11), (0, .ref (ad 0)), (1, .int p1), (2, .int p2), (5, .int x43.2.2.1), (6, .int q10)]) hx hb dX9_site_111 hl (by decide) rfl (fun ls hl => ?_)
                refine lv_iinc (v := (x43.2.2.1 + 1)) (lv' := [(5, .int (x43.2.2.1 + 1)), (4, .int q10), (3, .int j11), (0, .ref (ad 0)), (1, .int p1), (2, .int p2), (6, .int q10)]) hx hb dX9_site_113 hl (k := 5) rfl (by first | rfl | decide) (by decide) rfl (fun ls hl => ?_)
                refine lv_goto (tgt := 43) hx hb dX9_site_116 (by decide) ?_
                have hf := sm_e hf
                subst hf
                exact hin43 _ rfl _ _ _ hw (lv_sub hl [3, 4, 5, 2, 1, 0] rfl)
            · have hf := ha
              refine lv_icmp_le (tgt := 95) hx hb dX9_site_87 (by decide) (fun c87 => ?_) (fun c87 => ?_)
              · have hf := if_t hf c87
                refine lv_iload_n hx hb dX9_site_95 rfl (lv_at hl 4 rfl) ?_
                have hf := sm_e hf
                subst hf
                exact hKj96_j11 _ _ _ hw (lv_sub hl [1, 2, 3, 5, 6, 0] rfl)
              · have hf := if_f hf c87
                refine lv_iload hx hb dX9_site_90 (lv_at hl 6 rfl) ?_
                refine lv_goto (tgt := 96) hx hb dX9_site_92 (by decide) ?_
                have hf := sm_e hf
                subst hf
                exact hKj96_j11 _ _ _ hw (lv_sub hl [1, 2, 3, 5, 6, 0] rfl)
      · have hf := if_t hf c29
        refine lv_ldc (v := (-1000001)) hx hb hown (hts _ q1319) dX9_site_32 ?_
        have hf := sm_e hf
        subst hf
        exact x_retI cx hw rfl () rfl [0, 1] rfl rfl (Nat.le_of_ble_eq_true rfl) (Nat.le_of_ble_eq_true rfl) dX9_site_34
  · have hf := if_t hf c4
    refine lv_ldc (v := (-1000002)) hx hb hown (hts _ q1397) dX9_site_7 ?_
    have hf := sm_e hf
    subst hf
    exact x_retI cx hw rfl () rfl [0, 1] rfl rfl (Nat.le_of_ble_eq_true rfl) (Nat.le_of_ble_eq_true rfl) dX9_site_9
theorem hd_X9_need : yX9_need.cls = "DishLiftModel" ∧ yX9_need.cls ≠ "java/lang/invoke/MethodHandle" ∧ yX9_need.cls ≠ "java/lang/invoke/VarHandle" ∧ (parseMethodDescriptor yX9_need.desc).map (fun d => d.parameters.length) = some 2 := by decide +kernel
set_option maxHeartbeats 4000000 in
theorem mX9_need (l : Launch) (X : XT) (hX : XOK X) (D : va_G) (d : Nat → ClassId) (ad : Nat → Nat) (fu : Int32) (ft : Int32) (ff : Int32) (fs : Int32) (fa : Int32) (fb : Int32) (fn : Int32) (fr : Int32) (Ww : Nat → Int32) (p1 : Int32) (p2 : Int32) (res : Int32 × (Nat → Int32)) (hf : fX9_need Ww p1 p2 = some res) : MetI l yX9_need (ws_ yX9_need cX9_need 5 (some .int)) { frames := 5, cells := 0, slots := 0, locals := 113 } [.ref (ad 0), .int p1, .int p2] X D d [oM ad fu ft ff fs fa fb fn fr, ((ad 1), .inl (d 0, 1247, .inl Ww))] (fun r (_ : Unit) => r = res.1) (fun _ => [oM ad fu ft ff fs fa fb fn fr, ((ad 1), .inl (d 0, 1247, .inl res.2))]) := by
  refine MetI.of (by decide +kernel) (Nat.le_of_ble_eq_true rfl) ?_
  intro p e s m below meth c A cx hw ls hl
  have cx : Cx p s m _ meth c X D d A "DishLiftModel" cX9_need 5 (some .int) "need" := cx
  have cx' := cx
  obtain ⟨hx, hb, hr, hlk, hml, hown, hts, hK, hA, hXs, hnm⟩ := cx'
  have hl : lv_has ls 5 [(0, .ref (ad 0)), (1, .int p1), (2, .int p2)] := hl
  unfold fX9_need at hf
  refine lv_aload_n hx hb dX9_need_0 rfl (lv_at hl 0 rfl) ?_
  obtain ⟨q1, hcq1, hf⟩ := op_e hf
  refine x_VI (wr := []) (rest := []) [] hX cx hw hl.1 (mX9_isHouse l X hX D d ad fu ft ff fs fa fb fn fr Ww q1 hcq1) (lw_V q1402 q1404 qs46 q94 q1405) hd_X9_isHouse ⟨Nat.le_of_ble_eq_true rfl, Nat.le_of_ble_eq_true rfl⟩ (va_recv hK hw.1 (ci := 0) (q0 := 0) rfl rfl) rfl rfl (Nat.le_of_ble_eq_true rfl) dX9_need_1 [0, 1] [] rfl rfl rfl rfl (by decide) ⟨(Nat.le_of_ble_eq_true rfl), (Nat.le_of_ble_eq_true rfl)⟩ (fun r u H locs hp hw => ?_)
  have hw : Wd D A s [oM ad fu ft ff fs fa fb fn fr, ((ad 1), .inl (d 0, 1247, .inl Ww))] H locs := hw
  subst r
  refine lv_if_ne (tgt := 10) hx hb dX9_need_4 (by decide) (fun c4 => ?_) (fun c4 => ?_)
  · have hf := if_f hf c4
    refine lv_iload_n hx hb dX9_need_10 rfl (lv_at hl 1 rfl) ?_
    refine lv_i2l (v := p1.toInt64) hx hb dX9_need_11 rfl ?_
    refine lv_lconst (v := 1) hx hb dX9_need_12 (by decide) ?_
    refine lv_ldc2 (v := 40) hx hb hown (hts _ q1465) dX9_need_13 ?_
    obtain ⟨q2, hcq2, hf⟩ := op_e hf
    refine x_SI (wr := [oM ad fu ft ff fs fa fb fn fr, ((ad 1), .inl (d 0, 1247, .inl Ww))]) (rest := []) [.long p1.toInt64, .long 1, .long 40] hX cx hw hl.1 (mX9_in l X hX D d p1.toInt64 1 40 q2 hcq2) (lw_S q1315 q1316 q94 q1317) hd_X9_in ⟨Nat.le_of_ble_eq_true rfl, Nat.le_of_ble_eq_true rfl⟩ rfl rfl (Nat.le_of_ble_eq_true rfl) dX9_need_16 [] [0, 1] rfl rfl rfl rfl (by decide) ⟨(Nat.le_of_ble_eq_true rfl), (Nat.le_of_ble_eq_true rfl)⟩ (fun r u H locs hp hw => ?_)
    have hw : Wd D A s [oM ad fu ft ff fs fa fb fn fr, ((ad 1), .inl (d 0, 1247, .inl Ww))] H locs := hw
    subst r
    refine lv_if_eq (tgt := 32) hx hb dX9_need_19 (by decide) (fun c19 => ?_) (fun c19 => ?_)
    · have hf := if_t hf c19
      refine lv_ldc (v := (-1000001)) hx hb hown (hts _ q1319) dX9_need_32 ?_
      have hf := sm_e hf
      subst hf
      exact x_retI cx hw rfl () rfl [0, 1] rfl rfl (Nat.le_of_ble_eq_true rfl) (Nat.le_of_ble_eq_true rfl) dX9_need_34
    · have hf := if_f hf c19
      refine lv_iload_n hx hb dX9_need_22 rfl (lv_at hl 2 rfl) ?_
      refine lv_i2l (v := p2.toInt64) hx hb dX9_need_23 rfl ?_
      refine lv_lconst (v := 0) hx hb dX9_need_24 (by decide) ?_
      refine lv_lconst (v := 1) hx hb dX9_need_25 (by decide) ?_
      obtain ⟨q3, hcq3, hf⟩ := op_e hf
      refine x_SI (wr := [oM ad fu ft ff fs fa fb fn fr, ((ad 1), .inl (d 0, 1247, .inl Ww))]) (rest := []) [.long p2.toInt64, .long 0, .long 1] hX cx hw hl.1 (mX9_in l X hX D d p2.toInt64 0 1 q3 hcq3) (lw_S q1315 q1316 q94 q1317) hd_X9_in ⟨Nat.le_of_ble_eq_true rfl, Nat.le_of_ble_eq_true rfl⟩ rfl rfl (Nat.le_of_ble_eq_true rfl) dX9_need_26 [] [0, 1] rfl rfl rfl rfl (by decide) ⟨(Nat.le_of_ble_eq_true rfl), (Nat.le_of_ble_eq_true rfl)⟩ (fun r u H locs hp hw => ?_)
      have hw : Wd D A s [oM ad fu ft ff fs fa fb fn fr, ((ad 1), .inl (d 0, 1247, .inl Ww))] H locs := hw
      subst r
      refine lv_if_ne (tgt := 35) hx hb dX9_need_29 (by decide) (fun c29 => ?_) (fun c29 => ?_)
      · have hf := if_f hf c29
        refine lv_iload_n hx hb dX9_need_35 rfl (lv_at hl 2 rfl) ?_
        obtain ⟨j4, ha, hr⟩ := op_e hf
        refine x_join (A := A) (D := D) (J := 45) (nL := 5) (cells' := 0) (slots' := 0) (st := [.int j4]) [oM ad fu ft ff fs fa fb fn fr, ((ad 1), .inl (d 0, 1247, .inl Ww))] [(0, .ref (ad 0)), (1, .int p1), (2, .int p2)] (fun H locs ls hw hl => ?_) (fun hKj45_j4 => ?_)
        · have hf := hr
          refine lv_istore_n (lv' := [(3, .int j4), (0, .ref (ad 0)), (1, .int p1), (2, .int p2)]) hx hb dX9_need_45 rfl hl (by decide) rfl (fun ls hl => ?_)
          refine lv_iconst (v := 1) hx hb dX9_need_46 (by decide) ?_
          refine lv_istore (lv' := [(4, .int 1), (3, .int j4), (0, .ref (ad 0)), (1, .int p1), (2, .int p2)]) hx hb dX9_need_47 hl (by decide) rfl (fun ls hl => ?_)
          refine x_lp hf (fun x49 => [oM ad fu ft ff fs fa fb fn fr, ((ad 1), .inl (d 0, 1247, .inl x49.2))]) (fun x49 => [(0, .ref (ad 0)), (1, .int p1), (2, .int p2), (3, .int j4), (4, .int x49.1)]) hw (lv_sub hl [2, 3, 4, 1, 0] rfl) (fun x49 y49 hf hin49 hout49 H locs ls hw hl => ?_)
          have hw : Wd D A s [oM ad fu ft ff fs fa fb fn fr, ((ad 1), .inl (d 0, 1247, .inl x49.2))] H locs := hw
          have hl : lv_has ls 5 [(0, .ref (ad 0)), (1, .int p1), (2, .int p2), (3, .int j4), (4, .int x49.1)] := hl
          refine lv_iload hx hb dX9_need_49 (lv_at hl 4 rfl) ?_
          refine lv_iload_n hx hb dX9_need_51 rfl (lv_at hl 3 rfl) ?_
          refine lv_icmp_gt (tgt := 111) hx hb dX9_need_52 (by decide) (fun c52 => ?_) (fun c52 => ?_)
          · have hf := if_t hf c52
            refine lv_ldc (v := (-1000000)) hx hb hown (hts _ q1519) dX9_need_111 ?_
            have hf := sm_e hf
            subst hf
            have hz := hout49 _ rfl
            subst hz
            exact x_retI cx hw rfl () rfl [0, 1] rfl rfl (Nat.le_of_ble_eq_true rfl) (Nat.le_of_ble_eq_true rfl) dX9_need_113
          · have hf := if_f hf c52
            refine lv_aload_n hx hb dX9_need_55 rfl (lv_at hl 0 rfl) ?_
            obtain ⟨q5, hcq5, hf⟩ := op_e hf
            refine x_VV (wr := []) (rest := []) [] hX cx hw hl.1 (mX9_tries l X hX D d ad fu ft ff fs fa fb fn fr x49.2 q5 hcq5) (lw_V q1499 q1501 qs60 q94 q1502) hd_X9_tries ⟨Nat.le_of_ble_eq_true rfl, Nat.le_of_ble_eq_true rfl⟩ (va_recv hK hw.1 (ci := 0) (q0 := 0) rfl rfl) rfl rfl (Nat.le_of_ble_eq_true rfl) dX9_need_56 [0, 1] [] rfl rfl rfl rfl (by decide) ⟨(Nat.le_of_ble_eq_true rfl), (Nat.le_of_ble_eq_true rfl)⟩ (fun u H locs hp hw => ?_)
            have hw : Wd D A s [oM ad fu ft ff fs fa fb fn fr, ((ad 1), .inl (d 0, 1247, .inl q5))] H locs := hw
            refine lv_aload_n hx hb dX9_need_59 rfl (lv_at hl 0 rfl) ?_
            refine va_get (ci := 0) (C := RX9) (T := TX9) (N := 19) hx hb hts in_X9 hown hK hw.1 0 rfl rfl 0 (by decide) (hts _ q1248) (fun _ h9 => h9) rfl dX9_need_60 ?_
            refine lv_bipush (v := 43) hx hb dX9_need_63 (by decide) ?_
            refine lv_iload_n hx hb dX9_need_65 rfl (lv_at hl 2 rfl) ?_
            obtain ⟨j6, ha, hr⟩ := op_e hf
            refine x_join (A := A) (D := D) (J := 74) (nL := 5) (cells' := 0) (slots' := 0) (st := [.int j6, .int 43, .ref (ad 1)]) [oM ad fu ft ff fs fa fb fn fr, ((ad 1), .inl (d 0, 1247, .inl q5))] [(0, .ref (ad 0)), (1, .int p1), (2, .int p2), (3, .int j4), (4, .int x49.1)] (fun H locs ls hw hl => ?_) (fun hKj74_j6 => ?_)
            · have hf := hr
              refine lv_iadd hx hb dX9_need_74 ?_
              refine lv_iload hx hb dX9_need_75 (lv_at hl 4 rfl) ?_
              obtain ⟨w7, hv, hf⟩ := op_e hf
              refine x_iast (q0 := 1) cx hw rfl hv dX9_need_77 (fun H locs hw => ?_)
              have hw : Wd D A s [oM ad fu ft ff fs fa fb fn fr, ((ad 1), .inl (d 0, 1247, .inl w7))] H locs := hw
              refine lv_aload_n hx hb dX9_need_78 rfl (lv_at hl 0 rfl) ?_
              refine lv_iload_n hx hb dX9_need_79 rfl (lv_at hl 1 rfl) ?_
              obtain ⟨q8, hcq8, hf⟩ := op_e hf
              refine x_VV (wr := []) (rest := []) [.int p1] hX cx hw hl.1 (mX9_goesOn l X hX D d ad fu ft ff fs fa fb fn fr w7 p1 q8 hcq8) (lw_V q1503 q1505 qs61 q94 q1506) hd_X9_goesOn ⟨Nat.le_of_ble_eq_true rfl, Nat.le_of_ble_eq_true rfl⟩ (va_recv hK hw.1 (ci := 0) (q0 := 0) rfl rfl) rfl rfl (Nat.le_of_ble_eq_true rfl) dX9_need_80 [0, 1] [] rfl rfl rfl rfl (by decide) ⟨(Nat.le_of_ble_eq_true rfl), (Nat.le_of_ble_eq_true rfl)⟩ (fun u H locs hp hw => ?_)
              have hw : Wd D A s [oM ad fu ft ff fs fa fb fn fr, ((ad 1), .inl (d 0, 1247, .inl q8))] H locs := hw
              refine lv_aload_n hx hb dX9_need_83 rfl (lv_at hl 0 rfl) ?_
              refine lv_bipush (v := 43) hx hb dX9_need_84 (by decide) ?_
              obtain ⟨q9, hcq9, hf⟩ := op_e hf
              refine x_VI (wr := []) (rest := []) [.int 43] hX cx hw hl.1 (mX9_servedOf l X hX D d ad fu ft ff fs fa fb fn fr q8 43 q9 hcq9) (lw_V q1449 q1451 qs56 q94 q1452) hd_X9_servedOf ⟨Nat.le_of_ble_eq_true rfl, Nat.le_of_ble_eq_true rfl⟩ (va_recv hK hw.1 (ci := 0) (q0 := 0) rfl rfl) rfl rfl (Nat.le_of_ble_eq_true rfl) dX9_need_86 [0, 1] [] rfl rfl rfl rfl (by decide) ⟨(Nat.le_of_ble_eq_true rfl), (Nat.le_of_ble_eq_true rfl)⟩ (fun r u H locs hp hw => ?_)
              have hw : Wd D A s [oM ad fu ft ff fs fa fb fn fr, ((ad 1), .inl (d 0, 1247, .inl q8))] H locs := hw
              subst r
              refine lv_iconst (v := 1) hx hb dX9_need_89 (by decide) ?_
              refine lv_aload_n hx hb dX9_need_90 rfl (lv_at hl 0 rfl) ?_
              refine va_get (ci := 0) (C := RX9) (T := TX9) (N := 19) hx hb hts in_X9 hown hK hw.1 0 rfl rfl 0 (by decide) (hts _ q1248) (fun _ h9 => h9) rfl dX9_need_91 ?_
              refine lv_iconst (v := 0) hx hb dX9_need_94 (by decide) ?_
              obtain ⟨v10, hv, hf⟩ := op_e hf
              refine x_iald (q0 := 1) cx hw rfl hv dX9_need_95 ?_
              refine lv_ishl hx hb dX9_need_96 ?_
              refine lv_iconst (v := 1) hx hb dX9_need_97 (by decide) ?_
              refine lv_isub hx hb dX9_need_98 ?_
              refine lv_icmp_ne (tgt := 105) hx hb dX9_need_99 (by decide) (fun c99 => ?_) (fun c99 => ?_)
              · have hf := if_f hf c99
                refine lv_iinc (v := (x49.1 + 1)) (lv' := [(4, .int (x49.1 + 1)), (0, .ref (ad 0)), (1, .int p1), (2, .int p2), (3, .int j4)]) hx hb dX9_need_105 hl (k := 4) rfl (by first | rfl | decide) (by decide) rfl (fun ls hl => ?_)
                refine lv_goto (tgt := 49) hx hb dX9_need_108 (by decide) ?_
                have hf := sm_e hf
                subst hf
                exact hin49 _ rfl _ _ _ hw (lv_sub hl [1, 2, 3, 4, 0] rfl)
              · have hf := if_t hf c99
                refine lv_iload hx hb dX9_need_102 (lv_at hl 4 rfl) ?_
                have hf := sm_e hf
                subst hf
                have hz := hout49 _ rfl
                subst hz
                exact x_retI cx hw rfl () rfl [0, 1] rfl rfl (Nat.le_of_ble_eq_true rfl) (Nat.le_of_ble_eq_true rfl) dX9_need_104
            · have hf := ha
              refine lv_if_ne (tgt := 73) hx hb dX9_need_66 (by decide) (fun c66 => ?_) (fun c66 => ?_)
              · have hf := if_f hf c66
                refine lv_iconst (v := 3) hx hb dX9_need_73 (by decide) ?_
                have hf := sm_e hf
                subst hf
                exact hKj74_j6 _ _ _ hw hl
              · have hf := if_t hf c66
                refine lv_iconst (v := 2) hx hb dX9_need_69 (by decide) ?_
                refine lv_goto (tgt := 74) hx hb dX9_need_70 (by decide) ?_
                have hf := sm_e hf
                subst hf
                exact hKj74_j6 _ _ _ hw hl
        · have hf := ha
          refine lv_if_ne (tgt := 43) hx hb dX9_need_36 (by decide) (fun c36 => ?_) (fun c36 => ?_)
          · have hf := if_f hf c36
            refine lv_bipush (v := 40) hx hb dX9_need_43 (by decide) ?_
            have hf := sm_e hf
            subst hf
            exact hKj45_j4 _ _ _ hw hl
          · have hf := if_t hf c36
            refine lv_iconst (v := 4) hx hb dX9_need_39 (by decide) ?_
            refine lv_goto (tgt := 45) hx hb dX9_need_40 (by decide) ?_
            have hf := sm_e hf
            subst hf
            exact hKj45_j4 _ _ _ hw hl
      · have hf := if_t hf c29
        refine lv_ldc (v := (-1000001)) hx hb hown (hts _ q1319) dX9_need_32 ?_
        have hf := sm_e hf
        subst hf
        exact x_retI cx hw rfl () rfl [0, 1] rfl rfl (Nat.le_of_ble_eq_true rfl) (Nat.le_of_ble_eq_true rfl) dX9_need_34
  · have hf := if_t hf c4
    refine lv_ldc (v := (-1000002)) hx hb hown (hts _ q1397) dX9_need_7 ?_
    have hf := sm_e hf
    subst hf
    exact x_retI cx hw rfl () rfl [0, 1] rfl rfl (Nat.le_of_ble_eq_true rfl) (Nat.le_of_ble_eq_true rfl) dX9_need_9
theorem hd_X9_waitsBy : yX9_waitsBy.cls = "DishLiftModel" ∧ yX9_waitsBy.cls ≠ "java/lang/invoke/MethodHandle" ∧ yX9_waitsBy.cls ≠ "java/lang/invoke/VarHandle" ∧ (parseMethodDescriptor yX9_waitsBy.desc).map (fun d => d.parameters.length) = some 1 := by decide +kernel
set_option maxHeartbeats 4000000 in
theorem mX9_waitsBy (l : Launch) (X : XT) (hX : XOK X) (D : va_G) (d : Nat → ClassId) (ad : Nat → Nat) (fu : Int32) (ft : Int32) (ff : Int32) (fs : Int32) (fa : Int32) (fb : Int32) (fn : Int32) (fr : Int32) (Ww : Nat → Int32) (OR : Nat → Int32) (p1 : Int32) (res : Int32 × (Nat → Int32)) (hf : fX9_waitsBy Ww OR p1 = some res) : MetI l yX9_waitsBy (ws_ yX9_waitsBy cX9_waitsBy 4 (some .int)) { frames := 4, cells := 0, slots := 0, locals := 91 } [.ref (ad 0), .int p1] X D d [oM ad fu ft ff fs fa fb fn fr, ((ad 1), .inl (d 0, 1247, .inl Ww)), ((ad 7), .inl (d 0, 7, .inl OR))] (fun r (_ : Unit) => r = res.1) (fun _ => [oM ad fu ft ff fs fa fb fn fr, ((ad 1), .inl (d 0, 1247, .inl res.2)), ((ad 7), .inl (d 0, 7, .inl OR))]) := by
  refine MetI.of (by decide +kernel) (Nat.le_of_ble_eq_true rfl) ?_
  intro p e s m below meth c A cx hw ls hl
  have cx : Cx p s m _ meth c X D d A "DishLiftModel" cX9_waitsBy 4 (some .int) "waitsBy" := cx
  have cx' := cx
  obtain ⟨hx, hb, hr, hlk, hml, hown, hts, hK, hA, hXs, hnm⟩ := cx'
  have hl : lv_has ls 4 [(0, .ref (ad 0)), (1, .int p1)] := hl
  unfold fX9_waitsBy at hf
  refine lv_aload_n hx hb dX9_waitsBy_0 rfl (lv_at hl 0 rfl) ?_
  obtain ⟨q1, hcq1, hf⟩ := op_e hf
  refine x_VV (wr := [((ad 7), .inl (d 0, 7, .inl OR))]) (rest := []) [] hX cx hw hl.1 (mX9_tries l X hX D d ad fu ft ff fs fa fb fn fr Ww q1 hcq1) (lw_V q1499 q1501 qs60 q94 q1502) hd_X9_tries ⟨Nat.le_of_ble_eq_true rfl, Nat.le_of_ble_eq_true rfl⟩ (va_recv hK hw.1 (ci := 0) (q0 := 0) rfl rfl) rfl rfl (Nat.le_of_ble_eq_true rfl) dX9_waitsBy_1 [0, 1] [2] rfl rfl rfl rfl (by decide) ⟨(Nat.le_of_ble_eq_true rfl), (Nat.le_of_ble_eq_true rfl)⟩ (fun u H locs hp hw => ?_)
  have hw : Wd D A s [((ad 7), .inl (d 0, 7, .inl OR)), oM ad fu ft ff fs fa fb fn fr, ((ad 1), .inl (d 0, 1247, .inl q1))] H locs := hw
  refine lv_iconst (v := 0) hx hb dX9_waitsBy_4 (by decide) ?_
  refine lv_istore_n (lv' := [(2, .int 0), (0, .ref (ad 0)), (1, .int p1)]) hx hb dX9_waitsBy_5 rfl hl (by decide) rfl (fun ls hl => ?_)
  obtain ⟨r2, hlp6, hf⟩ := op_e hf
  refine x_join (A := A) (D := D) (J := 37) (nL := 4) (cells' := 0) (slots' := 0) (st := []) [oM ad fu ft ff fs fa fb fn fr, ((ad 1), .inl (d 0, 1247, .inl r2)), ((ad 7), .inl (d 0, 7, .inl OR))] [(0, .ref (ad 0)), (1, .int p1)] (fun H locs ls hw hl => ?_) (fun hK6 => ?_)
  · refine lv_iconst (v := 0) hx hb dX9_waitsBy_37 (by decide) ?_
    refine lv_istore_n (lv' := [(2, .int 0), (0, .ref (ad 0)), (1, .int p1)]) hx hb dX9_waitsBy_38 rfl hl (by decide) rfl (fun ls hl => ?_)
    refine lv_iconst (v := 0) hx hb dX9_waitsBy_39 (by decide) ?_
    refine lv_istore_n (lv' := [(3, .int 0), (2, .int 0), (0, .ref (ad 0)), (1, .int p1)]) hx hb dX9_waitsBy_40 rfl hl (by decide) rfl (fun ls hl => ?_)
    obtain ⟨r3, hlp41, hf⟩ := op_e hf
    refine x_join (A := A) (D := D) (J := 77) (nL := 4) (cells' := 0) (slots' := 0) (st := []) [oM ad fu ft ff fs fa fb fn fr, ((ad 1), .inl (d 0, 1247, .inl r3.2)), ((ad 7), .inl (d 0, 7, .inl OR))] [(2, .int r3.1)] (fun H locs ls hw hl => ?_) (fun hK41 => ?_)
    · refine lv_iload_n hx hb dX9_waitsBy_77 rfl (lv_at hl 0 rfl) ?_
      have hf := sm_e hf
      subst hf
      exact x_retI cx hw rfl () rfl [0, 1, 2] rfl rfl (Nat.le_of_ble_eq_true rfl) (Nat.le_of_ble_eq_true rfl) dX9_waitsBy_78
    · refine x_lp hlp41 (fun x41 => [oM ad fu ft ff fs fa fb fn fr, ((ad 1), .inl (d 0, 1247, .inl x41.2.2)), ((ad 7), .inl (d 0, 7, .inl OR))]) (fun x41 => [(0, .ref (ad 0)), (1, .int p1), (2, .int x41.1), (3, .int x41.2.1)]) hw (lv_sub hl [2, 3, 1, 0] rfl) (fun x41 y41 hf hin41 hout41 H locs ls hw hl => ?_)
      have hw : Wd D A s [oM ad fu ft ff fs fa fb fn fr, ((ad 1), .inl (d 0, 1247, .inl x41.2.2)), ((ad 7), .inl (d 0, 7, .inl OR))] H locs := hw
      have hl : lv_has ls 4 [(0, .ref (ad 0)), (1, .int p1), (2, .int x41.1), (3, .int x41.2.1)] := hl
      refine lv_iload_n hx hb dX9_waitsBy_41 rfl (lv_at hl 3 rfl) ?_
      refine lv_iload_n hx hb dX9_waitsBy_42 rfl (lv_at hl 1 rfl) ?_
      refine lv_icmp_gt (tgt := 77) hx hb dX9_waitsBy_43 (by decide) (fun c43 => ?_) (fun c43 => ?_)
      · have hf := if_t hf c43
        have hf := sm_e hf
        subst hf
        have hz := hout41 _ rfl
        subst hz
        exact hK41 _ _ _ hw (lv_sub hl [2] rfl)
      · have hf := if_f hf c43
        refine lv_iload_n hx hb dX9_waitsBy_46 rfl (lv_at hl 2 rfl) ?_
        refine lv_aload_n hx hb dX9_waitsBy_47 rfl (lv_at hl 0 rfl) ?_
        refine va_get (ci := 0) (C := RX9) (T := TX9) (N := 19) hx hb hts in_X9 hown hK hw.1 0 rfl rfl 0 (by decide) (hts _ q1248) (fun _ h9 => h9) rfl dX9_waitsBy_48 ?_
        refine lv_iconst (v := 0) hx hb dX9_waitsBy_51 (by decide) ?_
        obtain ⟨v4, hv, hf⟩ := op_e hf
        refine x_iald (q0 := 1) cx hw rfl hv dX9_waitsBy_52 ?_
        refine lv_aload_n hx hb dX9_waitsBy_53 rfl (lv_at hl 0 rfl) ?_
        refine lv_bipush (v := 43) hx hb dX9_waitsBy_54 (by decide) ?_
        obtain ⟨q5, hcq5, hf⟩ := op_e hf
        refine x_VI (wr := [((ad 7), .inl (d 0, 7, .inl OR))]) (rest := [.int v4, .int x41.1]) [.int 43] hX cx hw hl.1 (mX9_servedOf l X hX D d ad fu ft ff fs fa fb fn fr x41.2.2 43 q5 hcq5) (lw_V q1449 q1451 qs56 q94 q1452) hd_X9_servedOf ⟨Nat.le_of_ble_eq_true rfl, Nat.le_of_ble_eq_true rfl⟩ (va_recv hK hw.1 (ci := 0) (q0 := 0) rfl rfl) rfl rfl (Nat.le_of_ble_eq_true rfl) dX9_waitsBy_56 [0, 1] [2] rfl rfl rfl rfl (by decide) ⟨(Nat.le_of_ble_eq_true rfl), (Nat.le_of_ble_eq_true rfl)⟩ (fun r u H locs hp hw => ?_)
        have hw : Wd D A s [((ad 7), .inl (d 0, 7, .inl OR)), oM ad fu ft ff fs fa fb fn fr, ((ad 1), .inl (d 0, 1247, .inl x41.2.2))] H locs := hw
        subst r
        obtain ⟨q6, hcq6, hf⟩ := op_e hf
        refine x_SI (wr := [((ad 7), .inl (d 0, 7, .inl OR)), oM ad fu ft ff fs fa fb fn fr, ((ad 1), .inl (d 0, 1247, .inl x41.2.2))]) (rest := [.int v4, .int x41.1]) [.int q5] hX cx hw hl.1 (mX9_ones l X hX D d q5 q6 hcq6) (lw_S q1423 q1424 q94 q1425) hd_X9_ones ⟨Nat.le_of_ble_eq_true rfl, Nat.le_of_ble_eq_true rfl⟩ rfl rfl (Nat.le_of_ble_eq_true rfl) dX9_waitsBy_59 [] [0, 1, 2] rfl rfl rfl rfl (by decide) ⟨(Nat.le_of_ble_eq_true rfl), (Nat.le_of_ble_eq_true rfl)⟩ (fun r u H locs hp hw => ?_)
        have hw : Wd D A s [((ad 7), .inl (d 0, 7, .inl OR)), oM ad fu ft ff fs fa fb fn fr, ((ad 1), .inl (d 0, 1247, .inl x41.2.2))] H locs := hw
        subst r
        refine lv_isub hx hb dX9_waitsBy_62 ?_
        refine lv_iadd hx hb dX9_waitsBy_63 ?_
        refine lv_istore_n (lv' := [(2, .int (x41.1 + (v4 - q6))), (0, .ref (ad 0)), (1, .int p1), (3, .int x41.2.1)]) hx hb dX9_waitsBy_64 rfl hl (by decide) rfl (fun ls hl => ?_)
        refine lv_aload_n hx hb dX9_waitsBy_65 rfl (lv_at hl 1 rfl) ?_
        refine lv_bipush (v := 43) hx hb dX9_waitsBy_66 (by decide) ?_
        obtain ⟨q7, hcq7, hf⟩ := op_e hf
        refine x_VV (wr := [((ad 7), .inl (d 0, 7, .inl OR))]) (rest := []) [.int 43] hX cx hw hl.1 (mX9_passes l X hX D d ad fu ft ff fs fa fb fn fr x41.2.2 43 q7 hcq7) (lw_V q1411 q1413 qs48 q94 q1414) hd_X9_passes ⟨Nat.le_of_ble_eq_true rfl, Nat.le_of_ble_eq_true rfl⟩ (va_recv hK hw.1 (ci := 0) (q0 := 1) rfl rfl) rfl rfl (Nat.le_of_ble_eq_true rfl) dX9_waitsBy_68 [1, 2] [0] rfl rfl rfl rfl (by decide) ⟨(Nat.le_of_ble_eq_true rfl), (Nat.le_of_ble_eq_true rfl)⟩ (fun u H locs hp hw => ?_)
        have hw : Wd D A s [((ad 7), .inl (d 0, 7, .inl OR)), oM ad fu ft ff fs fa fb fn fr, ((ad 1), .inl (d 0, 1247, .inl q7))] H locs := hw
        refine lv_iinc (v := (x41.2.1 + 1)) (lv' := [(3, .int (x41.2.1 + 1)), (2, .int (x41.1 + (v4 - q6))), (0, .ref (ad 0)), (1, .int p1)]) hx hb dX9_waitsBy_71 hl (k := 3) rfl (by first | rfl | decide) (by decide) rfl (fun ls hl => ?_)
        refine lv_goto (tgt := 41) hx hb dX9_waitsBy_74 (by decide) ?_
        have hf := sm_e hf
        subst hf
        exact hin41 _ rfl _ _ _ (hw.sub [1, 2, 0] rfl rfl) (lv_sub hl [2, 3, 1, 0] rfl)
  · refine x_lp hlp6 (fun x6 => [oM ad fu ft ff fs fa fb fn fr, ((ad 1), .inl (d 0, 1247, .inl x6.2)), ((ad 7), .inl (d 0, 7, .inl OR))]) (fun x6 => [(0, .ref (ad 0)), (1, .int p1), (2, .int x6.1)]) (hw.sub [1, 2, 0] rfl rfl) (lv_sub hl [1, 2, 0] rfl) (fun x6 y6 hf hin6 hout6 H locs ls hw hl => ?_)
    have hw : Wd D A s [oM ad fu ft ff fs fa fb fn fr, ((ad 1), .inl (d 0, 1247, .inl x6.2)), ((ad 7), .inl (d 0, 7, .inl OR))] H locs := hw
    have hl : lv_has ls 4 [(0, .ref (ad 0)), (1, .int p1), (2, .int x6.1)] := hl
    refine lv_iload_n hx hb dX9_waitsBy_6 rfl (lv_at hl 2 rfl) ?_
    refine lv_aload_n hx hb dX9_waitsBy_7 rfl (lv_at hl 0 rfl) ?_
    refine va_get (ci := 0) (C := RX9) (T := TX9) (N := 19) hx hb hts in_X9 hown hK hw.1 0 rfl rfl 0 (by decide) (hts _ q1248) (fun _ h9 => h9) rfl dX9_waitsBy_8 ?_
    refine lv_iconst (v := 0) hx hb dX9_waitsBy_11 (by decide) ?_
    obtain ⟨v8, hv, hf⟩ := op_e hf
    refine x_iald (q0 := 1) cx hw rfl hv dX9_waitsBy_12 ?_
    refine lv_icmp_ge (tgt := 37) hx hb dX9_waitsBy_13 (by decide) (fun c13 => ?_) (fun c13 => ?_)
    · have hf := if_t hf c13
      have hf := sm_e hf
      subst hf
      have hz := hout6 _ rfl
      subst hz
      exact hK6 _ _ _ hw (lv_sub hl [0, 1] rfl)
    · have hf := if_f hf c13
      refine lv_aload_n hx hb dX9_waitsBy_16 rfl (lv_at hl 0 rfl) ?_
      refine va_get (ci := 0) (C := RX9) (T := TX9) (N := 19) hx hb hts in_X9 hown hK hw.1 0 rfl rfl 0 (by decide) (hts _ q1248) (fun _ h9 => h9) rfl dX9_waitsBy_17 ?_
      refine lv_bipush (v := 80) hx hb dX9_waitsBy_20 (by decide) ?_
      refine lv_iload_n hx hb dX9_waitsBy_22 rfl (lv_at hl 2 rfl) ?_
      refine lv_iadd hx hb dX9_waitsBy_23 ?_
      refine lv_aload_n hx hb dX9_waitsBy_24 rfl (lv_at hl 0 rfl) ?_
      refine va_get (ci := 0) (C := RX9) (T := TX9) (N := 19) hx hb hts in_X9 hown hK hw.1 0 rfl rfl 13 (by decide) (hts _ q1261) (fun _ h9 => h9) rfl dX9_waitsBy_25 ?_
      refine lv_iload_n hx hb dX9_waitsBy_28 rfl (lv_at hl 2 rfl) ?_
      obtain ⟨v9, hv, hf⟩ := op_e hf
      refine x_iald (q0 := 2) cx hw rfl hv dX9_waitsBy_29 ?_
      obtain ⟨w10, hv, hf⟩ := op_e hf
      refine x_iast (q0 := 1) cx hw rfl hv dX9_waitsBy_30 (fun H locs hw => ?_)
      have hw : Wd D A s [oM ad fu ft ff fs fa fb fn fr, ((ad 1), .inl (d 0, 1247, .inl w10)), ((ad 7), .inl (d 0, 7, .inl OR))] H locs := hw
      refine lv_iinc (v := (x6.1 + 1)) (lv' := [(2, .int (x6.1 + 1)), (0, .ref (ad 0)), (1, .int p1)]) hx hb dX9_waitsBy_31 hl (k := 2) rfl (by first | rfl | decide) (by decide) rfl (fun ls hl => ?_)
      refine lv_goto (tgt := 6) hx hb dX9_waitsBy_34 (by decide) ?_
      have hf := sm_e hf
      subst hf
      exact hin6 _ rfl _ _ _ hw (lv_sub hl [1, 2, 0] rfl)
theorem hd_X9_bestRanks : yX9_bestRanks.cls = "DishLiftModel" ∧ yX9_bestRanks.cls ≠ "java/lang/invoke/MethodHandle" ∧ yX9_bestRanks.cls ≠ "java/lang/invoke/VarHandle" ∧ (parseMethodDescriptor yX9_bestRanks.desc).map (fun d => d.parameters.length) = some 1 := by decide +kernel
set_option maxHeartbeats 4000000 in
theorem mX9_bestRanks (l : Launch) (X : XT) (hX : XOK X) (D : va_G) (d : Nat → ClassId) (ad : Nat → Nat) (fu : Int32) (ft : Int32) (ff : Int32) (fs : Int32) (fa : Int32) (fb : Int32) (fn : Int32) (fr : Int32) (Ww : Nat → Int32) (OR : Nat → Int32) (BO : Nat → Int32) (p1 : Int32) (res : Int32 × (Nat → Int32) × (Nat → Int32) × (Nat → Int32)) (hf : fX9_bestRanks Ww OR BO p1 = some res) : MetI l yX9_bestRanks (ws_ yX9_bestRanks cX9_bestRanks 7 (some .int)) { frames := 5, cells := 0, slots := 0, locals := 114 } [.ref (ad 0), .int p1] X D d [oM ad fu ft ff fs fa fb fn fr, ((ad 1), .inl (d 0, 1247, .inl Ww)), ((ad 7), .inl (d 0, 7, .inl OR)), ((ad 8), .inl (d 0, 6, .inl BO))] (fun r (_ : Unit) => r = res.1) (fun _ => [oM ad fu ft ff fs fa fb fn fr, ((ad 1), .inl (d 0, 1247, .inl res.2.1)), ((ad 7), .inl (d 0, 7, .inl res.2.2.1)), ((ad 8), .inl (d 0, 6, .inl res.2.2.2))]) := by
  refine MetI.of (by decide +kernel) (Nat.le_of_ble_eq_true rfl) ?_
  intro p e s m below meth c A cx hw ls hl
  have cx : Cx p s m _ meth c X D d A "DishLiftModel" cX9_bestRanks 7 (some .int) "bestRanks" := cx
  have cx' := cx
  obtain ⟨hx, hb, hr, hlk, hml, hown, hts, hK, hA, hXs, hnm⟩ := cx'
  have hl : lv_has ls 7 [(0, .ref (ad 0)), (1, .int p1)] := hl
  unfold fX9_bestRanks at hf
  refine lv_ldc (v := 100000000) hx hb hown (hts _ q1548) dX9_bestRanks_0 ?_
  refine lv_istore_n (lv' := [(2, .int 100000000), (0, .ref (ad 0)), (1, .int p1)]) hx hb dX9_bestRanks_2 rfl hl (by decide) rfl (fun ls hl => ?_)
  refine lv_iconst (v := 0) hx hb dX9_bestRanks_3 (by decide) ?_
  refine lv_istore_n (lv' := [(3, .int 0), (2, .int 100000000), (0, .ref (ad 0)), (1, .int p1)]) hx hb dX9_bestRanks_4 rfl hl (by decide) rfl (fun ls hl => ?_)
  refine lv_aload_n hx hb dX9_bestRanks_5 rfl (lv_at hl 2 rfl) ?_
  refine va_get (ci := 0) (C := RX9) (T := TX9) (N := 19) hx hb hts in_X9 hown hK hw.1 0 rfl rfl 13 (by decide) (hts _ q1261) (fun _ h9 => h9) rfl dX9_bestRanks_6 ?_
  refine lv_iconst (v := 0) hx hb dX9_bestRanks_9 (by decide) ?_
  refine lv_iconst (v := (-1)) hx hb dX9_bestRanks_10 (by decide) ?_
  obtain ⟨w1, hv, hf⟩ := op_e hf
  refine x_iast (q0 := 2) cx hw rfl hv dX9_bestRanks_11 (fun H locs hw => ?_)
  have hw : Wd D A s [oM ad fu ft ff fs fa fb fn fr, ((ad 1), .inl (d 0, 1247, .inl Ww)), ((ad 7), .inl (d 0, 7, .inl w1)), ((ad 8), .inl (d 0, 6, .inl BO))] H locs := hw
  obtain ⟨r2, hlp12, hf⟩ := op_e hf
  refine x_join (A := A) (D := D) (J := 209) (nL := 7) (cells' := 0) (slots' := 0) (st := []) [oM ad fu ft ff fs fa fb fn fr, ((ad 1), .inl (d 0, 1247, .inl r2.2.1)), ((ad 7), .inl (d 0, 7, .inl r2.2.2.1)), ((ad 8), .inl (d 0, 6, .inl r2.2.2.2))] [(2, .int r2.1)] (fun H locs ls hw hl => ?_) (fun hK12 => ?_)
  · refine lv_iload_n hx hb dX9_bestRanks_209 rfl (lv_at hl 0 rfl) ?_
    have hf := sm_e hf
    subst hf
    exact x_retI cx hw rfl () rfl [0, 1, 2, 3] rfl rfl (Nat.le_of_ble_eq_true rfl) (Nat.le_of_ble_eq_true rfl) dX9_bestRanks_210
  · refine x_lp hlp12 (fun x12 => [oM ad fu ft ff fs fa fb fn fr, ((ad 1), .inl (d 0, 1247, .inl x12.2.2.1)), ((ad 7), .inl (d 0, 7, .inl x12.2.2.2.1)), ((ad 8), .inl (d 0, 6, .inl x12.2.2.2.2))]) (fun x12 => [(0, .ref (ad 0)), (1, .int p1), (2, .int x12.1), (3, .int x12.2.1)]) hw (lv_sub hl [2, 3, 1, 0] rfl) (fun x12 y12 hf hin12 hout12 H locs ls hw hl => ?_)
    have hw : Wd D A s [oM ad fu ft ff fs fa fb fn fr, ((ad 1), .inl (d 0, 1247, .inl x12.2.2.1)), ((ad 7), .inl (d 0, 7, .inl x12.2.2.2.1)), ((ad 8), .inl (d 0, 6, .inl x12.2.2.2.2))] H locs := hw
    have hl : lv_has ls 7 [(0, .ref (ad 0)), (1, .int p1), (2, .int x12.1), (3, .int x12.2.1)] := hl
    refine lv_iload_n hx hb dX9_bestRanks_12 rfl (lv_at hl 3 rfl) ?_
    refine lv_if_lt (tgt := 209) hx hb dX9_bestRanks_13 (by decide) (fun c13 => ?_) (fun c13 => ?_)
    · have hf := if_t hf c13
      have hf := sm_e hf
      subst hf
      have hz := hout12 _ rfl
      subst hz
      exact hK12 _ _ _ hw (lv_sub hl [2] rfl)
    · have hf := if_f hf c13
      refine lv_iconst (v := 0) hx hb dX9_bestRanks_16 (by decide) ?_
      refine lv_istore (lv' := [(4, .int 0), (0, .ref (ad 0)), (1, .int p1), (2, .int x12.1), (3, .int x12.2.1)]) hx hb dX9_bestRanks_17 hl (by decide) rfl (fun ls hl => ?_)
      refine lv_iconst (v := 0) hx hb dX9_bestRanks_19 (by decide) ?_
      refine lv_istore (lv' := [(5, .int 0), (4, .int 0), (0, .ref (ad 0)), (1, .int p1), (2, .int x12.1), (3, .int x12.2.1)]) hx hb dX9_bestRanks_20 hl (by decide) rfl (fun ls hl => ?_)
      obtain ⟨r3, hlp22, hf⟩ := op_e hf
      refine x_join (A := A) (D := D) (J := 48) (nL := 7) (cells' := 0) (slots' := 0) (st := []) [oM ad fu ft ff fs fa fb fn fr, ((ad 1), .inl (d 0, 1247, .inl x12.2.2.1)), ((ad 7), .inl (d 0, 7, .inl x12.2.2.2.1)), ((ad 8), .inl (d 0, 6, .inl x12.2.2.2.2))] [(0, .ref (ad 0)), (1, .int p1), (2, .int x12.1), (3, .int x12.2.1), (4, .int r3)] (fun H locs ls hw hl => ?_) (fun hK22 => ?_)
      · refine lv_iload_n hx hb dX9_bestRanks_48 rfl (lv_at hl 3 rfl) ?_
        refine lv_aload_n hx hb dX9_bestRanks_49 rfl (lv_at hl 0 rfl) ?_
        refine va_get (ci := 0) (C := RX9) (T := TX9) (N := 19) hx hb hts in_X9 hown hK hw.1 0 rfl rfl 0 (by decide) (hts _ q1248) (fun _ h9 => h9) rfl dX9_bestRanks_50 ?_
        refine lv_iconst (v := 0) hx hb dX9_bestRanks_53 (by decide) ?_
        obtain ⟨v4, hv, hf⟩ := op_e hf
        refine x_iald (q0 := 1) cx hw rfl hv dX9_bestRanks_54 ?_
        refine lv_icmp_ne (tgt := 124) hx hb dX9_bestRanks_55 (by decide) (fun c55 => ?_) (fun c55 => ?_)
        · have hf := if_f hf c55
          refine lv_aload_n hx hb dX9_bestRanks_124 rfl (lv_at hl 0 rfl) ?_
          refine va_get (ci := 0) (C := RX9) (T := TX9) (N := 19) hx hb hts in_X9 hown hK hw.1 0 rfl rfl 13 (by decide) (hts _ q1261) (fun _ h9 => h9) rfl dX9_bestRanks_125 ?_
          refine lv_iload_n hx hb dX9_bestRanks_128 rfl (lv_at hl 3 rfl) ?_
          obtain ⟨v10, hv, hf⟩ := op_e hf
          refine x_iald (q0 := 2) cx hw rfl hv dX9_bestRanks_129 ?_
          refine lv_iconst (v := 1) hx hb dX9_bestRanks_130 (by decide) ?_
          refine lv_iadd hx hb dX9_bestRanks_131 ?_
          refine lv_istore (lv' := [(5, .int (v10 + 1)), (0, .ref (ad 0)), (1, .int p1), (2, .int x12.1), (3, .int x12.2.1), (4, .int r3)]) hx hb dX9_bestRanks_132 hl (by decide) rfl (fun ls hl => ?_)
          obtain ⟨r11, hlp134, hf⟩ := op_e hf
          refine x_join (A := A) (D := D) (J := 161) (nL := 7) (cells' := 0) (slots' := 0) (st := []) [oM ad fu ft ff fs fa fb fn fr, ((ad 1), .inl (d 0, 1247, .inl x12.2.2.1)), ((ad 7), .inl (d 0, 7, .inl x12.2.2.2.1)), ((ad 8), .inl (d 0, 6, .inl x12.2.2.2.2))] [(0, .ref (ad 0)), (1, .int p1), (2, .int x12.1), (3, .int x12.2.1), (5, .int r11)] (fun H locs ls hw hl => ?_) (fun hK134 => ?_)
          · refine lv_aload_n hx hb dX9_bestRanks_161 rfl (lv_at hl 0 rfl) ?_
            refine va_get (ci := 0) (C := RX9) (T := TX9) (N := 19) hx hb hts in_X9 hown hK hw.1 0 rfl rfl 13 (by decide) (hts _ q1261) (fun _ h9 => h9) rfl dX9_bestRanks_162 ?_
            refine lv_iload_n hx hb dX9_bestRanks_165 rfl (lv_at hl 3 rfl) ?_
            refine lv_iload hx hb dX9_bestRanks_166 (lv_at hl 4 rfl) ?_
            obtain ⟨w12, hv, hf⟩ := op_e hf
            refine x_iast (q0 := 2) cx hw rfl hv dX9_bestRanks_168 (fun H locs hw => ?_)
            have hw : Wd D A s [oM ad fu ft ff fs fa fb fn fr, ((ad 1), .inl (d 0, 1247, .inl x12.2.2.1)), ((ad 7), .inl (d 0, 7, .inl w12)), ((ad 8), .inl (d 0, 6, .inl x12.2.2.2.2))] H locs := hw
            refine lv_iload_n hx hb dX9_bestRanks_169 rfl (lv_at hl 3 rfl) ?_
            refine lv_iload hx hb dX9_bestRanks_170 (lv_at hl 4 rfl) ?_
            refine lv_aload_n hx hb dX9_bestRanks_172 rfl (lv_at hl 0 rfl) ?_
            refine va_get (ci := 0) (C := RX9) (T := TX9) (N := 19) hx hb hts in_X9 hown hK hw.1 0 rfl rfl 0 (by decide) (hts _ q1248) (fun _ h9 => h9) rfl dX9_bestRanks_173 ?_
            refine lv_iconst (v := 0) hx hb dX9_bestRanks_176 (by decide) ?_
            obtain ⟨v13, hv, hf⟩ := op_e hf
            refine x_iald (q0 := 1) cx hw rfl hv dX9_bestRanks_177 ?_
            obtain ⟨j14, ha, hr⟩ := op_e hf
            refine x_join (A := A) (D := D) (J := 186) (nL := 7) (cells' := 0) (slots' := 0) (st := [.int j14, .int x12.2.1]) [oM ad fu ft ff fs fa fb fn fr, ((ad 1), .inl (d 0, 1247, .inl x12.2.2.1)), ((ad 7), .inl (d 0, 7, .inl w12)), ((ad 8), .inl (d 0, 6, .inl x12.2.2.2.2))] [(0, .ref (ad 0)), (1, .int p1), (2, .int x12.1), (5, .int r11)] (fun H locs ls hw hl => ?_) (fun hKj186_j14 => ?_)
            · have hf := hr
              refine lv_iadd hx hb dX9_bestRanks_186 ?_
              refine lv_istore_n (lv' := [(3, .int (x12.2.1 + j14)), (0, .ref (ad 0)), (1, .int p1), (2, .int x12.1), (5, .int r11)]) hx hb dX9_bestRanks_187 rfl hl (by decide) rfl (fun ls hl => ?_)
              refine lv_iload hx hb dX9_bestRanks_188 (lv_at hl 4 rfl) ?_
              refine lv_aload_n hx hb dX9_bestRanks_190 rfl (lv_at hl 1 rfl) ?_
              refine va_get (ci := 0) (C := RX9) (T := TX9) (N := 19) hx hb hts in_X9 hown hK hw.1 0 rfl rfl 0 (by decide) (hts _ q1248) (fun _ h9 => h9) rfl dX9_bestRanks_191 ?_
              refine lv_iconst (v := 0) hx hb dX9_bestRanks_194 (by decide) ?_
              obtain ⟨v15, hv, hf⟩ := op_e hf
              refine x_iald (q0 := 1) cx hw rfl hv dX9_bestRanks_195 ?_
              refine lv_icmp_ge (tgt := 206) hx hb dX9_bestRanks_196 (by decide) (fun c196 => ?_) (fun c196 => ?_)
              · have hf := if_t hf c196
                refine lv_goto (tgt := 12) hx hb dX9_bestRanks_206 (by decide) ?_
                have hf := sm_e hf
                subst hf
                exact hin12 _ rfl _ _ _ hw (lv_sub hl [1, 2, 3, 0] rfl)
              · have hf := if_f hf c196
                refine lv_aload_n hx hb dX9_bestRanks_199 rfl (lv_at hl 1 rfl) ?_
                refine va_get (ci := 0) (C := RX9) (T := TX9) (N := 19) hx hb hts in_X9 hown hK hw.1 0 rfl rfl 13 (by decide) (hts _ q1261) (fun _ h9 => h9) rfl dX9_bestRanks_200 ?_
                refine lv_iload_n hx hb dX9_bestRanks_203 rfl (lv_at hl 0 rfl) ?_
                refine lv_iconst (v := (-1)) hx hb dX9_bestRanks_204 (by decide) ?_
                obtain ⟨w16, hv, hf⟩ := op_e hf
                refine x_iast (q0 := 2) cx hw rfl hv dX9_bestRanks_205 (fun H locs hw => ?_)
                have hw : Wd D A s [oM ad fu ft ff fs fa fb fn fr, ((ad 1), .inl (d 0, 1247, .inl x12.2.2.1)), ((ad 7), .inl (d 0, 7, .inl w16)), ((ad 8), .inl (d 0, 6, .inl x12.2.2.2.2))] H locs := hw
                refine lv_goto (tgt := 12) hx hb dX9_bestRanks_206 (by decide) ?_
                have hf := sm_e hf
                subst hf
                exact hin12 _ rfl _ _ _ hw (lv_sub hl [1, 2, 3, 0] rfl)
            · have hf := ha
              refine lv_icmp_ne (tgt := 185) hx hb dX9_bestRanks_178 (by decide) (fun c178 => ?_) (fun c178 => ?_)
              · have hf := if_f hf c178
                refine lv_iconst (v := 1) hx hb dX9_bestRanks_185 (by decide) ?_
                have hf := sm_e hf
                subst hf
                exact hKj186_j14 _ _ _ hw (lv_sub hl [0, 1, 2, 4] rfl)
              · have hf := if_t hf c178
                refine lv_iconst (v := (-1)) hx hb dX9_bestRanks_181 (by decide) ?_
                refine lv_goto (tgt := 186) hx hb dX9_bestRanks_182 (by decide) ?_
                have hf := sm_e hf
                subst hf
                exact hKj186_j14 _ _ _ hw (lv_sub hl [0, 1, 2, 4] rfl)
          · refine x_lp hlp134 (fun x134 => [oM ad fu ft ff fs fa fb fn fr, ((ad 1), .inl (d 0, 1247, .inl x12.2.2.1)), ((ad 7), .inl (d 0, 7, .inl x12.2.2.2.1)), ((ad 8), .inl (d 0, 6, .inl x12.2.2.2.2))]) (fun x134 => [(0, .ref (ad 0)), (1, .int p1), (2, .int x12.1), (3, .int x12.2.1), (4, .int r3), (5, .int x134)]) hw (lv_sub hl [1, 2, 3, 4, 5, 0] rfl) (fun x134 y134 hf hin134 hout134 H locs ls hw hl => ?_)
            have hw : Wd D A s [oM ad fu ft ff fs fa fb fn fr, ((ad 1), .inl (d 0, 1247, .inl x12.2.2.1)), ((ad 7), .inl (d 0, 7, .inl x12.2.2.2.1)), ((ad 8), .inl (d 0, 6, .inl x12.2.2.2.2))] H locs := hw
            have hl : lv_has ls 7 [(0, .ref (ad 0)), (1, .int p1), (2, .int x12.1), (3, .int x12.2.1), (4, .int r3), (5, .int x134)] := hl
            refine lv_iload hx hb dX9_bestRanks_134 (lv_at hl 5 rfl) ?_
            refine lv_aload_n hx hb dX9_bestRanks_136 rfl (lv_at hl 0 rfl) ?_
            refine va_get (ci := 0) (C := RX9) (T := TX9) (N := 19) hx hb hts in_X9 hown hK hw.1 0 rfl rfl 0 (by decide) (hts _ q1248) (fun _ h9 => h9) rfl dX9_bestRanks_137 ?_
            refine lv_iconst (v := 0) hx hb dX9_bestRanks_140 (by decide) ?_
            obtain ⟨v17, hv, hf⟩ := op_e hf
            refine x_iald (q0 := 1) cx hw rfl hv dX9_bestRanks_141 ?_
            refine lv_icmp_ge (tgt := 161) hx hb dX9_bestRanks_142 (by decide) (fun c142 => ?_) (fun c142 => ?_)
            · have hf := if_t hf c142
              have hf := sm_e hf
              subst hf
              have hz := hout134 _ rfl
              subst hz
              exact hK134 _ _ _ hw (lv_sub hl [0, 1, 2, 3, 5] rfl)
            · have hf := if_f hf c142
              refine lv_iload hx hb dX9_bestRanks_145 (lv_at hl 4 rfl) ?_
              refine lv_iload hx hb dX9_bestRanks_147 (lv_at hl 5 rfl) ?_
              obtain ⟨q18, hcq18, hf⟩ := op_e hf
              refine x_SI (wr := [oM ad fu ft ff fs fa fb fn fr, ((ad 1), .inl (d 0, 1247, .inl x12.2.2.1)), ((ad 7), .inl (d 0, 7, .inl x12.2.2.2.1)), ((ad 8), .inl (d 0, 6, .inl x12.2.2.2.2))]) (rest := []) [.int r3, .int x134] hX cx hw hl.1 (mX9_has l X hX D d r3 x134 q18 hcq18) (lw_S q1430 q1431 q94 q1432) hd_X9_has ⟨Nat.le_of_ble_eq_true rfl, Nat.le_of_ble_eq_true rfl⟩ rfl rfl (Nat.le_of_ble_eq_true rfl) dX9_bestRanks_149 [] [0, 1, 2, 3] rfl rfl rfl rfl (by decide) ⟨(Nat.le_of_ble_eq_true rfl), (Nat.le_of_ble_eq_true rfl)⟩ (fun r u H locs hp hw => ?_)
              have hw : Wd D A s [oM ad fu ft ff fs fa fb fn fr, ((ad 1), .inl (d 0, 1247, .inl x12.2.2.1)), ((ad 7), .inl (d 0, 7, .inl x12.2.2.2.1)), ((ad 8), .inl (d 0, 6, .inl x12.2.2.2.2))] H locs := hw
              subst r
              refine lv_if_eq (tgt := 161) hx hb dX9_bestRanks_152 (by decide) (fun c152 => ?_) (fun c152 => ?_)
              · have hf := if_t hf c152
                have hf := sm_e hf
                subst hf
                have hz := hout134 _ rfl
                subst hz
                exact hK134 _ _ _ hw (lv_sub hl [0, 1, 2, 3, 5] rfl)
              · have hf := if_f hf c152
                refine lv_iinc (v := (x134 + 1)) (lv' := [(5, .int (x134 + 1)), (0, .ref (ad 0)), (1, .int p1), (2, .int x12.1), (3, .int x12.2.1), (4, .int r3)]) hx hb dX9_bestRanks_155 hl (k := 5) rfl (by first | rfl | decide) (by decide) rfl (fun ls hl => ?_)
                refine lv_goto (tgt := 134) hx hb dX9_bestRanks_158 (by decide) ?_
                have hf := sm_e hf
                subst hf
                exact hin134 _ rfl _ _ _ hw (lv_sub hl [1, 2, 3, 4, 5, 0] rfl)
        · have hf := if_t hf c55
          refine lv_aload_n hx hb dX9_bestRanks_58 rfl (lv_at hl 0 rfl) ?_
          refine lv_iload_n hx hb dX9_bestRanks_59 rfl (lv_at hl 1 rfl) ?_
          obtain ⟨q5, hcq5, hf⟩ := op_e hf
          refine x_VI (wr := [((ad 8), .inl (d 0, 6, .inl x12.2.2.2.2))]) (rest := []) [.int p1] hX cx hw hl.1 (mX9_waitsBy l X hX D d ad fu ft ff fs fa fb fn fr x12.2.2.1 x12.2.2.2.1 p1 q5 hcq5) (lw_V q1549 q1551 qs65 q94 q1552) hd_X9_waitsBy ⟨Nat.le_of_ble_eq_true rfl, Nat.le_of_ble_eq_true rfl⟩ (va_recv hK hw.1 (ci := 0) (q0 := 0) rfl rfl) rfl rfl (Nat.le_of_ble_eq_true rfl) dX9_bestRanks_60 [0, 1, 2] [3] rfl rfl rfl rfl (by decide) ⟨(Nat.le_of_ble_eq_true rfl), (Nat.le_of_ble_eq_true rfl)⟩ (fun r u H locs hp hw => ?_)
          have hw : Wd D A s [((ad 8), .inl (d 0, 6, .inl x12.2.2.2.2)), oM ad fu ft ff fs fa fb fn fr, ((ad 1), .inl (d 0, 1247, .inl q5.2)), ((ad 7), .inl (d 0, 7, .inl x12.2.2.2.1))] H locs := hw
          subst r
          refine lv_istore (lv' := [(5, .int q5.1), (0, .ref (ad 0)), (1, .int p1), (2, .int x12.1), (3, .int x12.2.1), (4, .int r3)]) hx hb dX9_bestRanks_63 hl (by decide) rfl (fun ls hl => ?_)
          refine lv_iconst (v := 0) hx hb dX9_bestRanks_65 (by decide) ?_
          refine lv_istore (lv' := [(6, .int 0), (5, .int q5.1), (0, .ref (ad 0)), (1, .int p1), (2, .int x12.1), (3, .int x12.2.1), (4, .int r3)]) hx hb dX9_bestRanks_66 hl (by decide) rfl (fun ls hl => ?_)
          obtain ⟨r6, hlp68, hf⟩ := op_e hf
          refine x_join (A := A) (D := D) (J := 105) (nL := 7) (cells' := 0) (slots' := 0) (st := []) [oM ad fu ft ff fs fa fb fn fr, ((ad 1), .inl (d 0, 1247, .inl q5.2)), ((ad 7), .inl (d 0, 7, .inl x12.2.2.2.1)), ((ad 8), .inl (d 0, 6, .inl r6))] [(0, .ref (ad 0)), (1, .int p1), (2, .int x12.1), (3, .int x12.2.1), (5, .int q5.1)] (fun H locs ls hw hl => ?_) (fun hK68 => ?_)
          · refine lv_iload hx hb dX9_bestRanks_105 (lv_at hl 4 rfl) ?_
            refine lv_iload_n hx hb dX9_bestRanks_107 rfl (lv_at hl 2 rfl) ?_
            refine lv_icmp_ge (tgt := 116) hx hb dX9_bestRanks_108 (by decide) (fun c108 => ?_) (fun c108 => ?_)
            · have hf := if_t hf c108
              refine lv_iload_n hx hb dX9_bestRanks_116 rfl (lv_at hl 2 rfl) ?_
              refine lv_istore_n (lv' := [(2, .int x12.1), (0, .ref (ad 0)), (1, .int p1), (3, .int x12.2.1), (5, .int q5.1)]) hx hb dX9_bestRanks_117 rfl hl (by decide) rfl (fun ls hl => ?_)
              refine lv_iinc (v := (x12.2.1 + (-1))) (lv' := [(3, .int (x12.2.1 + (-1))), (2, .int x12.1), (0, .ref (ad 0)), (1, .int p1), (5, .int q5.1)]) hx hb dX9_bestRanks_118 hl (k := 3) rfl (by first | rfl | decide) (by decide) rfl (fun ls hl => ?_)
              refine lv_goto (tgt := 206) hx hb dX9_bestRanks_121 (by decide) ?_
              refine lv_goto (tgt := 12) hx hb dX9_bestRanks_206 (by decide) ?_
              have hf := sm_e hf
              subst hf
              exact hin12 _ rfl _ _ _ hw (lv_sub hl [2, 3, 1, 0] rfl)
            · have hf := if_f hf c108
              refine lv_iload hx hb dX9_bestRanks_111 (lv_at hl 4 rfl) ?_
              refine lv_goto (tgt := 117) hx hb dX9_bestRanks_113 (by decide) ?_
              refine lv_istore_n (lv' := [(2, .int q5.1), (0, .ref (ad 0)), (1, .int p1), (3, .int x12.2.1), (5, .int q5.1)]) hx hb dX9_bestRanks_117 rfl hl (by decide) rfl (fun ls hl => ?_)
              refine lv_iinc (v := (x12.2.1 + (-1))) (lv' := [(3, .int (x12.2.1 + (-1))), (2, .int q5.1), (0, .ref (ad 0)), (1, .int p1), (5, .int q5.1)]) hx hb dX9_bestRanks_118 hl (k := 3) rfl (by first | rfl | decide) (by decide) rfl (fun ls hl => ?_)
              refine lv_goto (tgt := 206) hx hb dX9_bestRanks_121 (by decide) ?_
              refine lv_goto (tgt := 12) hx hb dX9_bestRanks_206 (by decide) ?_
              have hf := sm_e hf
              subst hf
              exact hin12 _ rfl _ _ _ hw (lv_sub hl [2, 3, 1, 0] rfl)
          · refine x_lp hlp68 (fun x68 => [oM ad fu ft ff fs fa fb fn fr, ((ad 1), .inl (d 0, 1247, .inl q5.2)), ((ad 7), .inl (d 0, 7, .inl x12.2.2.2.1)), ((ad 8), .inl (d 0, 6, .inl x68.2))]) (fun x68 => [(0, .ref (ad 0)), (1, .int p1), (2, .int x12.1), (3, .int x12.2.1), (5, .int q5.1), (6, .int x68.1)]) (hw.sub [1, 2, 3, 0] rfl rfl) (lv_sub hl [2, 3, 4, 5, 1, 0] rfl) (fun x68 y68 hf hin68 hout68 H locs ls hw hl => ?_)
            have hw : Wd D A s [oM ad fu ft ff fs fa fb fn fr, ((ad 1), .inl (d 0, 1247, .inl q5.2)), ((ad 7), .inl (d 0, 7, .inl x12.2.2.2.1)), ((ad 8), .inl (d 0, 6, .inl x68.2))] H locs := hw
            have hl : lv_has ls 7 [(0, .ref (ad 0)), (1, .int p1), (2, .int x12.1), (3, .int x12.2.1), (5, .int q5.1), (6, .int x68.1)] := hl
            refine lv_iload hx hb dX9_bestRanks_68 (lv_at hl 5 rfl) ?_
            refine lv_aload_n hx hb dX9_bestRanks_70 rfl (lv_at hl 0 rfl) ?_
            refine va_get (ci := 0) (C := RX9) (T := TX9) (N := 19) hx hb hts in_X9 hown hK hw.1 0 rfl rfl 0 (by decide) (hts _ q1248) (fun _ h9 => h9) rfl dX9_bestRanks_71 ?_
            refine lv_iconst (v := 0) hx hb dX9_bestRanks_74 (by decide) ?_
            obtain ⟨v7, hv, hf⟩ := op_e hf
            refine x_iald (q0 := 1) cx hw rfl hv dX9_bestRanks_75 ?_
            refine lv_icmp_ge (tgt := 105) hx hb dX9_bestRanks_76 (by decide) (fun c76 => ?_) (fun c76 => ?_)
            · have hf := if_t hf c76
              have hf := sm_e hf
              subst hf
              have hz := hout68 _ rfl
              subst hz
              exact hK68 _ _ _ hw (lv_sub hl [0, 1, 2, 3, 4] rfl)
            · have hf := if_f hf c76
              refine lv_iload hx hb dX9_bestRanks_79 (lv_at hl 4 rfl) ?_
              refine lv_iload_n hx hb dX9_bestRanks_81 rfl (lv_at hl 2 rfl) ?_
              refine lv_icmp_ge (tgt := 105) hx hb dX9_bestRanks_82 (by decide) (fun c82 => ?_) (fun c82 => ?_)
              · have hf := if_t hf c82
                have hf := sm_e hf
                subst hf
                have hz := hout68 _ rfl
                subst hz
                exact hK68 _ _ _ hw (lv_sub hl [0, 1, 2, 3, 4] rfl)
              · have hf := if_f hf c82
                refine lv_aload_n hx hb dX9_bestRanks_85 rfl (lv_at hl 0 rfl) ?_
                refine va_get (ci := 0) (C := RX9) (T := TX9) (N := 19) hx hb hts in_X9 hown hK hw.1 0 rfl rfl 14 (by decide) (hts _ q1262) (fun _ h9 => h9) rfl dX9_bestRanks_86 ?_
                refine lv_iload hx hb dX9_bestRanks_89 (lv_at hl 5 rfl) ?_
                refine lv_aload_n hx hb dX9_bestRanks_91 rfl (lv_at hl 0 rfl) ?_
                refine va_get (ci := 0) (C := RX9) (T := TX9) (N := 19) hx hb hts in_X9 hown hK hw.1 0 rfl rfl 13 (by decide) (hts _ q1261) (fun _ h9 => h9) rfl dX9_bestRanks_92 ?_
                refine lv_iload hx hb dX9_bestRanks_95 (lv_at hl 5 rfl) ?_
                obtain ⟨v8, hv, hf⟩ := op_e hf
                refine x_iald (q0 := 2) cx hw rfl hv dX9_bestRanks_97 ?_
                obtain ⟨w9, hv, hf⟩ := op_e hf
                refine x_iast (q0 := 3) cx hw rfl hv dX9_bestRanks_98 (fun H locs hw => ?_)
                have hw : Wd D A s [oM ad fu ft ff fs fa fb fn fr, ((ad 1), .inl (d 0, 1247, .inl q5.2)), ((ad 7), .inl (d 0, 7, .inl x12.2.2.2.1)), ((ad 8), .inl (d 0, 6, .inl w9))] H locs := hw
                refine lv_iinc (v := (x68.1 + 1)) (lv' := [(6, .int (x68.1 + 1)), (0, .ref (ad 0)), (1, .int p1), (2, .int x12.1), (3, .int x12.2.1), (5, .int q5.1)]) hx hb dX9_bestRanks_99 hl (k := 5) rfl (by first | rfl | decide) (by decide) rfl (fun ls hl => ?_)
                refine lv_goto (tgt := 68) hx hb dX9_bestRanks_102 (by decide) ?_
                have hf := sm_e hf
                subst hf
                exact hin68 _ rfl _ _ _ hw (lv_sub hl [1, 2, 3, 4, 5, 0] rfl)
      · refine x_lp hlp22 (fun x22 => [oM ad fu ft ff fs fa fb fn fr, ((ad 1), .inl (d 0, 1247, .inl x12.2.2.1)), ((ad 7), .inl (d 0, 7, .inl x12.2.2.2.1)), ((ad 8), .inl (d 0, 6, .inl x12.2.2.2.2))]) (fun x22 => [(0, .ref (ad 0)), (1, .int p1), (2, .int x12.1), (3, .int x12.2.1), (4, .int x22.1), (5, .int x22.2)]) hw (lv_sub hl [2, 3, 4, 5, 1, 0] rfl) (fun x22 y22 hf hin22 hout22 H locs ls hw hl => ?_)
        have hw : Wd D A s [oM ad fu ft ff fs fa fb fn fr, ((ad 1), .inl (d 0, 1247, .inl x12.2.2.1)), ((ad 7), .inl (d 0, 7, .inl x12.2.2.2.1)), ((ad 8), .inl (d 0, 6, .inl x12.2.2.2.2))] H locs := hw
        have hl : lv_has ls 7 [(0, .ref (ad 0)), (1, .int p1), (2, .int x12.1), (3, .int x12.2.1), (4, .int x22.1), (5, .int x22.2)] := hl
        refine lv_iload hx hb dX9_bestRanks_22 (lv_at hl 5 rfl) ?_
        refine lv_iload_n hx hb dX9_bestRanks_24 rfl (lv_at hl 3 rfl) ?_
        refine lv_icmp_ge (tgt := 48) hx hb dX9_bestRanks_25 (by decide) (fun c25 => ?_) (fun c25 => ?_)
        · have hf := if_t hf c25
          have hf := sm_e hf
          subst hf
          have hz := hout22 _ rfl
          subst hz
          exact hK22 _ _ _ hw (lv_sub hl [0, 1, 2, 3, 4] rfl)
        · have hf := if_f hf c25
          refine lv_iload hx hb dX9_bestRanks_28 (lv_at hl 4 rfl) ?_
          refine lv_iconst (v := 1) hx hb dX9_bestRanks_30 (by decide) ?_
          refine lv_aload_n hx hb dX9_bestRanks_31 rfl (lv_at hl 0 rfl) ?_
          refine va_get (ci := 0) (C := RX9) (T := TX9) (N := 19) hx hb hts in_X9 hown hK hw.1 0 rfl rfl 13 (by decide) (hts _ q1261) (fun _ h9 => h9) rfl dX9_bestRanks_32 ?_
          refine lv_iload hx hb dX9_bestRanks_35 (lv_at hl 5 rfl) ?_
          obtain ⟨v19, hv, hf⟩ := op_e hf
          refine x_iald (q0 := 2) cx hw rfl hv dX9_bestRanks_37 ?_
          refine lv_ishl hx hb dX9_bestRanks_38 ?_
          refine lv_ior hx hb dX9_bestRanks_39 ?_
          refine lv_istore (lv' := [(4, .int (x22.1 ||| ((1 : Int32) <<< (v19 &&& 31)))), (0, .ref (ad 0)), (1, .int p1), (2, .int x12.1), (3, .int x12.2.1), (5, .int x22.2)]) hx hb dX9_bestRanks_40 hl (by decide) rfl (fun ls hl => ?_)
          refine lv_iinc (v := (x22.2 + 1)) (lv' := [(5, .int (x22.2 + 1)), (4, .int (x22.1 ||| ((1 : Int32) <<< (v19 &&& 31)))), (0, .ref (ad 0)), (1, .int p1), (2, .int x12.1), (3, .int x12.2.1)]) hx hb dX9_bestRanks_42 hl (k := 5) rfl (by first | rfl | decide) (by decide) rfl (fun ls hl => ?_)
          refine lv_goto (tgt := 22) hx hb dX9_bestRanks_45 (by decide) ?_
          have hf := sm_e hf
          subst hf
          exact hin22 _ rfl _ _ _ hw (lv_sub hl [2, 3, 4, 5, 1, 0] rfl)
theorem hd_X9_ranks : yX9_ranks.cls = "DishLiftModel" ∧ yX9_ranks.cls ≠ "java/lang/invoke/MethodHandle" ∧ yX9_ranks.cls ≠ "java/lang/invoke/VarHandle" ∧ (parseMethodDescriptor yX9_ranks.desc).map (fun d => d.parameters.length) = some 2 := by decide +kernel
set_option maxHeartbeats 4000000 in
theorem mX9_ranks (l : Launch) (X : XT) (hX : XOK X) (D : va_G) (d : Nat → ClassId) (ad : Nat → Nat) (fu : Int32) (ft : Int32) (ff : Int32) (fs : Int32) (fa : Int32) (fb : Int32) (fn : Int32) (fr : Int32) (Ww : Nat → Int32) (OR : Nat → Int32) (BO : Nat → Int32) (p1 : Int32) (p2 : Int32) (res : Int32 × (Nat → Int32) × (Nat → Int32) × (Nat → Int32)) (hf : fX9_ranks Ww OR BO p1 p2 = some res) : MetI l yX9_ranks (ws_ yX9_ranks cX9_ranks 4 (some .int)) { frames := 6, cells := 0, slots := 0, locals := 140 } [.ref (ad 0), .int p1, .int p2] X D d [oM ad fu ft ff fs fa fb fn fr, ((ad 1), .inl (d 0, 1247, .inl Ww)), ((ad 7), .inl (d 0, 7, .inl OR)), ((ad 8), .inl (d 0, 6, .inl BO))] (fun r (_ : Unit) => r = res.1) (fun _ => [oM ad fu ft ff fs fa fb fn fr, ((ad 1), .inl (d 0, 1247, .inl res.2.1)), ((ad 7), .inl (d 0, 7, .inl res.2.2.1)), ((ad 8), .inl (d 0, 6, .inl res.2.2.2))]) := by
  refine MetI.of (by decide +kernel) (Nat.le_of_ble_eq_true rfl) ?_
  intro p e s m below meth c A cx hw ls hl
  have cx : Cx p s m _ meth c X D d A "DishLiftModel" cX9_ranks 4 (some .int) "ranks" := cx
  have cx' := cx
  obtain ⟨hx, hb, hr, hlk, hml, hown, hts, hK, hA, hXs, hnm⟩ := cx'
  have hl : lv_has ls 4 [(0, .ref (ad 0)), (1, .int p1), (2, .int p2)] := hl
  unfold fX9_ranks at hf
  refine lv_aload_n hx hb dX9_ranks_0 rfl (lv_at hl 0 rfl) ?_
  obtain ⟨q1, hcq1, hf⟩ := op_e hf
  refine x_VI (wr := [((ad 7), .inl (d 0, 7, .inl OR)), ((ad 8), .inl (d 0, 6, .inl BO))]) (rest := []) [] hX cx hw hl.1 (mX9_isHouse l X hX D d ad fu ft ff fs fa fb fn fr Ww q1 hcq1) (lw_V q1402 q1404 qs46 q94 q1405) hd_X9_isHouse ⟨Nat.le_of_ble_eq_true rfl, Nat.le_of_ble_eq_true rfl⟩ (va_recv hK hw.1 (ci := 0) (q0 := 0) rfl rfl) rfl rfl (Nat.le_of_ble_eq_true rfl) dX9_ranks_1 [0, 1] [2, 3] rfl rfl rfl rfl (by decide) ⟨(Nat.le_of_ble_eq_true rfl), (Nat.le_of_ble_eq_true rfl)⟩ (fun r u H locs hp hw => ?_)
  have hw : Wd D A s [((ad 7), .inl (d 0, 7, .inl OR)), ((ad 8), .inl (d 0, 6, .inl BO)), oM ad fu ft ff fs fa fb fn fr, ((ad 1), .inl (d 0, 1247, .inl Ww))] H locs := hw
  subst r
  refine lv_if_ne (tgt := 10) hx hb dX9_ranks_4 (by decide) (fun c4 => ?_) (fun c4 => ?_)
  · have hf := if_f hf c4
    refine lv_iload_n hx hb dX9_ranks_10 rfl (lv_at hl 1 rfl) ?_
    refine lv_i2l (v := p1.toInt64) hx hb dX9_ranks_11 rfl ?_
    refine lv_lconst (v := 1) hx hb dX9_ranks_12 (by decide) ?_
    refine lv_ldc2 (v := 40) hx hb hown (hts _ q1465) dX9_ranks_13 ?_
    obtain ⟨q2, hcq2, hf⟩ := op_e hf
    refine x_SI (wr := [((ad 7), .inl (d 0, 7, .inl OR)), ((ad 8), .inl (d 0, 6, .inl BO)), oM ad fu ft ff fs fa fb fn fr, ((ad 1), .inl (d 0, 1247, .inl Ww))]) (rest := []) [.long p1.toInt64, .long 1, .long 40] hX cx hw hl.1 (mX9_in l X hX D d p1.toInt64 1 40 q2 hcq2) (lw_S q1315 q1316 q94 q1317) hd_X9_in ⟨Nat.le_of_ble_eq_true rfl, Nat.le_of_ble_eq_true rfl⟩ rfl rfl (Nat.le_of_ble_eq_true rfl) dX9_ranks_16 [] [0, 1, 2, 3] rfl rfl rfl rfl (by decide) ⟨(Nat.le_of_ble_eq_true rfl), (Nat.le_of_ble_eq_true rfl)⟩ (fun r u H locs hp hw => ?_)
    have hw : Wd D A s [((ad 7), .inl (d 0, 7, .inl OR)), ((ad 8), .inl (d 0, 6, .inl BO)), oM ad fu ft ff fs fa fb fn fr, ((ad 1), .inl (d 0, 1247, .inl Ww))] H locs := hw
    subst r
    refine lv_if_eq (tgt := 27) hx hb dX9_ranks_19 (by decide) (fun c19 => ?_) (fun c19 => ?_)
    · have hf := if_t hf c19
      refine lv_ldc (v := (-1000001)) hx hb hown (hts _ q1319) dX9_ranks_27 ?_
      have hf := sm_e hf
      subst hf
      exact x_retI cx hw rfl () rfl [2, 3, 0, 1] rfl rfl (Nat.le_of_ble_eq_true rfl) (Nat.le_of_ble_eq_true rfl) dX9_ranks_29
    · have hf := if_f hf c19
      refine lv_iload_n hx hb dX9_ranks_22 rfl (lv_at hl 2 rfl) ?_
      refine lv_iconst (v := (-1)) hx hb dX9_ranks_23 (by decide) ?_
      refine lv_icmp_ge (tgt := 30) hx hb dX9_ranks_24 (by decide) (fun c24 => ?_) (fun c24 => ?_)
      · have hf := if_t hf c24
        refine lv_aload_n hx hb dX9_ranks_30 rfl (lv_at hl 0 rfl) ?_
        refine lv_iload_n hx hb dX9_ranks_31 rfl (lv_at hl 1 rfl) ?_
        obtain ⟨q3, hcq3, hf⟩ := op_e hf
        refine x_VI (wr := []) (rest := []) [.int p1] hX cx hw hl.1 (mX9_bestRanks l X hX D d ad fu ft ff fs fa fb fn fr Ww OR BO p1 q3 hcq3) (lw_V q1544 q1546 qs64 q94 q1547) hd_X9_bestRanks ⟨Nat.le_of_ble_eq_true rfl, Nat.le_of_ble_eq_true rfl⟩ (va_recv hK hw.1 (ci := 0) (q0 := 2) rfl rfl) rfl rfl (Nat.le_of_ble_eq_true rfl) dX9_ranks_32 [2, 3, 0, 1] [] rfl rfl rfl rfl (by decide) ⟨(Nat.le_of_ble_eq_true rfl), (Nat.le_of_ble_eq_true rfl)⟩ (fun r u H locs hp hw => ?_)
        have hw : Wd D A s [oM ad fu ft ff fs fa fb fn fr, ((ad 1), .inl (d 0, 1247, .inl q3.2.1)), ((ad 7), .inl (d 0, 7, .inl q3.2.2.1)), ((ad 8), .inl (d 0, 6, .inl q3.2.2.2))] H locs := hw
        subst r
        refine lv_istore_n (lv' := [(3, .int q3.1), (0, .ref (ad 0)), (1, .int p1), (2, .int p2)]) hx hb dX9_ranks_35 rfl hl (by decide) rfl (fun ls hl => ?_)
        refine lv_iload_n hx hb dX9_ranks_36 rfl (lv_at hl 3 rfl) ?_
        refine lv_if_ge (tgt := 44) hx hb dX9_ranks_37 (by decide) (fun c37 => ?_) (fun c37 => ?_)
        · have hf := if_t hf c37
          refine lv_iload_n hx hb dX9_ranks_44 rfl (lv_at hl 3 rfl) ?_
          refine lv_aload_n hx hb dX9_ranks_45 rfl (lv_at hl 1 rfl) ?_
          refine va_get (ci := 0) (C := RX9) (T := TX9) (N := 19) hx hb hts in_X9 hown hK hw.1 0 rfl rfl 0 (by decide) (hts _ q1248) (fun _ h9 => h9) rfl dX9_ranks_46 ?_
          refine lv_iconst (v := 0) hx hb dX9_ranks_49 (by decide) ?_
          obtain ⟨v4, hv, hf⟩ := op_e hf
          refine x_iald (q0 := 1) cx hw rfl hv dX9_ranks_50 ?_
          refine lv_icmp_ge (tgt := 63) hx hb dX9_ranks_51 (by decide) (fun c51 => ?_) (fun c51 => ?_)
          · have hf := if_t hf c51
            refine lv_ldc (v := (-1000000)) hx hb hown (hts _ q1519) dX9_ranks_63 ?_
            have hf := sm_e hf
            subst hf
            exact x_retI cx hw rfl () rfl [0, 1, 2, 3] rfl rfl (Nat.le_of_ble_eq_true rfl) (Nat.le_of_ble_eq_true rfl) dX9_ranks_65
          · have hf := if_f hf c51
            refine lv_aload_n hx hb dX9_ranks_54 rfl (lv_at hl 1 rfl) ?_
            refine va_get (ci := 0) (C := RX9) (T := TX9) (N := 19) hx hb hts in_X9 hown hK hw.1 0 rfl rfl 14 (by decide) (hts _ q1262) (fun _ h9 => h9) rfl dX9_ranks_55 ?_
            refine lv_iload_n hx hb dX9_ranks_58 rfl (lv_at hl 3 rfl) ?_
            obtain ⟨v5, hv, hf⟩ := op_e hf
            refine x_iald (q0 := 3) cx hw rfl hv dX9_ranks_59 ?_
            refine lv_goto (tgt := 65) hx hb dX9_ranks_60 (by decide) ?_
            have hf := sm_e hf
            subst hf
            exact x_retI cx hw rfl () rfl [0, 1, 2, 3] rfl rfl (Nat.le_of_ble_eq_true rfl) (Nat.le_of_ble_eq_true rfl) dX9_ranks_65
        · have hf := if_f hf c37
          refine lv_iload_n hx hb dX9_ranks_40 rfl (lv_at hl 0 rfl) ?_
          refine lv_goto (tgt := 65) hx hb dX9_ranks_41 (by decide) ?_
          have hf := sm_e hf
          subst hf
          exact x_retI cx hw rfl () rfl [0, 1, 2, 3] rfl rfl (Nat.le_of_ble_eq_true rfl) (Nat.le_of_ble_eq_true rfl) dX9_ranks_65
      · have hf := if_f hf c24
        refine lv_ldc (v := (-1000001)) hx hb hown (hts _ q1319) dX9_ranks_27 ?_
        have hf := sm_e hf
        subst hf
        exact x_retI cx hw rfl () rfl [2, 3, 0, 1] rfl rfl (Nat.le_of_ble_eq_true rfl) (Nat.le_of_ble_eq_true rfl) dX9_ranks_29
  · have hf := if_t hf c4
    refine lv_ldc (v := (-1000002)) hx hb hown (hts _ q1397) dX9_ranks_7 ?_
    have hf := sm_e hf
    subst hf
    exact x_retI cx hw rfl () rfl [2, 3, 0, 1] rfl rfl (Nat.le_of_ble_eq_true rfl) (Nat.le_of_ble_eq_true rfl) dX9_ranks_9
theorem hd_X9_holds : yX9_holds.cls = "DishLiftModel" ∧ yX9_holds.cls ≠ "java/lang/invoke/MethodHandle" ∧ yX9_holds.cls ≠ "java/lang/invoke/VarHandle" ∧ (parseMethodDescriptor yX9_holds.desc).map (fun d => d.parameters.length) = some 1 := by decide +kernel
set_option maxHeartbeats 4000000 in
theorem mX9_holds (l : Launch) (X : XT) (hX : XOK X) (D : va_G) (d : Nat → ClassId) (ad : Nat → Nat) (fu : Int32) (ft : Int32) (ff : Int32) (fs : Int32) (fa : Int32) (fb : Int32) (fn : Int32) (fr : Int32) (Ww : Nat → Int32) (p1 : Int32) (res : Int32) (hf : fX9_holds Ww p1 = some res) : MetI l yX9_holds (ws_ yX9_holds cX9_holds 7 (some .int)) { frames := 2, cells := 0, slots := 0, locals := 45 } [.ref (ad 0), .int p1] X D d [oM ad fu ft ff fs fa fb fn fr, ((ad 1), .inl (d 0, 1247, .inl Ww))] (fun r (_ : Unit) => r = res) (fun _ => [oM ad fu ft ff fs fa fb fn fr, ((ad 1), .inl (d 0, 1247, .inl Ww))]) := by
  refine MetI.of (by decide +kernel) (Nat.le_of_ble_eq_true rfl) ?_
  intro p e s m below meth c A cx hw ls hl
  have cx : Cx p s m _ meth c X D d A "DishLiftModel" cX9_holds 7 (some .int) "holds" := cx
  have cx' := cx
  obtain ⟨hx, hb, hr, hlk, hml, hown, hts, hK, hA, hXs, hnm⟩ := cx'
  have hl : lv_has ls 7 [(0, .ref (ad 0)), (1, .int p1)] := hl
  unfold fX9_holds at hf
  refine lv_aload_n hx hb dX9_holds_0 rfl (lv_at hl 0 rfl) ?_
  obtain ⟨q1, hcq1, hf⟩ := op_e hf
  refine x_VI (wr := []) (rest := []) [] hX cx hw hl.1 (mX9_isHouse l X hX D d ad fu ft ff fs fa fb fn fr Ww q1 hcq1) (lw_V q1402 q1404 qs46 q94 q1405) hd_X9_isHouse ⟨Nat.le_of_ble_eq_true rfl, Nat.le_of_ble_eq_true rfl⟩ (va_recv hK hw.1 (ci := 0) (q0 := 0) rfl rfl) rfl rfl (Nat.le_of_ble_eq_true rfl) dX9_holds_1 [0, 1] [] rfl rfl rfl rfl (by decide) ⟨(Nat.le_of_ble_eq_true rfl), (Nat.le_of_ble_eq_true rfl)⟩ (fun r u H locs hp hw => ?_)
  have hw : Wd D A s [oM ad fu ft ff fs fa fb fn fr, ((ad 1), .inl (d 0, 1247, .inl Ww))] H locs := hw
  subst r
  refine lv_if_ne (tgt := 10) hx hb dX9_holds_4 (by decide) (fun c4 => ?_) (fun c4 => ?_)
  · have hf := if_f hf c4
    refine lv_iload_n hx hb dX9_holds_10 rfl (lv_at hl 1 rfl) ?_
    refine lv_i2l (v := p1.toInt64) hx hb dX9_holds_11 rfl ?_
    refine lv_lconst (v := 0) hx hb dX9_holds_12 (by decide) ?_
    refine lv_ldc2 (v := 2) hx hb hown (hts _ q1318) dX9_holds_13 ?_
    obtain ⟨q2, hcq2, hf⟩ := op_e hf
    refine x_SI (wr := [oM ad fu ft ff fs fa fb fn fr, ((ad 1), .inl (d 0, 1247, .inl Ww))]) (rest := []) [.long p1.toInt64, .long 0, .long 2] hX cx hw hl.1 (mX9_in l X hX D d p1.toInt64 0 2 q2 hcq2) (lw_S q1315 q1316 q94 q1317) hd_X9_in ⟨Nat.le_of_ble_eq_true rfl, Nat.le_of_ble_eq_true rfl⟩ rfl rfl (Nat.le_of_ble_eq_true rfl) dX9_holds_16 [] [0, 1] rfl rfl rfl rfl (by decide) ⟨(Nat.le_of_ble_eq_true rfl), (Nat.le_of_ble_eq_true rfl)⟩ (fun r u H locs hp hw => ?_)
    have hw : Wd D A s [oM ad fu ft ff fs fa fb fn fr, ((ad 1), .inl (d 0, 1247, .inl Ww))] H locs := hw
    subst r
    refine lv_if_ne (tgt := 25) hx hb dX9_holds_19 (by decide) (fun c19 => ?_) (fun c19 => ?_)
    · have hf := if_f hf c19
      refine lv_iconst (v := 0) hx hb dX9_holds_25 (by decide) ?_
      refine lv_istore_n (lv' := [(2, .int 0), (0, .ref (ad 0)), (1, .int p1)]) hx hb dX9_holds_26 rfl hl (by decide) rfl (fun ls hl => ?_)
      refine lv_iconst (v := 0) hx hb dX9_holds_27 (by decide) ?_
      refine lv_istore_n (lv' := [(3, .int 0), (2, .int 0), (0, .ref (ad 0)), (1, .int p1)]) hx hb dX9_holds_28 rfl hl (by decide) rfl (fun ls hl => ?_)
      refine lv_iconst (v := 0) hx hb dX9_holds_29 (by decide) ?_
      refine lv_istore (lv' := [(4, .int 0), (3, .int 0), (2, .int 0), (0, .ref (ad 0)), (1, .int p1)]) hx hb dX9_holds_30 hl (by decide) rfl (fun ls hl => ?_)
      obtain ⟨r3, hlp32, hf⟩ := op_e hf
      refine x_join (A := A) (D := D) (J := 140) (nL := 7) (cells' := 0) (slots' := 0) (st := []) [oM ad fu ft ff fs fa fb fn fr, ((ad 1), .inl (d 0, 1247, .inl Ww))] [(0, .ref (ad 0)), (1, .int p1), (2, .int r3.1), (3, .int r3.2)] (fun H locs ls hw hl => ?_) (fun hK32 => ?_)
      · refine lv_iload_n hx hb dX9_holds_140 rfl (lv_at hl 1 rfl) ?_
        refine lv_if_ne (tgt := 148) hx hb dX9_holds_141 (by decide) (fun c141 => ?_) (fun c141 => ?_)
        · have hf := if_f hf c141
          refine lv_iload_n hx hb dX9_holds_148 rfl (lv_at hl 1 rfl) ?_
          refine lv_iconst (v := 1) hx hb dX9_holds_149 (by decide) ?_
          refine lv_icmp_ne (tgt := 157) hx hb dX9_holds_150 (by decide) (fun c150 => ?_) (fun c150 => ?_)
          · have hf := if_f hf c150
            refine lv_aload_n hx hb dX9_holds_157 rfl (lv_at hl 0 rfl) ?_
            refine lv_iconst (v := 0) hx hb dX9_holds_158 (by decide) ?_
            refine lv_iload_n hx hb dX9_holds_159 rfl (lv_at hl 3 rfl) ?_
            obtain ⟨q4, hcq4, hf⟩ := op_e hf
            refine x_VI (wr := []) (rest := []) [.int 0, .int r3.2] hX cx hw hl.1 (mX9_weightOf l X hX D d ad fu ft ff fs fa fb fn fr Ww 0 r3.2 q4 hcq4) (lw_V q1426 q1428 qs51 q94 q1429) hd_X9_weightOf ⟨Nat.le_of_ble_eq_true rfl, Nat.le_of_ble_eq_true rfl⟩ (va_recv hK hw.1 (ci := 0) (q0 := 0) rfl rfl) rfl rfl (Nat.le_of_ble_eq_true rfl) dX9_holds_160 [0, 1] [] rfl rfl rfl rfl (by decide) ⟨(Nat.le_of_ble_eq_true rfl), (Nat.le_of_ble_eq_true rfl)⟩ (fun r u H locs hp hw => ?_)
            have hw : Wd D A s [oM ad fu ft ff fs fa fb fn fr, ((ad 1), .inl (d 0, 1247, .inl Ww))] H locs := hw
            subst r
            have hf := sm_e hf
            subst hf
            exact x_retI cx hw rfl () rfl [0, 1] rfl rfl (Nat.le_of_ble_eq_true rfl) (Nat.le_of_ble_eq_true rfl) dX9_holds_163
          · have hf := if_t hf c150
            refine lv_iload_n hx hb dX9_holds_153 rfl (lv_at hl 3 rfl) ?_
            refine lv_goto (tgt := 163) hx hb dX9_holds_154 (by decide) ?_
            have hf := sm_e hf
            subst hf
            exact x_retI cx hw rfl () rfl [0, 1] rfl rfl (Nat.le_of_ble_eq_true rfl) (Nat.le_of_ble_eq_true rfl) dX9_holds_163
        · have hf := if_t hf c141
          refine lv_iload_n hx hb dX9_holds_144 rfl (lv_at hl 2 rfl) ?_
          refine lv_goto (tgt := 163) hx hb dX9_holds_145 (by decide) ?_
          have hf := sm_e hf
          subst hf
          exact x_retI cx hw rfl () rfl [0, 1] rfl rfl (Nat.le_of_ble_eq_true rfl) (Nat.le_of_ble_eq_true rfl) dX9_holds_163
      · refine x_lp hlp32 (fun x32 => [oM ad fu ft ff fs fa fb fn fr, ((ad 1), .inl (d 0, 1247, .inl Ww))]) (fun x32 => [(0, .ref (ad 0)), (1, .int p1), (2, .int x32.1), (3, .int x32.2.1), (4, .int x32.2.2)]) hw (lv_sub hl [3, 4, 2, 1, 0] rfl) (fun x32 y32 hf hin32 hout32 H locs ls hw hl => ?_)
        have hw : Wd D A s [oM ad fu ft ff fs fa fb fn fr, ((ad 1), .inl (d 0, 1247, .inl Ww))] H locs := hw
        have hl : lv_has ls 7 [(0, .ref (ad 0)), (1, .int p1), (2, .int x32.1), (3, .int x32.2.1), (4, .int x32.2.2)] := hl
        refine lv_iload hx hb dX9_holds_32 (lv_at hl 4 rfl) ?_
        refine lv_iconst (v := 1) hx hb dX9_holds_34 (by decide) ?_
        refine lv_aload_n hx hb dX9_holds_35 rfl (lv_at hl 0 rfl) ?_
        refine va_get (ci := 0) (C := RX9) (T := TX9) (N := 19) hx hb hts in_X9 hown hK hw.1 0 rfl rfl 0 (by decide) (hts _ q1248) (fun _ h9 => h9) rfl dX9_holds_36 ?_
        refine lv_iconst (v := 0) hx hb dX9_holds_39 (by decide) ?_
        obtain ⟨v5, hv, hf⟩ := op_e hf
        refine x_iald (q0 := 1) cx hw rfl hv dX9_holds_40 ?_
        refine lv_ishl hx hb dX9_holds_41 ?_
        refine lv_icmp_ge (tgt := 140) hx hb dX9_holds_42 (by decide) (fun c42 => ?_) (fun c42 => ?_)
        · have hf := if_t hf c42
          have hf := sm_e hf
          subst hf
          have hz := hout32 _ rfl
          subst hz
          exact hK32 _ _ _ hw (lv_sub hl [0, 1, 2, 3] rfl)
        · have hf := if_f hf c42
          refine lv_aload_n hx hb dX9_holds_45 rfl (lv_at hl 0 rfl) ?_
          refine lv_iconst (v := 0) hx hb dX9_holds_46 (by decide) ?_
          refine lv_iload hx hb dX9_holds_47 (lv_at hl 4 rfl) ?_
          obtain ⟨q6, hcq6, hf⟩ := op_e hf
          refine x_VI (wr := []) (rest := []) [.int 0, .int x32.2.2] hX cx hw hl.1 (mX9_weightOf l X hX D d ad fu ft ff fs fa fb fn fr Ww 0 x32.2.2 q6 hcq6) (lw_V q1426 q1428 qs51 q94 q1429) hd_X9_weightOf ⟨Nat.le_of_ble_eq_true rfl, Nat.le_of_ble_eq_true rfl⟩ (va_recv hK hw.1 (ci := 0) (q0 := 0) rfl rfl) rfl rfl (Nat.le_of_ble_eq_true rfl) dX9_holds_49 [0, 1] [] rfl rfl rfl rfl (by decide) ⟨(Nat.le_of_ble_eq_true rfl), (Nat.le_of_ble_eq_true rfl)⟩ (fun r u H locs hp hw => ?_)
          have hw : Wd D A s [oM ad fu ft ff fs fa fb fn fr, ((ad 1), .inl (d 0, 1247, .inl Ww))] H locs := hw
          subst r
          refine lv_istore (lv' := [(5, .int q6), (0, .ref (ad 0)), (1, .int p1), (2, .int x32.1), (3, .int x32.2.1), (4, .int x32.2.2)]) hx hb dX9_holds_52 hl (by decide) rfl (fun ls hl => ?_)
          refine lv_iload hx hb dX9_holds_54 (lv_at hl 5 rfl) ?_
          refine lv_aload_n hx hb dX9_holds_56 rfl (lv_at hl 1 rfl) ?_
          refine lv_iconst (v := 0) hx hb dX9_holds_57 (by decide) ?_
          obtain ⟨q7, hcq7, hf⟩ := op_e hf
          refine x_VI (wr := []) (rest := [.int x32.2.2]) [.int 0] hX cx hw hl.1 (mX9_servedOf l X hX D d ad fu ft ff fs fa fb fn fr Ww 0 q7 hcq7) (lw_V q1449 q1451 qs56 q94 q1452) hd_X9_servedOf ⟨Nat.le_of_ble_eq_true rfl, Nat.le_of_ble_eq_true rfl⟩ (va_recv hK hw.1 (ci := 0) (q0 := 0) rfl rfl) rfl rfl (Nat.le_of_ble_eq_true rfl) dX9_holds_58 [0, 1] [] rfl rfl rfl rfl (by decide) ⟨(Nat.le_of_ble_eq_true rfl), (Nat.le_of_ble_eq_true rfl)⟩ (fun r u H locs hp hw => ?_)
          have hw : Wd D A s [oM ad fu ft ff fs fa fb fn fr, ((ad 1), .inl (d 0, 1247, .inl Ww))] H locs := hw
          subst r
          refine lv_iand hx hb dX9_holds_61 ?_
          refine lv_if_ne (tgt := 134) hx hb dX9_holds_62 (by decide) (fun c62 => ?_) (fun c62 => ?_)
          · have hf := if_f hf c62
            refine lv_iinc (v := (x32.2.2 + 1)) (lv' := [(4, .int (x32.2.2 + 1)), (5, .int q6), (0, .ref (ad 0)), (1, .int p1), (2, .int x32.1), (3, .int x32.2.1)]) hx hb dX9_holds_134 hl (k := 5) rfl (by first | rfl | decide) (by decide) rfl (fun ls hl => ?_)
            refine lv_goto (tgt := 32) hx hb dX9_holds_137 (by decide) ?_
            have hf := sm_e hf
            subst hf
            exact hin32 _ rfl _ _ _ hw (lv_sub hl [2, 3, 4, 5, 0] rfl)
          · have hf := if_t hf c62
            refine lv_iload hx hb dX9_holds_65 (lv_at hl 5 rfl) ?_
            obtain ⟨q8, hcq8, hf⟩ := op_e hf
            refine x_SI (wr := [oM ad fu ft ff fs fa fb fn fr, ((ad 1), .inl (d 0, 1247, .inl Ww))]) (rest := []) [.int x32.2.2] hX cx hw hl.1 (mX9_ones l X hX D d x32.2.2 q8 hcq8) (lw_S q1423 q1424 q94 q1425) hd_X9_ones ⟨Nat.le_of_ble_eq_true rfl, Nat.le_of_ble_eq_true rfl⟩ rfl rfl (Nat.le_of_ble_eq_true rfl) dX9_holds_67 [] [0, 1] rfl rfl rfl rfl (by decide) ⟨(Nat.le_of_ble_eq_true rfl), (Nat.le_of_ble_eq_true rfl)⟩ (fun r u H locs hp hw => ?_)
            have hw : Wd D A s [oM ad fu ft ff fs fa fb fn fr, ((ad 1), .inl (d 0, 1247, .inl Ww))] H locs := hw
            subst r
            refine lv_aload_n hx hb dX9_holds_70 rfl (lv_at hl 1 rfl) ?_
            refine va_get (ci := 0) (C := RX9) (T := TX9) (N := 19) hx hb hts in_X9 hown hK hw.1 0 rfl rfl 0 (by decide) (hts _ q1248) (fun _ h9 => h9) rfl dX9_holds_71 ?_
            refine lv_iconst (v := 2) hx hb dX9_holds_74 (by decide) ?_
            obtain ⟨v9, hv, hf⟩ := op_e hf
            refine x_iald (q0 := 1) cx hw rfl hv dX9_holds_75 ?_
            refine lv_icmp_gt (tgt := 134) hx hb dX9_holds_76 (by decide) (fun c76 => ?_) (fun c76 => ?_)
            · have hf := if_t hf c76
              refine lv_iinc (v := (x32.2.2 + 1)) (lv' := [(4, .int (x32.2.2 + 1)), (5, .int q6), (0, .ref (ad 0)), (1, .int p1), (2, .int x32.1), (3, .int x32.2.1)]) hx hb dX9_holds_134 hl (k := 5) rfl (by first | rfl | decide) (by decide) rfl (fun ls hl => ?_)
              refine lv_goto (tgt := 32) hx hb dX9_holds_137 (by decide) ?_
              have hf := sm_e hf
              subst hf
              exact hin32 _ rfl _ _ _ hw (lv_sub hl [2, 3, 4, 5, 0] rfl)
            · have hf := if_f hf c76
              refine lv_iload hx hb dX9_holds_79 (lv_at hl 0 rfl) ?_
              refine lv_aload_n hx hb dX9_holds_81 rfl (lv_at hl 1 rfl) ?_
              refine va_get (ci := 0) (C := RX9) (T := TX9) (N := 19) hx hb hts in_X9 hown hK hw.1 0 rfl rfl 0 (by decide) (hts _ q1248) (fun _ h9 => h9) rfl dX9_holds_82 ?_
              refine lv_iconst (v := 3) hx hb dX9_holds_85 (by decide) ?_
              obtain ⟨v10, hv, hf⟩ := op_e hf
              refine x_iald (q0 := 1) cx hw rfl hv dX9_holds_86 ?_
              refine lv_icmp_gt (tgt := 134) hx hb dX9_holds_87 (by decide) (fun c87 => ?_) (fun c87 => ?_)
              · have hf := if_t hf c87
                refine lv_iinc (v := (x32.2.2 + 1)) (lv' := [(4, .int (x32.2.2 + 1)), (5, .int q6), (0, .ref (ad 0)), (1, .int p1), (2, .int x32.1), (3, .int x32.2.1)]) hx hb dX9_holds_134 hl (k := 5) rfl (by first | rfl | decide) (by decide) rfl (fun ls hl => ?_)
                refine lv_goto (tgt := 32) hx hb dX9_holds_137 (by decide) ?_
                have hf := sm_e hf
                subst hf
                exact hin32 _ rfl _ _ _ hw (lv_sub hl [2, 3, 4, 5, 0] rfl)
              · have hf := if_f hf c87
                refine lv_iinc (v := (x32.1 + 1)) (lv' := [(2, .int (x32.1 + 1)), (5, .int q6), (0, .ref (ad 0)), (1, .int p1), (3, .int x32.2.1), (4, .int x32.2.2)]) hx hb dX9_holds_90 hl (k := 3) rfl (by first | rfl | decide) (by decide) rfl (fun ls hl => ?_)
                refine lv_aload_n hx hb dX9_holds_93 rfl (lv_at hl 2 rfl) ?_
                refine lv_iconst (v := 0) hx hb dX9_holds_94 (by decide) ?_
                refine lv_iload_n hx hb dX9_holds_95 rfl (lv_at hl 4 rfl) ?_
                obtain ⟨q11, hcq11, hf⟩ := op_e hf
                refine x_VI (wr := []) (rest := []) [.int 0, .int x32.2.1] hX cx hw hl.1 (mX9_weightOf l X hX D d ad fu ft ff fs fa fb fn fr Ww 0 x32.2.1 q11 hcq11) (lw_V q1426 q1428 qs51 q94 q1429) hd_X9_weightOf ⟨Nat.le_of_ble_eq_true rfl, Nat.le_of_ble_eq_true rfl⟩ (va_recv hK hw.1 (ci := 0) (q0 := 0) rfl rfl) rfl rfl (Nat.le_of_ble_eq_true rfl) dX9_holds_96 [0, 1] [] rfl rfl rfl rfl (by decide) ⟨(Nat.le_of_ble_eq_true rfl), (Nat.le_of_ble_eq_true rfl)⟩ (fun r u H locs hp hw => ?_)
                have hw : Wd D A s [oM ad fu ft ff fs fa fb fn fr, ((ad 1), .inl (d 0, 1247, .inl Ww))] H locs := hw
                subst r
                refine lv_istore (lv' := [(6, .int q11), (2, .int (x32.1 + 1)), (5, .int q6), (0, .ref (ad 0)), (1, .int p1), (3, .int x32.2.1), (4, .int x32.2.2)]) hx hb dX9_holds_99 hl (by decide) rfl (fun ls hl => ?_)
                refine lv_iload hx hb dX9_holds_101 (lv_at hl 2 rfl) ?_
                refine lv_iload hx hb dX9_holds_103 (lv_at hl 0 rfl) ?_
                refine lv_icmp_gt (tgt := 127) hx hb dX9_holds_105 (by decide) (fun c105 => ?_) (fun c105 => ?_)
                · have hf := if_t hf c105
                  refine lv_iload hx hb dX9_holds_127 (lv_at hl 6 rfl) ?_
                  refine lv_goto (tgt := 133) hx hb dX9_holds_129 (by decide) ?_
                  refine lv_istore_n (lv' := [(3, .int x32.2.2), (6, .int q11), (2, .int (x32.1 + 1)), (5, .int q6), (0, .ref (ad 0)), (1, .int p1), (4, .int x32.2.2)]) hx hb dX9_holds_133 rfl hl (by decide) rfl (fun ls hl => ?_)
                  refine lv_iinc (v := (x32.2.2 + 1)) (lv' := [(4, .int (x32.2.2 + 1)), (3, .int x32.2.2), (6, .int q11), (2, .int (x32.1 + 1)), (5, .int q6), (0, .ref (ad 0)), (1, .int p1)]) hx hb dX9_holds_134 hl (k := 6) rfl (by first | rfl | decide) (by decide) rfl (fun ls hl => ?_)
                  refine lv_goto (tgt := 32) hx hb dX9_holds_137 (by decide) ?_
                  have hf := sm_e hf
                  subst hf
                  exact hin32 _ rfl _ _ _ hw (lv_sub hl [5, 6, 3, 1, 0] rfl)
                · have hf := if_f hf c105
                  refine lv_iload hx hb dX9_holds_108 (lv_at hl 2 rfl) ?_
                  refine lv_iload hx hb dX9_holds_110 (lv_at hl 0 rfl) ?_
                  refine lv_icmp_ne (tgt := 132) hx hb dX9_holds_112 (by decide) (fun c112 => ?_) (fun c112 => ?_)
                  · have hf := if_f hf c112
                    refine lv_iload_n hx hb dX9_holds_132 rfl (lv_at hl 5 rfl) ?_
                    refine lv_istore_n (lv' := [(3, .int x32.2.1), (6, .int q11), (2, .int (x32.1 + 1)), (5, .int q6), (0, .ref (ad 0)), (1, .int p1), (4, .int x32.2.2)]) hx hb dX9_holds_133 rfl hl (by decide) rfl (fun ls hl => ?_)
                    refine lv_iinc (v := (x32.2.2 + 1)) (lv' := [(4, .int (x32.2.2 + 1)), (3, .int x32.2.1), (6, .int q11), (2, .int (x32.1 + 1)), (5, .int q6), (0, .ref (ad 0)), (1, .int p1)]) hx hb dX9_holds_134 hl (k := 6) rfl (by first | rfl | decide) (by decide) rfl (fun ls hl => ?_)
                    refine lv_goto (tgt := 32) hx hb dX9_holds_137 (by decide) ?_
                    have hf := sm_e hf
                    subst hf
                    exact hin32 _ rfl _ _ _ hw (lv_sub hl [5, 6, 3, 1, 0] rfl)
                  · have hf := if_t hf c112
                    refine lv_iload hx hb dX9_holds_115 (lv_at hl 6 rfl) ?_
                    obtain ⟨q12, hcq12, hf⟩ := op_e hf
                    refine x_SI (wr := [oM ad fu ft ff fs fa fb fn fr, ((ad 1), .inl (d 0, 1247, .inl Ww))]) (rest := []) [.int x32.2.2] hX cx hw hl.1 (mX9_ones l X hX D d x32.2.2 q12 hcq12) (lw_S q1423 q1424 q94 q1425) hd_X9_ones ⟨Nat.le_of_ble_eq_true rfl, Nat.le_of_ble_eq_true rfl⟩ rfl rfl (Nat.le_of_ble_eq_true rfl) dX9_holds_117 [] [0, 1] rfl rfl rfl rfl (by decide) ⟨(Nat.le_of_ble_eq_true rfl), (Nat.le_of_ble_eq_true rfl)⟩ (fun r u H locs hp hw => ?_)
                    have hw : Wd D A s [oM ad fu ft ff fs fa fb fn fr, ((ad 1), .inl (d 0, 1247, .inl Ww))] H locs := hw
                    subst r
                    refine lv_iload_n hx hb dX9_holds_120 rfl (lv_at hl 5 rfl) ?_
                    obtain ⟨q13, hcq13, hf⟩ := op_e hf
                    refine x_SI (wr := [oM ad fu ft ff fs fa fb fn fr, ((ad 1), .inl (d 0, 1247, .inl Ww))]) (rest := [.int q12]) [.int x32.2.1] hX cx hw hl.1 (mX9_ones l X hX D d x32.2.1 q13 hcq13) (lw_S q1423 q1424 q94 q1425) hd_X9_ones ⟨Nat.le_of_ble_eq_true rfl, Nat.le_of_ble_eq_true rfl⟩ rfl rfl (Nat.le_of_ble_eq_true rfl) dX9_holds_121 [] [0, 1] rfl rfl rfl rfl (by decide) ⟨(Nat.le_of_ble_eq_true rfl), (Nat.le_of_ble_eq_true rfl)⟩ (fun r u H locs hp hw => ?_)
                    have hw : Wd D A s [oM ad fu ft ff fs fa fb fn fr, ((ad 1), .inl (d 0, 1247, .inl Ww))] H locs := hw
                    subst r
                    refine lv_icmp_le (tgt := 132) hx hb dX9_holds_124 (by decide) (fun c124 => ?_) (fun c124 => ?_)
                    · have hf := if_t hf c124
                      refine lv_iload_n hx hb dX9_holds_132 rfl (lv_at hl 5 rfl) ?_
                      refine lv_istore_n (lv' := [(3, .int x32.2.1), (6, .int q11), (2, .int (x32.1 + 1)), (5, .int q6), (0, .ref (ad 0)), (1, .int p1), (4, .int x32.2.2)]) hx hb dX9_holds_133 rfl hl (by decide) rfl (fun ls hl => ?_)
                      refine lv_iinc (v := (x32.2.2 + 1)) (lv' := [(4, .int (x32.2.2 + 1)), (3, .int x32.2.1), (6, .int q11), (2, .int (x32.1 + 1)), (5, .int q6), (0, .ref (ad 0)), (1, .int p1)]) hx hb dX9_holds_134 hl (k := 6) rfl (by first | rfl | decide) (by decide) rfl (fun ls hl => ?_)
                      refine lv_goto (tgt := 32) hx hb dX9_holds_137 (by decide) ?_
                      have hf := sm_e hf
                      subst hf
                      exact hin32 _ rfl _ _ _ hw (lv_sub hl [5, 6, 3, 1, 0] rfl)
                    · have hf := if_f hf c124
                      refine lv_iload hx hb dX9_holds_127 (lv_at hl 6 rfl) ?_
                      refine lv_goto (tgt := 133) hx hb dX9_holds_129 (by decide) ?_
                      refine lv_istore_n (lv' := [(3, .int x32.2.2), (6, .int q11), (2, .int (x32.1 + 1)), (5, .int q6), (0, .ref (ad 0)), (1, .int p1), (4, .int x32.2.2)]) hx hb dX9_holds_133 rfl hl (by decide) rfl (fun ls hl => ?_)
                      refine lv_iinc (v := (x32.2.2 + 1)) (lv' := [(4, .int (x32.2.2 + 1)), (3, .int x32.2.2), (6, .int q11), (2, .int (x32.1 + 1)), (5, .int q6), (0, .ref (ad 0)), (1, .int p1)]) hx hb dX9_holds_134 hl (k := 6) rfl (by first | rfl | decide) (by decide) rfl (fun ls hl => ?_)
                      refine lv_goto (tgt := 32) hx hb dX9_holds_137 (by decide) ?_
                      have hf := sm_e hf
                      subst hf
                      exact hin32 _ rfl _ _ _ hw (lv_sub hl [5, 6, 3, 1, 0] rfl)
    · have hf := if_t hf c19
      refine lv_ldc (v := (-1000001)) hx hb hown (hts _ q1319) dX9_holds_22 ?_
      have hf := sm_e hf
      subst hf
      exact x_retI cx hw rfl () rfl [0, 1] rfl rfl (Nat.le_of_ble_eq_true rfl) (Nat.le_of_ble_eq_true rfl) dX9_holds_24
  · have hf := if_t hf c4
    refine lv_ldc (v := (-1000002)) hx hb hown (hts _ q1397) dX9_holds_7 ?_
    have hf := sm_e hf
    subst hf
    exact x_retI cx hw rfl () rfl [0, 1] rfl rfl (Nat.le_of_ble_eq_true rfl) (Nat.le_of_ble_eq_true rfl) dX9_holds_9
theorem hd_X9_heatOf : yX9_heatOf.cls = "DishLiftModel" ∧ yX9_heatOf.cls ≠ "java/lang/invoke/MethodHandle" ∧ yX9_heatOf.cls ≠ "java/lang/invoke/VarHandle" ∧ (parseMethodDescriptor yX9_heatOf.desc).map (fun d => d.parameters.length) = some 1 := by decide +kernel
set_option maxHeartbeats 4000000 in
theorem mX9_heatOf (l : Launch) (X : XT) (hX : XOK X) (D : va_G) (d : Nat → ClassId) (ad : Nat → Nat) (fu : Int32) (ft : Int32) (ff : Int32) (fs : Int32) (fa : Int32) (fb : Int32) (fn : Int32) (fr : Int32) (Ww : Nat → Int32) (p1 : Int32) (res : Int32) (hf : fX9_heatOf Ww p1 = some res) : MetI l yX9_heatOf (ws_ yX9_heatOf cX9_heatOf 4 (some .int)) { frames := 0, cells := 0, slots := 0, locals := 0 } [.ref (ad 0), .int p1] X D d [oM ad fu ft ff fs fa fb fn fr, ((ad 1), .inl (d 0, 1247, .inl Ww))] (fun r (_ : Unit) => r = res) (fun _ => [oM ad fu ft ff fs fa fb fn fr, ((ad 1), .inl (d 0, 1247, .inl Ww))]) := by
  refine MetI.of (by decide +kernel) (Nat.le_of_ble_eq_true rfl) ?_
  intro p e s m below meth c A cx hw ls hl
  have cx : Cx p s m _ meth c X D d A "DishLiftModel" cX9_heatOf 4 (some .int) "heatOf" := cx
  have cx' := cx
  obtain ⟨hx, hb, hr, hlk, hml, hown, hts, hK, hA, hXs, hnm⟩ := cx'
  have hl : lv_has ls 4 [(0, .ref (ad 0)), (1, .int p1)] := hl
  unfold fX9_heatOf at hf
  refine lv_iconst (v := 0) hx hb dX9_heatOf_0 (by decide) ?_
  refine lv_istore_n (lv' := [(2, .int 0), (0, .ref (ad 0)), (1, .int p1)]) hx hb dX9_heatOf_1 rfl hl (by decide) rfl (fun ls hl => ?_)
  refine lv_iconst (v := 0) hx hb dX9_heatOf_2 (by decide) ?_
  refine lv_istore_n (lv' := [(3, .int 0), (2, .int 0), (0, .ref (ad 0)), (1, .int p1)]) hx hb dX9_heatOf_3 rfl hl (by decide) rfl (fun ls hl => ?_)
  obtain ⟨r1, hlp4, hf⟩ := op_e hf
  refine x_join (A := A) (D := D) (J := 36) (nL := 4) (cells' := 0) (slots' := 0) (st := []) [oM ad fu ft ff fs fa fb fn fr, ((ad 1), .inl (d 0, 1247, .inl Ww))] [(2, .int r1)] (fun H locs ls hw hl => ?_) (fun hK4 => ?_)
  · refine lv_iload_n hx hb dX9_heatOf_36 rfl (lv_at hl 0 rfl) ?_
    have hf := sm_e hf
    subst hf
    exact x_retI cx hw rfl () rfl [0, 1] rfl rfl (Nat.le_of_ble_eq_true rfl) (Nat.le_of_ble_eq_true rfl) dX9_heatOf_37
  · refine x_lp hlp4 (fun x4 => [oM ad fu ft ff fs fa fb fn fr, ((ad 1), .inl (d 0, 1247, .inl Ww))]) (fun x4 => [(0, .ref (ad 0)), (1, .int p1), (2, .int x4.1), (3, .int x4.2)]) hw (lv_sub hl [2, 3, 1, 0] rfl) (fun x4 y4 hf hin4 hout4 H locs ls hw hl => ?_)
    have hw : Wd D A s [oM ad fu ft ff fs fa fb fn fr, ((ad 1), .inl (d 0, 1247, .inl Ww))] H locs := hw
    have hl : lv_has ls 4 [(0, .ref (ad 0)), (1, .int p1), (2, .int x4.1), (3, .int x4.2)] := hl
    refine lv_iload_n hx hb dX9_heatOf_4 rfl (lv_at hl 3 rfl) ?_
    refine lv_aload_n hx hb dX9_heatOf_5 rfl (lv_at hl 0 rfl) ?_
    refine va_get (ci := 0) (C := RX9) (T := TX9) (N := 19) hx hb hts in_X9 hown hK hw.1 0 rfl rfl 0 (by decide) (hts _ q1248) (fun _ h9 => h9) rfl dX9_heatOf_6 ?_
    refine lv_iload_n hx hb dX9_heatOf_9 rfl (lv_at hl 1 rfl) ?_
    refine lv_iconst (v := 0) hx hb dX9_heatOf_10 (by decide) ?_
    refine lv_iadd hx hb dX9_heatOf_11 ?_
    obtain ⟨v2, hv, hf⟩ := op_e hf
    refine x_iald (q0 := 1) cx hw rfl hv dX9_heatOf_12 ?_
    refine lv_icmp_ge (tgt := 36) hx hb dX9_heatOf_13 (by decide) (fun c13 => ?_) (fun c13 => ?_)
    · have hf := if_t hf c13
      have hf := sm_e hf
      subst hf
      have hz := hout4 _ rfl
      subst hz
      exact hK4 _ _ _ hw (lv_sub hl [2] rfl)
    · have hf := if_f hf c13
      refine lv_iload_n hx hb dX9_heatOf_16 rfl (lv_at hl 2 rfl) ?_
      refine lv_aload_n hx hb dX9_heatOf_17 rfl (lv_at hl 0 rfl) ?_
      refine va_get (ci := 0) (C := RX9) (T := TX9) (N := 19) hx hb hts in_X9 hown hK hw.1 0 rfl rfl 0 (by decide) (hts _ q1248) (fun _ h9 => h9) rfl dX9_heatOf_18 ?_
      refine lv_iload_n hx hb dX9_heatOf_21 rfl (lv_at hl 1 rfl) ?_
      refine lv_bipush (v := 31) hx hb dX9_heatOf_22 (by decide) ?_
      refine lv_iadd hx hb dX9_heatOf_24 ?_
      refine lv_iload_n hx hb dX9_heatOf_25 rfl (lv_at hl 3 rfl) ?_
      refine lv_iadd hx hb dX9_heatOf_26 ?_
      obtain ⟨v3, hv, hf⟩ := op_e hf
      refine x_iald (q0 := 1) cx hw rfl hv dX9_heatOf_27 ?_
      refine lv_iadd hx hb dX9_heatOf_28 ?_
      refine lv_istore_n (lv' := [(2, .int (x4.1 + v3)), (0, .ref (ad 0)), (1, .int p1), (3, .int x4.2)]) hx hb dX9_heatOf_29 rfl hl (by decide) rfl (fun ls hl => ?_)
      refine lv_iinc (v := (x4.2 + 1)) (lv' := [(3, .int (x4.2 + 1)), (2, .int (x4.1 + v3)), (0, .ref (ad 0)), (1, .int p1)]) hx hb dX9_heatOf_30 hl (k := 3) rfl (by first | rfl | decide) (by decide) rfl (fun ls hl => ?_)
      refine lv_goto (tgt := 4) hx hb dX9_heatOf_33 (by decide) ?_
      have hf := sm_e hf
      subst hf
      exact hin4 _ rfl _ _ _ hw (lv_sub hl [2, 3, 1, 0] rfl)
theorem hd_X9_heatServed : yX9_heatServed.cls = "DishLiftModel" ∧ yX9_heatServed.cls ≠ "java/lang/invoke/MethodHandle" ∧ yX9_heatServed.cls ≠ "java/lang/invoke/VarHandle" ∧ (parseMethodDescriptor yX9_heatServed.desc).map (fun d => d.parameters.length) = some 1 := by decide +kernel
set_option maxHeartbeats 4000000 in
theorem mX9_heatServed (l : Launch) (X : XT) (hX : XOK X) (D : va_G) (d : Nat → ClassId) (ad : Nat → Nat) (fu : Int32) (ft : Int32) (ff : Int32) (fs : Int32) (fa : Int32) (fb : Int32) (fn : Int32) (fr : Int32) (Ww : Nat → Int32) (p1 : Int32) (res : Int32) (hf : fX9_heatServed Ww p1 = some res) : MetI l yX9_heatServed (ws_ yX9_heatServed cX9_heatServed 4 (some .int)) { frames := 0, cells := 0, slots := 0, locals := 0 } [.ref (ad 0), .int p1] X D d [oM ad fu ft ff fs fa fb fn fr, ((ad 1), .inl (d 0, 1247, .inl Ww))] (fun r (_ : Unit) => r = res) (fun _ => [oM ad fu ft ff fs fa fb fn fr, ((ad 1), .inl (d 0, 1247, .inl Ww))]) := by
  refine MetI.of (by decide +kernel) (Nat.le_of_ble_eq_true rfl) ?_
  intro p e s m below meth c A cx hw ls hl
  have cx : Cx p s m _ meth c X D d A "DishLiftModel" cX9_heatServed 4 (some .int) "heatServed" := cx
  have cx' := cx
  obtain ⟨hx, hb, hr, hlk, hml, hown, hts, hK, hA, hXs, hnm⟩ := cx'
  have hl : lv_has ls 4 [(0, .ref (ad 0)), (1, .int p1)] := hl
  unfold fX9_heatServed at hf
  refine lv_iconst (v := 0) hx hb dX9_heatServed_0 (by decide) ?_
  refine lv_istore_n (lv' := [(2, .int 0), (0, .ref (ad 0)), (1, .int p1)]) hx hb dX9_heatServed_1 rfl hl (by decide) rfl (fun ls hl => ?_)
  refine lv_iconst (v := 0) hx hb dX9_heatServed_2 (by decide) ?_
  refine lv_istore_n (lv' := [(3, .int 0), (2, .int 0), (0, .ref (ad 0)), (1, .int p1)]) hx hb dX9_heatServed_3 rfl hl (by decide) rfl (fun ls hl => ?_)
  obtain ⟨r1, hlp4, hf⟩ := op_e hf
  refine x_join (A := A) (D := D) (J := 56) (nL := 4) (cells' := 0) (slots' := 0) (st := []) [oM ad fu ft ff fs fa fb fn fr, ((ad 1), .inl (d 0, 1247, .inl Ww))] [(2, .int r1)] (fun H locs ls hw hl => ?_) (fun hK4 => ?_)
  · refine lv_iload_n hx hb dX9_heatServed_56 rfl (lv_at hl 0 rfl) ?_
    have hf := sm_e hf
    subst hf
    exact x_retI cx hw rfl () rfl [0, 1] rfl rfl (Nat.le_of_ble_eq_true rfl) (Nat.le_of_ble_eq_true rfl) dX9_heatServed_57
  · refine x_lp hlp4 (fun x4 => [oM ad fu ft ff fs fa fb fn fr, ((ad 1), .inl (d 0, 1247, .inl Ww))]) (fun x4 => [(0, .ref (ad 0)), (1, .int p1), (2, .int x4.1), (3, .int x4.2)]) hw (lv_sub hl [2, 3, 1, 0] rfl) (fun x4 y4 hf hin4 hout4 H locs ls hw hl => ?_)
    have hw : Wd D A s [oM ad fu ft ff fs fa fb fn fr, ((ad 1), .inl (d 0, 1247, .inl Ww))] H locs := hw
    have hl : lv_has ls 4 [(0, .ref (ad 0)), (1, .int p1), (2, .int x4.1), (3, .int x4.2)] := hl
    refine lv_iload_n hx hb dX9_heatServed_4 rfl (lv_at hl 3 rfl) ?_
    refine lv_aload_n hx hb dX9_heatServed_5 rfl (lv_at hl 0 rfl) ?_
    refine va_get (ci := 0) (C := RX9) (T := TX9) (N := 19) hx hb hts in_X9 hown hK hw.1 0 rfl rfl 0 (by decide) (hts _ q1248) (fun _ h9 => h9) rfl dX9_heatServed_6 ?_
    refine lv_iload_n hx hb dX9_heatServed_9 rfl (lv_at hl 1 rfl) ?_
    refine lv_iconst (v := 0) hx hb dX9_heatServed_10 (by decide) ?_
    refine lv_iadd hx hb dX9_heatServed_11 ?_
    obtain ⟨v2, hv, hf⟩ := op_e hf
    refine x_iald (q0 := 1) cx hw rfl hv dX9_heatServed_12 ?_
    refine lv_icmp_ge (tgt := 56) hx hb dX9_heatServed_13 (by decide) (fun c13 => ?_) (fun c13 => ?_)
    · have hf := if_t hf c13
      have hf := sm_e hf
      subst hf
      have hz := hout4 _ rfl
      subst hz
      exact hK4 _ _ _ hw (lv_sub hl [2] rfl)
    · have hf := if_f hf c13
      refine lv_iload_n hx hb dX9_heatServed_16 rfl (lv_at hl 2 rfl) ?_
      refine lv_aload_n hx hb dX9_heatServed_17 rfl (lv_at hl 0 rfl) ?_
      refine va_get (ci := 0) (C := RX9) (T := TX9) (N := 19) hx hb hts in_X9 hown hK hw.1 0 rfl rfl 0 (by decide) (hts _ q1248) (fun _ h9 => h9) rfl dX9_heatServed_18 ?_
      refine lv_iload_n hx hb dX9_heatServed_21 rfl (lv_at hl 1 rfl) ?_
      refine lv_bipush (v := 13) hx hb dX9_heatServed_22 (by decide) ?_
      refine lv_iadd hx hb dX9_heatServed_24 ?_
      refine lv_iload_n hx hb dX9_heatServed_25 rfl (lv_at hl 3 rfl) ?_
      refine lv_iadd hx hb dX9_heatServed_26 ?_
      obtain ⟨v3, hv, hf⟩ := op_e hf
      refine x_iald (q0 := 1) cx hw rfl hv dX9_heatServed_27 ?_
      refine lv_bipush (v := 11) hx hb dX9_heatServed_28 (by decide) ?_
      refine lv_icmp_ne (tgt := 47) hx hb dX9_heatServed_30 (by decide) (fun c30 => ?_) (fun c30 => ?_)
      · have hf := if_f hf c30
        refine lv_iconst (v := 0) hx hb dX9_heatServed_47 (by decide) ?_
        refine lv_iadd hx hb dX9_heatServed_48 ?_
        refine lv_istore_n (lv' := [(2, .int (x4.1 + 0)), (0, .ref (ad 0)), (1, .int p1), (3, .int x4.2)]) hx hb dX9_heatServed_49 rfl hl (by decide) rfl (fun ls hl => ?_)
        refine lv_iinc (v := (x4.2 + 1)) (lv' := [(3, .int (x4.2 + 1)), (2, .int (x4.1 + 0)), (0, .ref (ad 0)), (1, .int p1)]) hx hb dX9_heatServed_50 hl (k := 3) rfl (by first | rfl | decide) (by decide) rfl (fun ls hl => ?_)
        refine lv_goto (tgt := 4) hx hb dX9_heatServed_53 (by decide) ?_
        have hf := sm_e hf
        subst hf
        exact hin4 _ rfl _ _ _ hw (lv_sub hl [2, 3, 1, 0] rfl)
      · have hf := if_t hf c30
        refine lv_aload_n hx hb dX9_heatServed_33 rfl (lv_at hl 0 rfl) ?_
        refine va_get (ci := 0) (C := RX9) (T := TX9) (N := 19) hx hb hts in_X9 hown hK hw.1 0 rfl rfl 0 (by decide) (hts _ q1248) (fun _ h9 => h9) rfl dX9_heatServed_34 ?_
        refine lv_iload_n hx hb dX9_heatServed_37 rfl (lv_at hl 1 rfl) ?_
        refine lv_bipush (v := 31) hx hb dX9_heatServed_38 (by decide) ?_
        refine lv_iadd hx hb dX9_heatServed_40 ?_
        refine lv_iload_n hx hb dX9_heatServed_41 rfl (lv_at hl 3 rfl) ?_
        refine lv_iadd hx hb dX9_heatServed_42 ?_
        obtain ⟨v4, hv, hf⟩ := op_e hf
        refine x_iald (q0 := 1) cx hw rfl hv dX9_heatServed_43 ?_
        refine lv_goto (tgt := 48) hx hb dX9_heatServed_44 (by decide) ?_
        refine lv_iadd hx hb dX9_heatServed_48 ?_
        refine lv_istore_n (lv' := [(2, .int (x4.1 + v4)), (0, .ref (ad 0)), (1, .int p1), (3, .int x4.2)]) hx hb dX9_heatServed_49 rfl hl (by decide) rfl (fun ls hl => ?_)
        refine lv_iinc (v := (x4.2 + 1)) (lv' := [(3, .int (x4.2 + 1)), (2, .int (x4.1 + v4)), (0, .ref (ad 0)), (1, .int p1)]) hx hb dX9_heatServed_50 hl (k := 3) rfl (by first | rfl | decide) (by decide) rfl (fun ls hl => ?_)
        refine lv_goto (tgt := 4) hx hb dX9_heatServed_53 (by decide) ?_
        have hf := sm_e hf
        subst hf
        exact hin4 _ rfl _ _ _ hw (lv_sub hl [2, 3, 1, 0] rfl)
theorem hd_X9_share : yX9_share.cls = "DishLiftModel" ∧ yX9_share.cls ≠ "java/lang/invoke/MethodHandle" ∧ yX9_share.cls ≠ "java/lang/invoke/VarHandle" ∧ (parseMethodDescriptor yX9_share.desc).map (fun d => d.parameters.length) = some 2 := by decide +kernel
set_option maxHeartbeats 4000000 in
theorem mX9_share (l : Launch) (X : XT) (hX : XOK X) (D : va_G) (d : Nat → ClassId) (ad : Nat → Nat) (fu : Int32) (ft : Int32) (ff : Int32) (fs : Int32) (fa : Int32) (fb : Int32) (fn : Int32) (fr : Int32) (Ww : Nat → Int32) (p1 : Int32) (p2 : Int32) (res : Int32) (hf : fX9_share Ww p1 p2 = some res) : MetI l yX9_share (ws_ yX9_share cX9_share 8 (some .int)) { frames := 2, cells := 0, slots := 0, locals := 46 } [.ref (ad 0), .int p1, .int p2] X D d [oM ad fu ft ff fs fa fb fn fr, ((ad 1), .inl (d 0, 1247, .inl Ww))] (fun r (_ : Unit) => r = res) (fun _ => [oM ad fu ft ff fs fa fb fn fr, ((ad 1), .inl (d 0, 1247, .inl Ww))]) := by
  refine MetI.of (by decide +kernel) (Nat.le_of_ble_eq_true rfl) ?_
  intro p e s m below meth c A cx hw ls hl
  have cx : Cx p s m _ meth c X D d A "DishLiftModel" cX9_share 8 (some .int) "share" := cx
  have cx' := cx
  obtain ⟨hx, hb, hr, hlk, hml, hown, hts, hK, hA, hXs, hnm⟩ := cx'
  have hl : lv_has ls 8 [(0, .ref (ad 0)), (1, .int p1), (2, .int p2)] := hl
  unfold fX9_share at hf
  refine lv_aload_n hx hb dX9_share_0 rfl (lv_at hl 0 rfl) ?_
  refine lv_iload_n hx hb dX9_share_1 rfl (lv_at hl 1 rfl) ?_
  obtain ⟨q1, hcq1, hf⟩ := op_e hf
  refine x_VI (wr := []) (rest := []) [.int p1] hX cx hw hl.1 (mX9_isDish l X hX D d ad fu ft ff fs fa fb fn fr Ww p1 q1 hcq1) (lw_V q1475 q1477 qs58 q94 q1478) hd_X9_isDish ⟨Nat.le_of_ble_eq_true rfl, Nat.le_of_ble_eq_true rfl⟩ (va_recv hK hw.1 (ci := 0) (q0 := 0) rfl rfl) rfl rfl (Nat.le_of_ble_eq_true rfl) dX9_share_2 [0, 1] [] rfl rfl rfl rfl (by decide) ⟨(Nat.le_of_ble_eq_true rfl), (Nat.le_of_ble_eq_true rfl)⟩ (fun r u H locs hp hw => ?_)
  have hw : Wd D A s [oM ad fu ft ff fs fa fb fn fr, ((ad 1), .inl (d 0, 1247, .inl Ww))] H locs := hw
  subst r
  refine lv_if_eq (tgt := 20) hx hb dX9_share_5 (by decide) (fun c5 => ?_) (fun c5 => ?_)
  · have hf := if_t hf c5
    refine lv_ldc (v := (-1000001)) hx hb hown (hts _ q1319) dX9_share_20 ?_
    have hf := sm_e hf
    subst hf
    exact x_retI cx hw rfl () rfl [0, 1] rfl rfl (Nat.le_of_ble_eq_true rfl) (Nat.le_of_ble_eq_true rfl) dX9_share_22
  · have hf := if_f hf c5
    refine lv_iload_n hx hb dX9_share_8 rfl (lv_at hl 2 rfl) ?_
    refine lv_i2l (v := p2.toInt64) hx hb dX9_share_9 rfl ?_
    refine lv_lconst (v := 0) hx hb dX9_share_10 (by decide) ?_
    refine lv_ldc2 (v := 999) hx hb hown (hts _ q1561) dX9_share_11 ?_
    obtain ⟨q2, hcq2, hf⟩ := op_e hf
    refine x_SI (wr := [oM ad fu ft ff fs fa fb fn fr, ((ad 1), .inl (d 0, 1247, .inl Ww))]) (rest := []) [.long p2.toInt64, .long 0, .long 999] hX cx hw hl.1 (mX9_in l X hX D d p2.toInt64 0 999 q2 hcq2) (lw_S q1315 q1316 q94 q1317) hd_X9_in ⟨Nat.le_of_ble_eq_true rfl, Nat.le_of_ble_eq_true rfl⟩ rfl rfl (Nat.le_of_ble_eq_true rfl) dX9_share_14 [] [0, 1] rfl rfl rfl rfl (by decide) ⟨(Nat.le_of_ble_eq_true rfl), (Nat.le_of_ble_eq_true rfl)⟩ (fun r u H locs hp hw => ?_)
    have hw : Wd D A s [oM ad fu ft ff fs fa fb fn fr, ((ad 1), .inl (d 0, 1247, .inl Ww))] H locs := hw
    subst r
    refine lv_if_ne (tgt := 23) hx hb dX9_share_17 (by decide) (fun c17 => ?_) (fun c17 => ?_)
    · have hf := if_f hf c17
      refine lv_aload_n hx hb dX9_share_23 rfl (lv_at hl 0 rfl) ?_
      refine lv_iconst (v := 0) hx hb dX9_share_24 (by decide) ?_
      obtain ⟨q3, hcq3, hf⟩ := op_e hf
      refine x_VI (wr := []) (rest := []) [.int 0] hX cx hw hl.1 (mX9_heatOf l X hX D d ad fu ft ff fs fa fb fn fr Ww 0 q3 hcq3) (lw_V q1562 q1564 qs66 q94 q1565) hd_X9_heatOf ⟨Nat.le_of_ble_eq_true rfl, Nat.le_of_ble_eq_true rfl⟩ (va_recv hK hw.1 (ci := 0) (q0 := 0) rfl rfl) rfl rfl (Nat.le_of_ble_eq_true rfl) dX9_share_25 [0, 1] [] rfl rfl rfl rfl (by decide) ⟨(Nat.le_of_ble_eq_true rfl), (Nat.le_of_ble_eq_true rfl)⟩ (fun r u H locs hp hw => ?_)
      have hw : Wd D A s [oM ad fu ft ff fs fa fb fn fr, ((ad 1), .inl (d 0, 1247, .inl Ww))] H locs := hw
      subst r
      refine lv_aload_n hx hb dX9_share_28 rfl (lv_at hl 0 rfl) ?_
      refine lv_iconst (v := 0) hx hb dX9_share_29 (by decide) ?_
      obtain ⟨q4, hcq4, hf⟩ := op_e hf
      refine x_VI (wr := []) (rest := [.int q3]) [.int 0] hX cx hw hl.1 (mX9_heatServed l X hX D d ad fu ft ff fs fa fb fn fr Ww 0 q4 hcq4) (lw_V q1566 q1568 qs67 q94 q1569) hd_X9_heatServed ⟨Nat.le_of_ble_eq_true rfl, Nat.le_of_ble_eq_true rfl⟩ (va_recv hK hw.1 (ci := 0) (q0 := 0) rfl rfl) rfl rfl (Nat.le_of_ble_eq_true rfl) dX9_share_30 [0, 1] [] rfl rfl rfl rfl (by decide) ⟨(Nat.le_of_ble_eq_true rfl), (Nat.le_of_ble_eq_true rfl)⟩ (fun r u H locs hp hw => ?_)
      have hw : Wd D A s [oM ad fu ft ff fs fa fb fn fr, ((ad 1), .inl (d 0, 1247, .inl Ww))] H locs := hw
      subst r
      refine lv_isub hx hb dX9_share_33 ?_
      refine lv_istore_n (lv' := [(3, .int (q3 - q4)), (0, .ref (ad 0)), (1, .int p1), (2, .int p2)]) hx hb dX9_share_34 rfl hl (by decide) rfl (fun ls hl => ?_)
      refine lv_aload_n hx hb dX9_share_35 rfl (lv_at hl 1 rfl) ?_
      refine va_get (ci := 0) (C := RX9) (T := TX9) (N := 19) hx hb hts in_X9 hown hK hw.1 0 rfl rfl 0 (by decide) (hts _ q1248) (fun _ h9 => h9) rfl dX9_share_36 ?_
      refine lv_bipush (v := 13) hx hb dX9_share_39 (by decide) ?_
      refine lv_iload_n hx hb dX9_share_41 rfl (lv_at hl 2 rfl) ?_
      refine lv_iadd hx hb dX9_share_42 ?_
      obtain ⟨v5, hv, hf⟩ := op_e hf
      refine x_iald (q0 := 1) cx hw rfl hv dX9_share_43 ?_
      refine lv_bipush (v := 11) hx hb dX9_share_44 (by decide) ?_
      refine lv_icmp_eq (tgt := 61) hx hb dX9_share_46 (by decide) (fun c46 => ?_) (fun c46 => ?_)
      · have hf := if_t hf c46
        refine lv_iconst (v := 0) hx hb dX9_share_61 (by decide) ?_
        have hf := sm_e hf
        subst hf
        exact x_retI cx hw rfl () rfl [0, 1] rfl rfl (Nat.le_of_ble_eq_true rfl) (Nat.le_of_ble_eq_true rfl) dX9_share_62
      · have hf := if_f hf c46
        refine lv_aload_n hx hb dX9_share_49 rfl (lv_at hl 1 rfl) ?_
        refine va_get (ci := 0) (C := RX9) (T := TX9) (N := 19) hx hb hts in_X9 hown hK hw.1 0 rfl rfl 0 (by decide) (hts _ q1248) (fun _ h9 => h9) rfl dX9_share_50 ?_
        refine lv_bipush (v := 31) hx hb dX9_share_53 (by decide) ?_
        refine lv_iload_n hx hb dX9_share_55 rfl (lv_at hl 2 rfl) ?_
        refine lv_iadd hx hb dX9_share_56 ?_
        obtain ⟨v6, hv, hf⟩ := op_e hf
        refine x_iald (q0 := 1) cx hw rfl hv dX9_share_57 ?_
        refine lv_if_ne (tgt := 63) hx hb dX9_share_58 (by decide) (fun c58 => ?_) (fun c58 => ?_)
        · have hf := if_f hf c58
          refine lv_iload_n hx hb dX9_share_63 rfl (lv_at hl 3 rfl) ?_
          refine lv_istore (lv' := [(4, .int p2), (3, .int (q3 - q4)), (0, .ref (ad 0)), (1, .int p1), (2, .int p2)]) hx hb dX9_share_64 hl (by decide) rfl (fun ls hl => ?_)
          refine lv_iconst (v := 0) hx hb dX9_share_66 (by decide) ?_
          refine lv_istore (lv' := [(5, .int 0), (4, .int p2), (3, .int (q3 - q4)), (0, .ref (ad 0)), (1, .int p1), (2, .int p2)]) hx hb dX9_share_67 hl (by decide) rfl (fun ls hl => ?_)
          refine lv_iconst (v := 0) hx hb dX9_share_69 (by decide) ?_
          refine lv_istore (lv' := [(6, .int 0), (5, .int 0), (4, .int p2), (3, .int (q3 - q4)), (0, .ref (ad 0)), (1, .int p1), (2, .int p2)]) hx hb dX9_share_70 hl (by decide) rfl (fun ls hl => ?_)
          obtain ⟨r7, hlp72, hf⟩ := op_e hf
          refine x_join (A := A) (D := D) (J := 152) (nL := 8) (cells' := 0) (slots' := 0) (st := []) [oM ad fu ft ff fs fa fb fn fr, ((ad 1), .inl (d 0, 1247, .inl Ww))] [(0, .ref (ad 0)), (1, .int p1), (2, .int p2), (3, .int (q3 - q4)), (4, .int r7.1), (5, .int r7.2)] (fun H locs ls hw hl => ?_) (fun hK72 => ?_)
          · refine lv_iload_n hx hb dX9_share_152 rfl (lv_at hl 2 rfl) ?_
            refine lv_aload_n hx hb dX9_share_153 rfl (lv_at hl 0 rfl) ?_
            refine va_get (ci := 0) (C := RX9) (T := TX9) (N := 19) hx hb hts in_X9 hown hK hw.1 0 rfl rfl 0 (by decide) (hts _ q1248) (fun _ h9 => h9) rfl dX9_share_154 ?_
            refine lv_bipush (v := 31) hx hb dX9_share_157 (by decide) ?_
            refine lv_iload_n hx hb dX9_share_159 rfl (lv_at hl 1 rfl) ?_
            refine lv_iadd hx hb dX9_share_160 ?_
            obtain ⟨v8, hv, hf⟩ := op_e hf
            refine x_iald (q0 := 1) cx hw rfl hv dX9_share_161 ?_
            refine lv_imul hx hb dX9_share_162 ?_
            refine lv_iload_n hx hb dX9_share_163 rfl (lv_at hl 3 rfl) ?_
            obtain ⟨g9, hv, hf⟩ := op_e hf
            refine x_idiv cx hv dX9_share_164 ?_
            refine lv_iload hx hb dX9_share_165 (lv_at hl 5 rfl) ?_
            refine lv_iload hx hb dX9_share_167 (lv_at hl 4 rfl) ?_
            refine lv_icmp_ge (tgt := 176) hx hb dX9_share_169 (by decide) (fun c169 => ?_) (fun c169 => ?_)
            · have hf := if_t hf c169
              refine lv_iconst (v := 0) hx hb dX9_share_176 (by decide) ?_
              refine lv_iadd hx hb dX9_share_177 ?_
              have hf := sm_e hf
              subst hf
              exact x_retI cx hw rfl () rfl [0, 1] rfl rfl (Nat.le_of_ble_eq_true rfl) (Nat.le_of_ble_eq_true rfl) dX9_share_178
            · have hf := if_f hf c169
              refine lv_iconst (v := 1) hx hb dX9_share_172 (by decide) ?_
              refine lv_goto (tgt := 177) hx hb dX9_share_173 (by decide) ?_
              refine lv_iadd hx hb dX9_share_177 ?_
              have hf := sm_e hf
              subst hf
              exact x_retI cx hw rfl () rfl [0, 1] rfl rfl (Nat.le_of_ble_eq_true rfl) (Nat.le_of_ble_eq_true rfl) dX9_share_178
          · refine x_lp hlp72 (fun x72 => [oM ad fu ft ff fs fa fb fn fr, ((ad 1), .inl (d 0, 1247, .inl Ww))]) (fun x72 => [(0, .ref (ad 0)), (1, .int p1), (2, .int p2), (3, .int (q3 - q4)), (4, .int x72.1), (5, .int x72.2.1), (6, .int x72.2.2)]) hw (lv_sub hl [4, 5, 6, 3, 2, 1, 0] rfl) (fun x72 y72 hf hin72 hout72 H locs ls hw hl => ?_)
            have hw : Wd D A s [oM ad fu ft ff fs fa fb fn fr, ((ad 1), .inl (d 0, 1247, .inl Ww))] H locs := hw
            have hl : lv_has ls 8 [(0, .ref (ad 0)), (1, .int p1), (2, .int p2), (3, .int (q3 - q4)), (4, .int x72.1), (5, .int x72.2.1), (6, .int x72.2.2)] := hl
            refine lv_iload hx hb dX9_share_72 (lv_at hl 6 rfl) ?_
            refine lv_aload_n hx hb dX9_share_74 rfl (lv_at hl 0 rfl) ?_
            refine va_get (ci := 0) (C := RX9) (T := TX9) (N := 19) hx hb hts in_X9 hown hK hw.1 0 rfl rfl 0 (by decide) (hts _ q1248) (fun _ h9 => h9) rfl dX9_share_75 ?_
            refine lv_iconst (v := 0) hx hb dX9_share_78 (by decide) ?_
            obtain ⟨v10, hv, hf⟩ := op_e hf
            refine x_iald (q0 := 1) cx hw rfl hv dX9_share_79 ?_
            refine lv_icmp_ge (tgt := 152) hx hb dX9_share_80 (by decide) (fun c80 => ?_) (fun c80 => ?_)
            · have hf := if_t hf c80
              have hf := sm_e hf
              subst hf
              have hz := hout72 _ rfl
              subst hz
              exact hK72 _ _ _ hw (lv_sub hl [0, 1, 2, 3, 4, 5] rfl)
            · have hf := if_f hf c80
              refine lv_aload_n hx hb dX9_share_83 rfl (lv_at hl 0 rfl) ?_
              refine va_get (ci := 0) (C := RX9) (T := TX9) (N := 19) hx hb hts in_X9 hown hK hw.1 0 rfl rfl 0 (by decide) (hts _ q1248) (fun _ h9 => h9) rfl dX9_share_84 ?_
              refine lv_bipush (v := 13) hx hb dX9_share_87 (by decide) ?_
              refine lv_iload hx hb dX9_share_89 (lv_at hl 6 rfl) ?_
              refine lv_iadd hx hb dX9_share_91 ?_
              obtain ⟨v11, hv, hf⟩ := op_e hf
              refine x_iald (q0 := 1) cx hw rfl hv dX9_share_92 ?_
              refine lv_bipush (v := 11) hx hb dX9_share_93 (by decide) ?_
              obtain ⟨j12, ha, hr⟩ := op_e hf
              refine x_join (A := A) (D := D) (J := 112) (nL := 8) (cells' := 0) (slots' := 0) (st := [.int j12]) [oM ad fu ft ff fs fa fb fn fr, ((ad 1), .inl (d 0, 1247, .inl Ww))] [(0, .ref (ad 0)), (1, .int p1), (2, .int p2), (3, .int (q3 - q4)), (4, .int x72.1), (5, .int x72.2.1), (6, .int x72.2.2)] (fun H locs ls hw hl => ?_) (fun hKj112_j12 => ?_)
              · have hf := hr
                refine lv_istore (lv' := [(7, .int j12), (0, .ref (ad 0)), (1, .int p1), (2, .int p2), (3, .int (q3 - q4)), (4, .int x72.1), (5, .int x72.2.1), (6, .int x72.2.2)]) hx hb dX9_share_112 hl (by decide) rfl (fun ls hl => ?_)
                refine lv_iload hx hb dX9_share_114 (lv_at hl 5 rfl) ?_
                refine lv_iload_n hx hb dX9_share_116 rfl (lv_at hl 3 rfl) ?_
                refine lv_iload hx hb dX9_share_117 (lv_at hl 0 rfl) ?_
                refine lv_imul hx hb dX9_share_119 ?_
                refine lv_iload_n hx hb dX9_share_120 rfl (lv_at hl 4 rfl) ?_
                obtain ⟨g13, hv, hf⟩ := op_e hf
                refine x_idiv cx hv dX9_share_121 ?_
                refine lv_isub hx hb dX9_share_122 ?_
                refine lv_istore (lv' := [(4, .int (x72.1 - ((p2 * j12) / (q3 - q4)))), (7, .int j12), (0, .ref (ad 0)), (1, .int p1), (2, .int p2), (3, .int (q3 - q4)), (5, .int x72.2.1), (6, .int x72.2.2)]) hx hb dX9_share_123 hl (by decide) rfl (fun ls hl => ?_)
                refine lv_iload hx hb dX9_share_125 (lv_at hl 6 rfl) ?_
                refine lv_iload hx hb dX9_share_127 (lv_at hl 7 rfl) ?_
                refine lv_iload_n hx hb dX9_share_129 rfl (lv_at hl 3 rfl) ?_
                refine lv_icmp_ge (tgt := 142) hx hb dX9_share_130 (by decide) (fun c130 => ?_) (fun c130 => ?_)
                · have hf := if_t hf c130
                  refine lv_iconst (v := 0) hx hb dX9_share_142 (by decide) ?_
                  refine lv_iadd hx hb dX9_share_143 ?_
                  refine lv_istore (lv' := [(5, .int (x72.2.1 + 0)), (4, .int (x72.1 - ((p2 * j12) / (q3 - q4)))), (7, .int j12), (0, .ref (ad 0)), (1, .int p1), (2, .int p2), (3, .int (q3 - q4)), (6, .int x72.2.2)]) hx hb dX9_share_144 hl (by decide) rfl (fun ls hl => ?_)
                  refine lv_iinc (v := (x72.2.2 + 1)) (lv' := [(6, .int (x72.2.2 + 1)), (5, .int (x72.2.1 + 0)), (4, .int (x72.1 - ((p2 * j12) / (q3 - q4)))), (7, .int j12), (0, .ref (ad 0)), (1, .int p1), (2, .int p2), (3, .int (q3 - q4))]) hx hb dX9_share_146 hl (k := 7) rfl (by first | rfl | decide) (by decide) rfl (fun ls hl => ?_)
                  refine lv_goto (tgt := 72) hx hb dX9_share_149 (by decide) ?_
                  have hf := sm_e hf
                  subst hf
                  exact hin72 _ rfl _ _ _ hw (lv_sub hl [4, 5, 6, 7, 2, 1, 0] rfl)
                · have hf := if_f hf c130
                  refine lv_iload hx hb dX9_share_133 (lv_at hl 1 rfl) ?_
                  refine lv_if_le (tgt := 142) hx hb dX9_share_135 (by decide) (fun c135 => ?_) (fun c135 => ?_)
                  · have hf := if_t hf c135
                    refine lv_iconst (v := 0) hx hb dX9_share_142 (by decide) ?_
                    refine lv_iadd hx hb dX9_share_143 ?_
                    refine lv_istore (lv' := [(5, .int (x72.2.1 + 0)), (4, .int (x72.1 - ((p2 * j12) / (q3 - q4)))), (7, .int j12), (0, .ref (ad 0)), (1, .int p1), (2, .int p2), (3, .int (q3 - q4)), (6, .int x72.2.2)]) hx hb dX9_share_144 hl (by decide) rfl (fun ls hl => ?_)
                    refine lv_iinc (v := (x72.2.2 + 1)) (lv' := [(6, .int (x72.2.2 + 1)), (5, .int (x72.2.1 + 0)), (4, .int (x72.1 - ((p2 * j12) / (q3 - q4)))), (7, .int j12), (0, .ref (ad 0)), (1, .int p1), (2, .int p2), (3, .int (q3 - q4))]) hx hb dX9_share_146 hl (k := 7) rfl (by first | rfl | decide) (by decide) rfl (fun ls hl => ?_)
                    refine lv_goto (tgt := 72) hx hb dX9_share_149 (by decide) ?_
                    have hf := sm_e hf
                    subst hf
                    exact hin72 _ rfl _ _ _ hw (lv_sub hl [4, 5, 6, 7, 2, 1, 0] rfl)
                  · have hf := if_f hf c135
                    refine lv_iconst (v := 1) hx hb dX9_share_138 (by decide) ?_
                    refine lv_goto (tgt := 143) hx hb dX9_share_139 (by decide) ?_
                    refine lv_iadd hx hb dX9_share_143 ?_
                    refine lv_istore (lv' := [(5, .int (x72.2.1 + 1)), (4, .int (x72.1 - ((p2 * j12) / (q3 - q4)))), (7, .int j12), (0, .ref (ad 0)), (1, .int p1), (2, .int p2), (3, .int (q3 - q4)), (6, .int x72.2.2)]) hx hb dX9_share_144 hl (by decide) rfl (fun ls hl => ?_)
                    refine lv_iinc (v := (x72.2.2 + 1)) (lv' := [(6, .int (x72.2.2 + 1)), (5, .int (x72.2.1 + 1)), (4, .int (x72.1 - ((p2 * j12) / (q3 - q4)))), (7, .int j12), (0, .ref (ad 0)), (1, .int p1), (2, .int p2), (3, .int (q3 - q4))]) hx hb dX9_share_146 hl (k := 7) rfl (by first | rfl | decide) (by decide) rfl (fun ls hl => ?_)
                    refine lv_goto (tgt := 72) hx hb dX9_share_149 (by decide) ?_
                    have hf := sm_e hf
                    subst hf
                    exact hin72 _ rfl _ _ _ hw (lv_sub hl [4, 5, 6, 7, 2, 1, 0] rfl)
              · have hf := ha
                refine lv_icmp_ne (tgt := 102) hx hb dX9_share_95 (by decide) (fun c95 => ?_) (fun c95 => ?_)
                · have hf := if_f hf c95
                  refine lv_aload_n hx hb dX9_share_102 rfl (lv_at hl 0 rfl) ?_
                  refine va_get (ci := 0) (C := RX9) (T := TX9) (N := 19) hx hb hts in_X9 hown hK hw.1 0 rfl rfl 0 (by decide) (hts _ q1248) (fun _ h9 => h9) rfl dX9_share_103 ?_
                  refine lv_bipush (v := 31) hx hb dX9_share_106 (by decide) ?_
                  refine lv_iload hx hb dX9_share_108 (lv_at hl 6 rfl) ?_
                  refine lv_iadd hx hb dX9_share_110 ?_
                  obtain ⟨v14, hv, hf⟩ := op_e hf
                  refine x_iald (q0 := 1) cx hw rfl hv dX9_share_111 ?_
                  have hf := sm_e hf
                  subst hf
                  exact hKj112_j12 _ _ _ hw hl
                · have hf := if_t hf c95
                  refine lv_iconst (v := 0) hx hb dX9_share_98 (by decide) ?_
                  refine lv_goto (tgt := 112) hx hb dX9_share_99 (by decide) ?_
                  have hf := sm_e hf
                  subst hf
                  exact hKj112_j12 _ _ _ hw hl
        · have hf := if_t hf c58
          refine lv_iconst (v := 0) hx hb dX9_share_61 (by decide) ?_
          have hf := sm_e hf
          subst hf
          exact x_retI cx hw rfl () rfl [0, 1] rfl rfl (Nat.le_of_ble_eq_true rfl) (Nat.le_of_ble_eq_true rfl) dX9_share_62
    · have hf := if_t hf c17
      refine lv_ldc (v := (-1000001)) hx hb hown (hts _ q1319) dX9_share_20 ?_
      have hf := sm_e hf
      subst hf
      exact x_retI cx hw rfl () rfl [0, 1] rfl rfl (Nat.le_of_ble_eq_true rfl) (Nat.le_of_ble_eq_true rfl) dX9_share_22
theorem hd_X9_heatFrom : yX9_heatFrom.cls = "DishLiftModel" ∧ yX9_heatFrom.cls ≠ "java/lang/invoke/MethodHandle" ∧ yX9_heatFrom.cls ≠ "java/lang/invoke/VarHandle" ∧ (parseMethodDescriptor yX9_heatFrom.desc).map (fun d => d.parameters.length) = some 2 := by decide +kernel
set_option maxHeartbeats 4000000 in
theorem mX9_heatFrom (l : Launch) (X : XT) (hX : XOK X) (D : va_G) (d : Nat → ClassId) (ad : Nat → Nat) (fu : Int32) (ft : Int32) (ff : Int32) (fs : Int32) (fa : Int32) (fb : Int32) (fn : Int32) (fr : Int32) (Ww : Nat → Int32) (p1 : Int32) (p2 : Int32) (res : Int32 × (Nat → Int32)) (hf : fX9_heatFrom Ww p1 p2 = some res) : MetI l yX9_heatFrom (ws_ yX9_heatFrom cX9_heatFrom 3 (some .int)) { frames := 5, cells := 0, slots := 0, locals := 113 } [.ref (ad 0), .int p1, .int p2] X D d [oM ad fu ft ff fs fa fb fn fr, ((ad 1), .inl (d 0, 1247, .inl Ww))] (fun r (_ : Unit) => r = res.1) (fun _ => [oM ad fu ft ff fs fa fb fn fr, ((ad 1), .inl (d 0, 1247, .inl res.2))]) := by
  refine MetI.of (by decide +kernel) (Nat.le_of_ble_eq_true rfl) ?_
  intro p e s m below meth c A cx hw ls hl
  have cx : Cx p s m _ meth c X D d A "DishLiftModel" cX9_heatFrom 3 (some .int) "heatFrom" := cx
  have cx' := cx
  obtain ⟨hx, hb, hr, hlk, hml, hown, hts, hK, hA, hXs, hnm⟩ := cx'
  have hl : lv_has ls 3 [(0, .ref (ad 0)), (1, .int p1), (2, .int p2)] := hl
  unfold fX9_heatFrom at hf
  refine lv_aload_n hx hb dX9_heatFrom_0 rfl (lv_at hl 0 rfl) ?_
  obtain ⟨q1, hcq1, hf⟩ := op_e hf
  refine x_VV (wr := []) (rest := []) [] hX cx hw hl.1 (mX9_tries l X hX D d ad fu ft ff fs fa fb fn fr Ww q1 hcq1) (lw_V q1499 q1501 qs60 q94 q1502) hd_X9_tries ⟨Nat.le_of_ble_eq_true rfl, Nat.le_of_ble_eq_true rfl⟩ (va_recv hK hw.1 (ci := 0) (q0 := 0) rfl rfl) rfl rfl (Nat.le_of_ble_eq_true rfl) dX9_heatFrom_1 [0, 1] [] rfl rfl rfl rfl (by decide) ⟨(Nat.le_of_ble_eq_true rfl), (Nat.le_of_ble_eq_true rfl)⟩ (fun u H locs hp hw => ?_)
  have hw : Wd D A s [oM ad fu ft ff fs fa fb fn fr, ((ad 1), .inl (d 0, 1247, .inl q1))] H locs := hw
  refine lv_aload_n hx hb dX9_heatFrom_4 rfl (lv_at hl 0 rfl) ?_
  refine va_get (ci := 0) (C := RX9) (T := TX9) (N := 19) hx hb hts in_X9 hown hK hw.1 0 rfl rfl 0 (by decide) (hts _ q1248) (fun _ h9 => h9) rfl dX9_heatFrom_5 ?_
  refine lv_bipush (v := 47) hx hb dX9_heatFrom_8 (by decide) ?_
  refine lv_iload_n hx hb dX9_heatFrom_10 rfl (lv_at hl 1 rfl) ?_
  obtain ⟨w2, hv, hf⟩ := op_e hf
  refine x_iast (q0 := 1) cx hw rfl hv dX9_heatFrom_11 (fun H locs hw => ?_)
  have hw : Wd D A s [oM ad fu ft ff fs fa fb fn fr, ((ad 1), .inl (d 0, 1247, .inl w2))] H locs := hw
  refine lv_aload_n hx hb dX9_heatFrom_12 rfl (lv_at hl 0 rfl) ?_
  refine lv_iload_n hx hb dX9_heatFrom_13 rfl (lv_at hl 2 rfl) ?_
  obtain ⟨q3, hcq3, hf⟩ := op_e hf
  refine x_VV (wr := []) (rest := []) [.int p2] hX cx hw hl.1 (mX9_goesOn l X hX D d ad fu ft ff fs fa fb fn fr w2 p2 q3 hcq3) (lw_V q1503 q1505 qs61 q94 q1506) hd_X9_goesOn ⟨Nat.le_of_ble_eq_true rfl, Nat.le_of_ble_eq_true rfl⟩ (va_recv hK hw.1 (ci := 0) (q0 := 0) rfl rfl) rfl rfl (Nat.le_of_ble_eq_true rfl) dX9_heatFrom_14 [0, 1] [] rfl rfl rfl rfl (by decide) ⟨(Nat.le_of_ble_eq_true rfl), (Nat.le_of_ble_eq_true rfl)⟩ (fun u H locs hp hw => ?_)
  have hw : Wd D A s [oM ad fu ft ff fs fa fb fn fr, ((ad 1), .inl (d 0, 1247, .inl q3))] H locs := hw
  refine lv_aload_n hx hb dX9_heatFrom_17 rfl (lv_at hl 0 rfl) ?_
  refine lv_bipush (v := 43) hx hb dX9_heatFrom_18 (by decide) ?_
  obtain ⟨q4, hcq4, hf⟩ := op_e hf
  refine x_VI (wr := []) (rest := []) [.int 43] hX cx hw hl.1 (mX9_heatServed l X hX D d ad fu ft ff fs fa fb fn fr q3 43 q4 hcq4) (lw_V q1566 q1568 qs67 q94 q1569) hd_X9_heatServed ⟨Nat.le_of_ble_eq_true rfl, Nat.le_of_ble_eq_true rfl⟩ (va_recv hK hw.1 (ci := 0) (q0 := 0) rfl rfl) rfl rfl (Nat.le_of_ble_eq_true rfl) dX9_heatFrom_20 [0, 1] [] rfl rfl rfl rfl (by decide) ⟨(Nat.le_of_ble_eq_true rfl), (Nat.le_of_ble_eq_true rfl)⟩ (fun r u H locs hp hw => ?_)
  have hw : Wd D A s [oM ad fu ft ff fs fa fb fn fr, ((ad 1), .inl (d 0, 1247, .inl q3))] H locs := hw
  subst r
  have hf := sm_e hf
  subst hf
  exact x_retI cx hw rfl () rfl [0, 1] rfl rfl (Nat.le_of_ble_eq_true rfl) (Nat.le_of_ble_eq_true rfl) dX9_heatFrom_23
theorem hd_X9_byTurns : yX9_byTurns.cls = "DishLiftModel" ∧ yX9_byTurns.cls ≠ "java/lang/invoke/MethodHandle" ∧ yX9_byTurns.cls ≠ "java/lang/invoke/VarHandle" ∧ (parseMethodDescriptor yX9_byTurns.desc).map (fun d => d.parameters.length) = some 2 := by decide +kernel
set_option maxHeartbeats 4000000 in
theorem mX9_byTurns (l : Launch) (X : XT) (hX : XOK X) (D : va_G) (d : Nat → ClassId) (ad : Nat → Nat) (fu : Int32) (ft : Int32) (ff : Int32) (fs : Int32) (fa : Int32) (fb : Int32) (fn : Int32) (fr : Int32) (Ww : Nat → Int32) (VL : Nat → Int32) (p1 : Int32) (p2 : Int32) (res : Int32 × (Nat → Int32) × (Nat → Int32)) (hf : fX9_byTurns Ww VL p1 p2 = some res) : MetI l yX9_byTurns (ws_ yX9_byTurns cX9_byTurns 9 (some .int)) { frames := 6, cells := 0, slots := 0, locals := 135 } [.ref (ad 0), .int p1, .int p2] X D d [oM ad fu ft ff fs fa fb fn fr, ((ad 1), .inl (d 0, 1247, .inl Ww)), ((ad 9), .inl (d 0, 45, .inl VL))] (fun r (_ : Unit) => r = res.1) (fun _ => [oM ad fu ft ff fs fa fb fn fr, ((ad 1), .inl (d 0, 1247, .inl res.2.1)), ((ad 9), .inl (d 0, 45, .inl res.2.2))]) := by
  refine MetI.of (by decide +kernel) (Nat.le_of_ble_eq_true rfl) ?_
  intro p e s m below meth c A cx hw ls hl
  have cx : Cx p s m _ meth c X D d A "DishLiftModel" cX9_byTurns 9 (some .int) "byTurns" := cx
  have cx' := cx
  obtain ⟨hx, hb, hr, hlk, hml, hown, hts, hK, hA, hXs, hnm⟩ := cx'
  have hl : lv_has ls 9 [(0, .ref (ad 0)), (1, .int p1), (2, .int p2)] := hl
  unfold fX9_byTurns at hf
  refine lv_aload_n hx hb dX9_byTurns_0 rfl (lv_at hl 0 rfl) ?_
  obtain ⟨q1, hcq1, hf⟩ := op_e hf
  refine x_VI (wr := [((ad 9), .inl (d 0, 45, .inl VL))]) (rest := []) [] hX cx hw hl.1 (mX9_isHouse l X hX D d ad fu ft ff fs fa fb fn fr Ww q1 hcq1) (lw_V q1402 q1404 qs46 q94 q1405) hd_X9_isHouse ⟨Nat.le_of_ble_eq_true rfl, Nat.le_of_ble_eq_true rfl⟩ (va_recv hK hw.1 (ci := 0) (q0 := 0) rfl rfl) rfl rfl (Nat.le_of_ble_eq_true rfl) dX9_byTurns_1 [0, 1] [2] rfl rfl rfl rfl (by decide) ⟨(Nat.le_of_ble_eq_true rfl), (Nat.le_of_ble_eq_true rfl)⟩ (fun r u H locs hp hw => ?_)
  have hw : Wd D A s [((ad 9), .inl (d 0, 45, .inl VL)), oM ad fu ft ff fs fa fb fn fr, ((ad 1), .inl (d 0, 1247, .inl Ww))] H locs := hw
  subst r
  refine lv_if_ne (tgt := 10) hx hb dX9_byTurns_4 (by decide) (fun c4 => ?_) (fun c4 => ?_)
  · have hf := if_f hf c4
    refine lv_iload_n hx hb dX9_byTurns_10 rfl (lv_at hl 1 rfl) ?_
    refine lv_i2l (v := p1.toInt64) hx hb dX9_byTurns_11 rfl ?_
    refine lv_lconst (v := 0) hx hb dX9_byTurns_12 (by decide) ?_
    refine lv_ldc2 (v := 4) hx hb hown (hts _ q1470) dX9_byTurns_13 ?_
    obtain ⟨q2, hcq2, hf⟩ := op_e hf
    refine x_SI (wr := [((ad 9), .inl (d 0, 45, .inl VL)), oM ad fu ft ff fs fa fb fn fr, ((ad 1), .inl (d 0, 1247, .inl Ww))]) (rest := []) [.long p1.toInt64, .long 0, .long 4] hX cx hw hl.1 (mX9_in l X hX D d p1.toInt64 0 4 q2 hcq2) (lw_S q1315 q1316 q94 q1317) hd_X9_in ⟨Nat.le_of_ble_eq_true rfl, Nat.le_of_ble_eq_true rfl⟩ rfl rfl (Nat.le_of_ble_eq_true rfl) dX9_byTurns_16 [] [0, 1, 2] rfl rfl rfl rfl (by decide) ⟨(Nat.le_of_ble_eq_true rfl), (Nat.le_of_ble_eq_true rfl)⟩ (fun r u H locs hp hw => ?_)
    have hw : Wd D A s [((ad 9), .inl (d 0, 45, .inl VL)), oM ad fu ft ff fs fa fb fn fr, ((ad 1), .inl (d 0, 1247, .inl Ww))] H locs := hw
    subst r
    refine lv_if_eq (tgt := 34) hx hb dX9_byTurns_19 (by decide) (fun c19 => ?_) (fun c19 => ?_)
    · have hf := if_t hf c19
      refine lv_ldc (v := (-1000001)) hx hb hown (hts _ q1319) dX9_byTurns_34 ?_
      have hf := sm_e hf
      subst hf
      exact x_retI cx hw rfl () rfl [1, 2, 0] rfl rfl (Nat.le_of_ble_eq_true rfl) (Nat.le_of_ble_eq_true rfl) dX9_byTurns_36
    · have hf := if_f hf c19
      refine lv_iload_n hx hb dX9_byTurns_22 rfl (lv_at hl 2 rfl) ?_
      refine lv_i2l (v := p2.toInt64) hx hb dX9_byTurns_23 rfl ?_
      refine lv_lconst (v := 1) hx hb dX9_byTurns_24 (by decide) ?_
      refine lv_ldc2 (v := 20) hx hb hown (hts _ q1574) dX9_byTurns_25 ?_
      obtain ⟨q3, hcq3, hf⟩ := op_e hf
      refine x_SI (wr := [((ad 9), .inl (d 0, 45, .inl VL)), oM ad fu ft ff fs fa fb fn fr, ((ad 1), .inl (d 0, 1247, .inl Ww))]) (rest := []) [.long p2.toInt64, .long 1, .long 20] hX cx hw hl.1 (mX9_in l X hX D d p2.toInt64 1 20 q3 hcq3) (lw_S q1315 q1316 q94 q1317) hd_X9_in ⟨Nat.le_of_ble_eq_true rfl, Nat.le_of_ble_eq_true rfl⟩ rfl rfl (Nat.le_of_ble_eq_true rfl) dX9_byTurns_28 [] [0, 1, 2] rfl rfl rfl rfl (by decide) ⟨(Nat.le_of_ble_eq_true rfl), (Nat.le_of_ble_eq_true rfl)⟩ (fun r u H locs hp hw => ?_)
      have hw : Wd D A s [((ad 9), .inl (d 0, 45, .inl VL)), oM ad fu ft ff fs fa fb fn fr, ((ad 1), .inl (d 0, 1247, .inl Ww))] H locs := hw
      subst r
      refine lv_if_ne (tgt := 37) hx hb dX9_byTurns_31 (by decide) (fun c31 => ?_) (fun c31 => ?_)
      · have hf := if_f hf c31
        refine lv_iconst (v := 0) hx hb dX9_byTurns_37 (by decide) ?_
        refine lv_istore_n (lv' := [(3, .int 0), (0, .ref (ad 0)), (1, .int p1), (2, .int p2)]) hx hb dX9_byTurns_38 rfl hl (by decide) rfl (fun ls hl => ?_)
        obtain ⟨r4, hlp39, hf⟩ := op_e hf
        refine x_join (A := A) (D := D) (J := 72) (nL := 9) (cells' := 0) (slots' := 0) (st := []) [oM ad fu ft ff fs fa fb fn fr, ((ad 1), .inl (d 0, 1247, .inl r4.1)), ((ad 9), .inl (d 0, 45, .inl r4.2))] [(0, .ref (ad 0)), (1, .int p1)] (fun H locs ls hw hl => ?_) (fun hK39 => ?_)
        · refine lv_iload_n hx hb dX9_byTurns_72 rfl (lv_at hl 1 rfl) ?_
          refine lv_iconst (v := 1) hx hb dX9_byTurns_73 (by decide) ?_
          refine lv_isub hx hb dX9_byTurns_74 ?_
          refine lv_istore_n (lv' := [(3, .int (p1 - 1)), (0, .ref (ad 0)), (1, .int p1)]) hx hb dX9_byTurns_75 rfl hl (by decide) rfl (fun ls hl => ?_)
          obtain ⟨r5, hlp76, hf⟩ := op_e hf
          refine x_join (A := A) (D := D) (J := 230) (nL := 9) (cells' := 0) (slots' := 0) (st := []) [oM ad fu ft ff fs fa fb fn fr, ((ad 1), .inl (d 0, 1247, .inl r4.1)), ((ad 9), .inl (d 0, 45, .inl r5))] [(0, .ref (ad 0))] (fun H locs ls hw hl => ?_) (fun hK76 => ?_)
          · refine lv_aload_n hx hb dX9_byTurns_230 rfl (lv_at hl 0 rfl) ?_
            refine va_get (ci := 0) (C := RX9) (T := TX9) (N := 19) hx hb hts in_X9 hown hK hw.1 0 rfl rfl 15 (by decide) (hts _ q1263) (fun _ h9 => h9) rfl dX9_byTurns_231 ?_
            refine lv_aload_n hx hb dX9_byTurns_234 rfl (lv_at hl 0 rfl) ?_
            refine va_get (ci := 0) (C := RX9) (T := TX9) (N := 19) hx hb hts in_X9 hown hK hw.1 0 rfl rfl 0 (by decide) (hts _ q1248) (fun _ h9 => h9) rfl dX9_byTurns_235 ?_
            refine lv_iconst (v := 4) hx hb dX9_byTurns_238 (by decide) ?_
            obtain ⟨v6, hv, hf⟩ := op_e hf
            refine x_iald (q0 := 1) cx hw rfl hv dX9_byTurns_239 ?_
            obtain ⟨v7, hv, hf⟩ := op_e hf
            refine x_iald (q0 := 2) cx hw rfl hv dX9_byTurns_240 ?_
            have hf := sm_e hf
            subst hf
            exact x_retI cx hw rfl () rfl [0, 1, 2] rfl rfl (Nat.le_of_ble_eq_true rfl) (Nat.le_of_ble_eq_true rfl) dX9_byTurns_241
          · refine x_lp hlp76 (fun x76 => [oM ad fu ft ff fs fa fb fn fr, ((ad 1), .inl (d 0, 1247, .inl r4.1)), ((ad 9), .inl (d 0, 45, .inl x76.2))]) (fun x76 => [(0, .ref (ad 0)), (3, .int x76.1)]) hw (lv_sub hl [1, 0] rfl) (fun x76 y76 hf hin76 hout76 H locs ls hw hl => ?_)
            have hw : Wd D A s [oM ad fu ft ff fs fa fb fn fr, ((ad 1), .inl (d 0, 1247, .inl r4.1)), ((ad 9), .inl (d 0, 45, .inl x76.2))] H locs := hw
            have hl : lv_has ls 9 [(0, .ref (ad 0)), (3, .int x76.1)] := hl
            refine lv_iload_n hx hb dX9_byTurns_76 rfl (lv_at hl 1 rfl) ?_
            refine lv_if_lt (tgt := 230) hx hb dX9_byTurns_77 (by decide) (fun c77 => ?_) (fun c77 => ?_)
            · have hf := if_t hf c77
              have hf := sm_e hf
              subst hf
              have hz := hout76 _ rfl
              subst hz
              exact hK76 _ _ _ hw (lv_sub hl [0] rfl)
            · have hf := if_f hf c77
              refine lv_iconst (v := 0) hx hb dX9_byTurns_80 (by decide) ?_
              refine lv_istore (lv' := [(4, .int 0), (0, .ref (ad 0)), (3, .int x76.1)]) hx hb dX9_byTurns_81 hl (by decide) rfl (fun ls hl => ?_)
              obtain ⟨r8, hlp83, hf⟩ := op_e hf
              refine x_join (A := A) (D := D) (J := 224) (nL := 9) (cells' := 0) (slots' := 0) (st := []) [oM ad fu ft ff fs fa fb fn fr, ((ad 1), .inl (d 0, 1247, .inl r4.1)), ((ad 9), .inl (d 0, 45, .inl r8))] [(0, .ref (ad 0)), (3, .int x76.1)] (fun H locs ls hw hl => ?_) (fun hK83 => ?_)
              · refine lv_iinc (v := (x76.1 + (-1))) (lv' := [(3, .int (x76.1 + (-1))), (0, .ref (ad 0))]) hx hb dX9_byTurns_224 hl (k := 1) rfl (by first | rfl | decide) (by decide) rfl (fun ls hl => ?_)
                refine lv_goto (tgt := 76) hx hb dX9_byTurns_227 (by decide) ?_
                have hf := sm_e hf
                subst hf
                exact hin76 _ rfl _ _ _ hw (lv_sub hl [1, 0] rfl)
              · refine x_lp hlp83 (fun x83 => [oM ad fu ft ff fs fa fb fn fr, ((ad 1), .inl (d 0, 1247, .inl r4.1)), ((ad 9), .inl (d 0, 45, .inl x83.2))]) (fun x83 => [(0, .ref (ad 0)), (3, .int x76.1), (4, .int x83.1)]) hw (lv_sub hl [1, 2, 0] rfl) (fun x83 y83 hf hin83 hout83 H locs ls hw hl => ?_)
                have hw : Wd D A s [oM ad fu ft ff fs fa fb fn fr, ((ad 1), .inl (d 0, 1247, .inl r4.1)), ((ad 9), .inl (d 0, 45, .inl x83.2))] H locs := hw
                have hl : lv_has ls 9 [(0, .ref (ad 0)), (3, .int x76.1), (4, .int x83.1)] := hl
                refine lv_iload hx hb dX9_byTurns_83 (lv_at hl 2 rfl) ?_
                refine lv_aload_n hx hb dX9_byTurns_85 rfl (lv_at hl 0 rfl) ?_
                refine va_get (ci := 0) (C := RX9) (T := TX9) (N := 19) hx hb hts in_X9 hown hK hw.1 0 rfl rfl 0 (by decide) (hts _ q1248) (fun _ h9 => h9) rfl dX9_byTurns_86 ?_
                refine lv_iconst (v := 1) hx hb dX9_byTurns_89 (by decide) ?_
                obtain ⟨v9, hv, hf⟩ := op_e hf
                refine x_iald (q0 := 1) cx hw rfl hv dX9_byTurns_90 ?_
                refine lv_icmp_ge (tgt := 224) hx hb dX9_byTurns_91 (by decide) (fun c91 => ?_) (fun c91 => ?_)
                · have hf := if_t hf c91
                  have hf := sm_e hf
                  subst hf
                  have hz := hout83 _ rfl
                  subst hz
                  exact hK83 _ _ _ hw (lv_sub hl [0, 1] rfl)
                · have hf := if_f hf c91
                  refine lv_aload_n hx hb dX9_byTurns_94 rfl (lv_at hl 0 rfl) ?_
                  refine va_get (ci := 0) (C := RX9) (T := TX9) (N := 19) hx hb hts in_X9 hown hK hw.1 0 rfl rfl 15 (by decide) (hts _ q1263) (fun _ h9 => h9) rfl dX9_byTurns_95 ?_
                  refine lv_bipush (v := 9) hx hb dX9_byTurns_98 (by decide) ?_
                  refine lv_iload_n hx hb dX9_byTurns_100 rfl (lv_at hl 1 rfl) ?_
                  refine lv_iconst (v := 1) hx hb dX9_byTurns_101 (by decide) ?_
                  refine lv_iadd hx hb dX9_byTurns_102 ?_
                  refine lv_imul hx hb dX9_byTurns_103 ?_
                  refine lv_iload hx hb dX9_byTurns_104 (lv_at hl 2 rfl) ?_
                  refine lv_iadd hx hb dX9_byTurns_106 ?_
                  obtain ⟨v10, hv, hf⟩ := op_e hf
                  refine x_iald (q0 := 2) cx hw rfl hv dX9_byTurns_107 ?_
                  refine lv_istore (lv' := [(5, .int v10), (0, .ref (ad 0)), (3, .int x76.1), (4, .int x83.1)]) hx hb dX9_byTurns_108 hl (by decide) rfl (fun ls hl => ?_)
                  refine lv_iload_n hx hb dX9_byTurns_110 rfl (lv_at hl 2 rfl) ?_
                  refine lv_iconst (v := 2) hx hb dX9_byTurns_111 (by decide) ?_
                  refine lv_irem hx hb dX9_byTurns_112 (by decide) ?_
                  obtain ⟨j11, ha, hr⟩ := op_e hf
                  refine x_join (A := A) (D := D) (J := 127) (nL := 9) (cells' := 0) (slots' := 0) (st := [.int j11]) [oM ad fu ft ff fs fa fb fn fr, ((ad 1), .inl (d 0, 1247, .inl r4.1)), ((ad 9), .inl (d 0, 45, .inl x83.2))] [(0, .ref (ad 0)), (3, .int x76.1), (4, .int x83.1), (5, .int v10)] (fun H locs ls hw hl => ?_) (fun hKj127_j11 => ?_)
                  · have hf := hr
                    refine lv_istore (lv' := [(6, .int j11), (0, .ref (ad 0)), (3, .int x76.1), (4, .int x83.1), (5, .int v10)]) hx hb dX9_byTurns_127 hl (by decide) rfl (fun ls hl => ?_)
                    refine lv_aload_n hx hb dX9_byTurns_129 rfl (lv_at hl 1 rfl) ?_
                    refine lv_iload hx hb dX9_byTurns_130 (lv_at hl 0 rfl) ?_
                    obtain ⟨q12, hcq12, hf⟩ := op_e hf
                    refine x_VI (wr := [((ad 9), .inl (d 0, 45, .inl x83.2))]) (rest := []) [.int j11] hX cx hw hl.1 (mX9_isFloor l X hX D d ad fu ft ff fs fa fb fn fr r4.1 j11 q12 hcq12) (lw_V q1457 q1459 qs57 q94 q1460) hd_X9_isFloor ⟨Nat.le_of_ble_eq_true rfl, Nat.le_of_ble_eq_true rfl⟩ (va_recv hK hw.1 (ci := 0) (q0 := 0) rfl rfl) rfl rfl (Nat.le_of_ble_eq_true rfl) dX9_byTurns_132 [0, 1] [2] rfl rfl rfl rfl (by decide) ⟨(Nat.le_of_ble_eq_true rfl), (Nat.le_of_ble_eq_true rfl)⟩ (fun r u H locs hp hw => ?_)
                    have hw : Wd D A s [((ad 9), .inl (d 0, 45, .inl x83.2)), oM ad fu ft ff fs fa fb fn fr, ((ad 1), .inl (d 0, 1247, .inl r4.1))] H locs := hw
                    subst r
                    obtain ⟨j13, ha, hr⟩ := op_e hf
                    refine x_join (A := A) (D := D) (J := 157) (nL := 9) (cells' := 0) (slots' := 0) (st := [.int j13]) [oM ad fu ft ff fs fa fb fn fr, ((ad 1), .inl (d 0, 1247, .inl r4.1)), ((ad 9), .inl (d 0, 45, .inl x83.2))] [(0, .ref (ad 0)), (3, .int x76.1), (4, .int x83.1), (5, .int v10)] (fun H locs ls hw hl => ?_) (fun hKj157_j13 => ?_)
                    · have hf := hr
                      refine lv_istore (lv' := [(7, .int j13), (0, .ref (ad 0)), (3, .int x76.1), (4, .int x83.1), (5, .int v10)]) hx hb dX9_byTurns_157 hl (by decide) rfl (fun ls hl => ?_)
                      refine lv_iload_n hx hb dX9_byTurns_159 rfl (lv_at hl 2 rfl) ?_
                      refine lv_iconst (v := 2) hx hb dX9_byTurns_160 (by decide) ?_
                      refine lv_irem hx hb dX9_byTurns_161 (by decide) ?_
                      obtain ⟨j14, ha, hr⟩ := op_e hf
                      refine x_join (A := A) (D := D) (J := 192) (nL := 9) (cells' := 0) (slots' := 0) (st := [.int j14]) [oM ad fu ft ff fs fa fb fn fr, ((ad 1), .inl (d 0, 1247, .inl r4.1)), ((ad 9), .inl (d 0, 45, .inl x83.2))] [(0, .ref (ad 0)), (3, .int x76.1), (4, .int x83.1), (5, .int v10), (7, .int j13)] (fun H locs ls hw hl => ?_) (fun hKj192_j14 => ?_)
                      · have hf := hr
                        refine lv_istore (lv' := [(8, .int j14), (0, .ref (ad 0)), (3, .int x76.1), (4, .int x83.1), (5, .int v10), (7, .int j13)]) hx hb dX9_byTurns_192 hl (by decide) rfl (fun ls hl => ?_)
                        refine lv_aload_n hx hb dX9_byTurns_194 rfl (lv_at hl 1 rfl) ?_
                        refine va_get (ci := 0) (C := RX9) (T := TX9) (N := 19) hx hb hts in_X9 hown hK hw.1 0 rfl rfl 15 (by decide) (hts _ q1263) (fun _ h9 => h9) rfl dX9_byTurns_195 ?_
                        refine lv_bipush (v := 9) hx hb dX9_byTurns_198 (by decide) ?_
                        refine lv_iload_n hx hb dX9_byTurns_200 rfl (lv_at hl 2 rfl) ?_
                        refine lv_imul hx hb dX9_byTurns_201 ?_
                        refine lv_iload hx hb dX9_byTurns_202 (lv_at hl 3 rfl) ?_
                        refine lv_iadd hx hb dX9_byTurns_204 ?_
                        refine lv_iload hx hb dX9_byTurns_205 (lv_at hl 0 rfl) ?_
                        obtain ⟨j15, ha, hr⟩ := op_e hf
                        refine x_join (A := A) (D := D) (J := 217) (nL := 9) (cells' := 0) (slots' := 0) (st := [.int j15, .int ((9 * x76.1) + x83.1), .ref (ad 9)]) [oM ad fu ft ff fs fa fb fn fr, ((ad 1), .inl (d 0, 1247, .inl r4.1)), ((ad 9), .inl (d 0, 45, .inl x83.2))] [(0, .ref (ad 0)), (3, .int x76.1), (4, .int x83.1)] (fun H locs ls hw hl => ?_) (fun hKj217_j15 => ?_)
                        · have hf := hr
                          obtain ⟨w16, hv, hf⟩ := op_e hf
                          refine x_iast (q0 := 2) cx hw rfl hv dX9_byTurns_217 (fun H locs hw => ?_)
                          have hw : Wd D A s [oM ad fu ft ff fs fa fb fn fr, ((ad 1), .inl (d 0, 1247, .inl r4.1)), ((ad 9), .inl (d 0, 45, .inl w16))] H locs := hw
                          refine lv_iinc (v := (x83.1 + 1)) (lv' := [(4, .int (x83.1 + 1)), (0, .ref (ad 0)), (3, .int x76.1)]) hx hb dX9_byTurns_218 hl (k := 2) rfl (by first | rfl | decide) (by decide) rfl (fun ls hl => ?_)
                          refine lv_goto (tgt := 83) hx hb dX9_byTurns_221 (by decide) ?_
                          have hf := sm_e hf
                          subst hf
                          exact hin83 _ rfl _ _ _ hw (lv_sub hl [1, 2, 0] rfl)
                        · have hf := ha
                          refine lv_if_eq (tgt := 215) hx hb dX9_byTurns_207 (by decide) (fun c207 => ?_) (fun c207 => ?_)
                          · have hf := if_t hf c207
                            refine lv_iload hx hb dX9_byTurns_215 (lv_at hl 4 rfl) ?_
                            have hf := sm_e hf
                            subst hf
                            exact hKj217_j15 _ _ _ hw (lv_sub hl [1, 2, 3] rfl)
                          · have hf := if_f hf c207
                            refine lv_iload hx hb dX9_byTurns_210 (lv_at hl 5 rfl) ?_
                            refine lv_goto (tgt := 217) hx hb dX9_byTurns_212 (by decide) ?_
                            have hf := sm_e hf
                            subst hf
                            exact hKj217_j15 _ _ _ hw (lv_sub hl [1, 2, 3] rfl)
                      · have hf := ha
                        refine lv_if_ne (tgt := 180) hx hb dX9_byTurns_162 (by decide) (fun c162 => ?_) (fun c162 => ?_)
                        · have hf := if_f hf c162
                          refine lv_iload hx hb dX9_byTurns_180 (lv_at hl 0 rfl) ?_
                          refine lv_iload hx hb dX9_byTurns_182 (lv_at hl 4 rfl) ?_
                          refine lv_icmp_ge (tgt := 191) hx hb dX9_byTurns_184 (by decide) (fun c184 => ?_) (fun c184 => ?_)
                          · have hf := if_t hf c184
                            refine lv_iconst (v := 0) hx hb dX9_byTurns_191 (by decide) ?_
                            have hf := sm_e hf
                            subst hf
                            exact hKj192_j14 _ _ _ hw (lv_sub hl [1, 2, 3, 4, 0] rfl)
                          · have hf := if_f hf c184
                            refine lv_iconst (v := 1) hx hb dX9_byTurns_187 (by decide) ?_
                            refine lv_goto (tgt := 192) hx hb dX9_byTurns_188 (by decide) ?_
                            have hf := sm_e hf
                            subst hf
                            exact hKj192_j14 _ _ _ hw (lv_sub hl [1, 2, 3, 4, 0] rfl)
                        · have hf := if_t hf c162
                          refine lv_iload hx hb dX9_byTurns_165 (lv_at hl 0 rfl) ?_
                          refine lv_iload hx hb dX9_byTurns_167 (lv_at hl 4 rfl) ?_
                          refine lv_icmp_le (tgt := 176) hx hb dX9_byTurns_169 (by decide) (fun c169 => ?_) (fun c169 => ?_)
                          · have hf := if_t hf c169
                            refine lv_iconst (v := 0) hx hb dX9_byTurns_176 (by decide) ?_
                            refine lv_goto (tgt := 192) hx hb dX9_byTurns_177 (by decide) ?_
                            have hf := sm_e hf
                            subst hf
                            exact hKj192_j14 _ _ _ hw (lv_sub hl [1, 2, 3, 4, 0] rfl)
                          · have hf := if_f hf c169
                            refine lv_iconst (v := 1) hx hb dX9_byTurns_172 (by decide) ?_
                            refine lv_goto (tgt := 192) hx hb dX9_byTurns_173 (by decide) ?_
                            have hf := sm_e hf
                            subst hf
                            exact hKj192_j14 _ _ _ hw (lv_sub hl [1, 2, 3, 4, 0] rfl)
                    · have hf := ha
                      refine lv_if_eq (tgt := 155) hx hb dX9_byTurns_135 (by decide) (fun c135 => ?_) (fun c135 => ?_)
                      · have hf := if_t hf c135
                        refine lv_iload hx hb dX9_byTurns_155 (lv_at hl 4 rfl) ?_
                        have hf := sm_e hf
                        subst hf
                        exact hKj157_j13 _ _ _ (hw.sub [1, 2, 0] rfl rfl) (lv_sub hl [1, 2, 3, 4] rfl)
                      · have hf := if_f hf c135
                        refine lv_aload_n hx hb dX9_byTurns_138 rfl (lv_at hl 1 rfl) ?_
                        refine va_get (ci := 0) (C := RX9) (T := TX9) (N := 19) hx hb hts in_X9 hown hK hw.1 1 rfl rfl 15 (by decide) (hts _ q1263) (fun _ h9 => h9) rfl dX9_byTurns_139 ?_
                        refine lv_bipush (v := 9) hx hb dX9_byTurns_142 (by decide) ?_
                        refine lv_iload_n hx hb dX9_byTurns_144 rfl (lv_at hl 2 rfl) ?_
                        refine lv_iconst (v := 1) hx hb dX9_byTurns_145 (by decide) ?_
                        refine lv_iadd hx hb dX9_byTurns_146 ?_
                        refine lv_imul hx hb dX9_byTurns_147 ?_
                        refine lv_iload hx hb dX9_byTurns_148 (lv_at hl 0 rfl) ?_
                        refine lv_iadd hx hb dX9_byTurns_150 ?_
                        obtain ⟨v17, hv, hf⟩ := op_e hf
                        refine x_iald (q0 := 0) cx hw rfl hv dX9_byTurns_151 ?_
                        refine lv_goto (tgt := 157) hx hb dX9_byTurns_152 (by decide) ?_
                        have hf := sm_e hf
                        subst hf
                        exact hKj157_j13 _ _ _ (hw.sub [1, 2, 0] rfl rfl) (lv_sub hl [1, 2, 3, 4] rfl)
                  · have hf := ha
                    refine lv_if_ne (tgt := 123) hx hb dX9_byTurns_113 (by decide) (fun c113 => ?_) (fun c113 => ?_)
                    · have hf := if_f hf c113
                      refine lv_iload hx hb dX9_byTurns_123 (lv_at hl 3 rfl) ?_
                      refine lv_iconst (v := 1) hx hb dX9_byTurns_125 (by decide) ?_
                      refine lv_iadd hx hb dX9_byTurns_126 ?_
                      have hf := sm_e hf
                      subst hf
                      exact hKj127_j11 _ _ _ hw (lv_sub hl [1, 2, 3, 0] rfl)
                    · have hf := if_t hf c113
                      refine lv_iload hx hb dX9_byTurns_116 (lv_at hl 3 rfl) ?_
                      refine lv_iconst (v := 1) hx hb dX9_byTurns_118 (by decide) ?_
                      refine lv_isub hx hb dX9_byTurns_119 ?_
                      refine lv_goto (tgt := 127) hx hb dX9_byTurns_120 (by decide) ?_
                      have hf := sm_e hf
                      subst hf
                      exact hKj127_j11 _ _ _ hw (lv_sub hl [1, 2, 3, 0] rfl)
        · refine x_lp hlp39 (fun x39 => [oM ad fu ft ff fs fa fb fn fr, ((ad 1), .inl (d 0, 1247, .inl x39.2.1)), ((ad 9), .inl (d 0, 45, .inl x39.2.2))]) (fun x39 => [(0, .ref (ad 0)), (1, .int p1), (2, .int p2), (3, .int x39.1)]) (hw.sub [1, 2, 0] rfl rfl) (lv_sub hl [1, 2, 3, 0] rfl) (fun x39 y39 hf hin39 hout39 H locs ls hw hl => ?_)
          have hw : Wd D A s [oM ad fu ft ff fs fa fb fn fr, ((ad 1), .inl (d 0, 1247, .inl x39.2.1)), ((ad 9), .inl (d 0, 45, .inl x39.2.2))] H locs := hw
          have hl : lv_has ls 9 [(0, .ref (ad 0)), (1, .int p1), (2, .int p2), (3, .int x39.1)] := hl
          refine lv_iload_n hx hb dX9_byTurns_39 rfl (lv_at hl 3 rfl) ?_
          refine lv_aload_n hx hb dX9_byTurns_40 rfl (lv_at hl 0 rfl) ?_
          refine va_get (ci := 0) (C := RX9) (T := TX9) (N := 19) hx hb hts in_X9 hown hK hw.1 0 rfl rfl 0 (by decide) (hts _ q1248) (fun _ h9 => h9) rfl dX9_byTurns_41 ?_
          refine lv_iconst (v := 1) hx hb dX9_byTurns_44 (by decide) ?_
          obtain ⟨v18, hv, hf⟩ := op_e hf
          refine x_iald (q0 := 1) cx hw rfl hv dX9_byTurns_45 ?_
          refine lv_icmp_ge (tgt := 72) hx hb dX9_byTurns_46 (by decide) (fun c46 => ?_) (fun c46 => ?_)
          · have hf := if_t hf c46
            have hf := sm_e hf
            subst hf
            have hz := hout39 _ rfl
            subst hz
            exact hK39 _ _ _ hw (lv_sub hl [0, 1] rfl)
          · have hf := if_f hf c46
            refine lv_aload_n hx hb dX9_byTurns_49 rfl (lv_at hl 0 rfl) ?_
            refine va_get (ci := 0) (C := RX9) (T := TX9) (N := 19) hx hb hts in_X9 hown hK hw.1 0 rfl rfl 15 (by decide) (hts _ q1263) (fun _ h9 => h9) rfl dX9_byTurns_50 ?_
            refine lv_bipush (v := 9) hx hb dX9_byTurns_53 (by decide) ?_
            refine lv_iload_n hx hb dX9_byTurns_55 rfl (lv_at hl 1 rfl) ?_
            refine lv_imul hx hb dX9_byTurns_56 ?_
            refine lv_iload_n hx hb dX9_byTurns_57 rfl (lv_at hl 3 rfl) ?_
            refine lv_iadd hx hb dX9_byTurns_58 ?_
            refine lv_aload_n hx hb dX9_byTurns_59 rfl (lv_at hl 0 rfl) ?_
            refine lv_iload_n hx hb dX9_byTurns_60 rfl (lv_at hl 3 rfl) ?_
            refine lv_iload_n hx hb dX9_byTurns_61 rfl (lv_at hl 2 rfl) ?_
            obtain ⟨q19, hcq19, hf⟩ := op_e hf
            refine x_VI (wr := [((ad 9), .inl (d 0, 45, .inl x39.2.2))]) (rest := [.int ((9 * p1) + x39.1), .ref (ad 9)]) [.int x39.1, .int p2] hX cx hw hl.1 (mX9_heatFrom l X hX D d ad fu ft ff fs fa fb fn fr x39.2.1 x39.1 p2 q19 hcq19) (lw_V q1575 q1577 qs68 q94 q1578) hd_X9_heatFrom ⟨Nat.le_of_ble_eq_true rfl, Nat.le_of_ble_eq_true rfl⟩ (va_recv hK hw.1 (ci := 0) (q0 := 0) rfl rfl) rfl rfl (Nat.le_of_ble_eq_true rfl) dX9_byTurns_62 [0, 1] [2] rfl rfl rfl rfl (by decide) ⟨(Nat.le_of_ble_eq_true rfl), (Nat.le_of_ble_eq_true rfl)⟩ (fun r u H locs hp hw => ?_)
            have hw : Wd D A s [((ad 9), .inl (d 0, 45, .inl x39.2.2)), oM ad fu ft ff fs fa fb fn fr, ((ad 1), .inl (d 0, 1247, .inl q19.2))] H locs := hw
            subst r
            obtain ⟨w20, hv, hf⟩ := op_e hf
            refine x_iast (q0 := 0) cx hw rfl hv dX9_byTurns_65 (fun H locs hw => ?_)
            have hw : Wd D A s [((ad 9), .inl (d 0, 45, .inl w20)), oM ad fu ft ff fs fa fb fn fr, ((ad 1), .inl (d 0, 1247, .inl q19.2))] H locs := hw
            refine lv_iinc (v := (x39.1 + 1)) (lv' := [(3, .int (x39.1 + 1)), (0, .ref (ad 0)), (1, .int p1), (2, .int p2)]) hx hb dX9_byTurns_66 hl (k := 3) rfl (by first | rfl | decide) (by decide) rfl (fun ls hl => ?_)
            refine lv_goto (tgt := 39) hx hb dX9_byTurns_69 (by decide) ?_
            have hf := sm_e hf
            subst hf
            exact hin39 _ rfl _ _ _ (hw.sub [1, 2, 0] rfl rfl) (lv_sub hl [1, 2, 3, 0] rfl)
      · have hf := if_t hf c31
        refine lv_ldc (v := (-1000001)) hx hb hown (hts _ q1319) dX9_byTurns_34 ?_
        have hf := sm_e hf
        subst hf
        exact x_retI cx hw rfl () rfl [1, 2, 0] rfl rfl (Nat.le_of_ble_eq_true rfl) (Nat.le_of_ble_eq_true rfl) dX9_byTurns_36
  · have hf := if_t hf c4
    refine lv_ldc (v := (-1000002)) hx hb hown (hts _ q1397) dX9_byTurns_7 ?_
    have hf := sm_e hf
    subst hf
    exact x_retI cx hw rfl () rfl [1, 2, 0] rfl rfl (Nat.le_of_ble_eq_true rfl) (Nat.le_of_ble_eq_true rfl) dX9_byTurns_9
theorem hd_X9_isSo : yX9_isSo.cls = "DishLiftModel" ∧ yX9_isSo.cls ≠ "java/lang/invoke/MethodHandle" ∧ yX9_isSo.cls ≠ "java/lang/invoke/VarHandle" ∧ (parseMethodDescriptor yX9_isSo.desc).map (fun d => d.parameters.length) = some 3 := by decide +kernel
set_option maxHeartbeats 4000000 in
theorem mX9_isSo (l : Launch) (X : XT) (hX : XOK X) (D : va_G) (d : Nat → ClassId) (ad : Nat → Nat) (fu : Int32) (ft : Int32) (ff : Int32) (fs : Int32) (fa : Int32) (fb : Int32) (fn : Int32) (fr : Int32) (Ww : Nat → Int32) (IT : Nat → Int32) (p1 : Int32) (p2 : Int32) (p3 : Int32) (res : Int32 × (Nat → Int32)) (hf : fX9_isSo Ww IT p1 p2 p3 = some res) : MetI l yX9_isSo (ws_ yX9_isSo cX9_isSo 6 (some .boolean)) { frames := 4, cells := 0, slots := 0, locals := 91 } [.ref (ad 0), .int p1, .int p2, .int p3] X D d [oM ad fu ft ff fs fa fb fn fr, ((ad 1), .inl (d 0, 1247, .inl Ww)), ((ad 5), .inl (d 0, 320, .inl IT))] (fun r (_ : Unit) => r = res.1) (fun _ => [oM ad fu ft ff fs fa fb fn fr, ((ad 1), .inl (d 0, 1247, .inl res.2)), ((ad 5), .inl (d 0, 320, .inl IT))]) := by
  refine MetI.of (by decide +kernel) (Nat.le_of_ble_eq_true rfl) ?_
  intro p e s m below meth c A cx hw ls hl
  have cx : Cx p s m _ meth c X D d A "DishLiftModel" cX9_isSo 6 (some .boolean) "isSo" := cx
  have cx' := cx
  obtain ⟨hx, hb, hr, hlk, hml, hown, hts, hK, hA, hXs, hnm⟩ := cx'
  have hl : lv_has ls 6 [(0, .ref (ad 0)), (1, .int p1), (2, .int p2), (3, .int p3)] := hl
  unfold fX9_isSo at hf
  refine lv_iconst (v := 1) hx hb dX9_isSo_0 (by decide) ?_
  refine lv_istore (lv' := [(4, .int 1), (0, .ref (ad 0)), (1, .int p1), (2, .int p2), (3, .int p3)]) hx hb dX9_isSo_1 hl (by decide) rfl (fun ls hl => ?_)
  refine lv_iconst (v := 0) hx hb dX9_isSo_3 (by decide) ?_
  refine lv_istore (lv' := [(5, .int 0), (4, .int 1), (0, .ref (ad 0)), (1, .int p1), (2, .int p2), (3, .int p3)]) hx hb dX9_isSo_4 hl (by decide) rfl (fun ls hl => ?_)
  obtain ⟨r1, hlp6, hf⟩ := op_e hf
  refine x_join (A := A) (D := D) (J := 57) (nL := 6) (cells' := 0) (slots' := 0) (st := []) [oM ad fu ft ff fs fa fb fn fr, ((ad 1), .inl (d 0, 1247, .inl r1.2)), ((ad 5), .inl (d 0, 320, .inl IT))] [(4, .int r1.1)] (fun H locs ls hw hl => ?_) (fun hK6 => ?_)
  · refine lv_iload hx hb dX9_isSo_57 (lv_at hl 0 rfl) ?_
    obtain ⟨g2, hgb, hf⟩ := op_e hf
    have hf := sm_e hf
    subst hf
    exact x_retI cx hw (gb_spec hgb) () rfl [0, 1, 2] rfl rfl (Nat.le_of_ble_eq_true rfl) (Nat.le_of_ble_eq_true rfl) dX9_isSo_59
  · refine x_lp hlp6 (fun x6 => [oM ad fu ft ff fs fa fb fn fr, ((ad 1), .inl (d 0, 1247, .inl x6.2.2)), ((ad 5), .inl (d 0, 320, .inl IT))]) (fun x6 => [(0, .ref (ad 0)), (1, .int p1), (2, .int p2), (3, .int p3), (4, .int x6.1), (5, .int x6.2.1)]) hw (lv_sub hl [2, 3, 4, 5, 1, 0] rfl) (fun x6 y6 hf hin6 hout6 H locs ls hw hl => ?_)
    have hw : Wd D A s [oM ad fu ft ff fs fa fb fn fr, ((ad 1), .inl (d 0, 1247, .inl x6.2.2)), ((ad 5), .inl (d 0, 320, .inl IT))] H locs := hw
    have hl : lv_has ls 6 [(0, .ref (ad 0)), (1, .int p1), (2, .int p2), (3, .int p3), (4, .int x6.1), (5, .int x6.2.1)] := hl
    refine lv_iload hx hb dX9_isSo_6 (lv_at hl 5 rfl) ?_
    refine lv_iload_n hx hb dX9_isSo_8 rfl (lv_at hl 3 rfl) ?_
    refine lv_icmp_ge (tgt := 57) hx hb dX9_isSo_9 (by decide) (fun c9 => ?_) (fun c9 => ?_)
    · have hf := if_t hf c9
      have hf := sm_e hf
      subst hf
      have hz := hout6 _ rfl
      subst hz
      exact hK6 _ _ _ hw (lv_sub hl [4] rfl)
    · have hf := if_f hf c9
      refine lv_aload_n hx hb dX9_isSo_12 rfl (lv_at hl 0 rfl) ?_
      refine lv_bipush (v := 43) hx hb dX9_isSo_13 (by decide) ?_
      obtain ⟨q3, hcq3, hf⟩ := op_e hf
      refine x_VV (wr := [((ad 5), .inl (d 0, 320, .inl IT))]) (rest := []) [.int 43] hX cx hw hl.1 (mX9_passes l X hX D d ad fu ft ff fs fa fb fn fr x6.2.2 43 q3 hcq3) (lw_V q1411 q1413 qs48 q94 q1414) hd_X9_passes ⟨Nat.le_of_ble_eq_true rfl, Nat.le_of_ble_eq_true rfl⟩ (va_recv hK hw.1 (ci := 0) (q0 := 0) rfl rfl) rfl rfl (Nat.le_of_ble_eq_true rfl) dX9_isSo_15 [0, 1] [2] rfl rfl rfl rfl (by decide) ⟨(Nat.le_of_ble_eq_true rfl), (Nat.le_of_ble_eq_true rfl)⟩ (fun u H locs hp hw => ?_)
      have hw : Wd D A s [((ad 5), .inl (d 0, 320, .inl IT)), oM ad fu ft ff fs fa fb fn fr, ((ad 1), .inl (d 0, 1247, .inl q3))] H locs := hw
      refine lv_iload hx hb dX9_isSo_18 (lv_at hl 4 rfl) ?_
      refine lv_if_eq (tgt := 48) hx hb dX9_isSo_20 (by decide) (fun c20 => ?_) (fun c20 => ?_)
      · have hf := if_t hf c20
        refine lv_iconst (v := 0) hx hb dX9_isSo_48 (by decide) ?_
        refine lv_istore (lv' := [(4, .int 0), (0, .ref (ad 0)), (1, .int p1), (2, .int p2), (3, .int p3), (5, .int x6.2.1)]) hx hb dX9_isSo_49 hl (by decide) rfl (fun ls hl => ?_)
        refine lv_iinc (v := (x6.2.1 + 1)) (lv' := [(5, .int (x6.2.1 + 1)), (4, .int 0), (0, .ref (ad 0)), (1, .int p1), (2, .int p2), (3, .int p3)]) hx hb dX9_isSo_51 hl (k := 5) rfl (by first | rfl | decide) (by decide) rfl (fun ls hl => ?_)
        refine lv_goto (tgt := 6) hx hb dX9_isSo_54 (by decide) ?_
        have hf := sm_e hf
        subst hf
        exact hin6 _ rfl _ _ _ (hw.sub [1, 2, 0] rfl rfl) (lv_sub hl [2, 3, 4, 5, 1, 0] rfl)
      · have hf := if_f hf c20
        refine lv_aload_n hx hb dX9_isSo_23 rfl (lv_at hl 0 rfl) ?_
        refine va_get (ci := 0) (C := RX9) (T := TX9) (N := 19) hx hb hts in_X9 hown hK hw.1 1 rfl rfl 0 (by decide) (hts _ q1248) (fun _ h9 => h9) rfl dX9_isSo_24 ?_
        refine lv_bipush (v := 74) hx hb dX9_isSo_27 (by decide) ?_
        refine lv_iload_n hx hb dX9_isSo_29 rfl (lv_at hl 1 rfl) ?_
        refine lv_iadd hx hb dX9_isSo_30 ?_
        obtain ⟨v4, hv, hf⟩ := op_e hf
        refine x_iald (q0 := 2) cx hw rfl hv dX9_isSo_31 ?_
        refine lv_aload_n hx hb dX9_isSo_32 rfl (lv_at hl 0 rfl) ?_
        refine va_get (ci := 0) (C := RX9) (T := TX9) (N := 19) hx hb hts in_X9 hown hK hw.1 1 rfl rfl 8 (by decide) (hts _ q1256) (fun _ h9 => h9) rfl dX9_isSo_33 ?_
        refine lv_iload_n hx hb dX9_isSo_36 rfl (lv_at hl 2 rfl) ?_
        refine lv_iload hx hb dX9_isSo_37 (lv_at hl 5 rfl) ?_
        refine lv_iadd hx hb dX9_isSo_39 ?_
        obtain ⟨v5, hv, hf⟩ := op_e hf
        refine x_iald (q0 := 0) cx hw rfl hv dX9_isSo_40 ?_
        refine lv_icmp_ne (tgt := 48) hx hb dX9_isSo_41 (by decide) (fun c41 => ?_) (fun c41 => ?_)
        · have hf := if_f hf c41
          refine lv_iconst (v := 0) hx hb dX9_isSo_48 (by decide) ?_
          refine lv_istore (lv' := [(4, .int 0), (0, .ref (ad 0)), (1, .int p1), (2, .int p2), (3, .int p3), (5, .int x6.2.1)]) hx hb dX9_isSo_49 hl (by decide) rfl (fun ls hl => ?_)
          refine lv_iinc (v := (x6.2.1 + 1)) (lv' := [(5, .int (x6.2.1 + 1)), (4, .int 0), (0, .ref (ad 0)), (1, .int p1), (2, .int p2), (3, .int p3)]) hx hb dX9_isSo_51 hl (k := 5) rfl (by first | rfl | decide) (by decide) rfl (fun ls hl => ?_)
          refine lv_goto (tgt := 6) hx hb dX9_isSo_54 (by decide) ?_
          have hf := sm_e hf
          subst hf
          exact hin6 _ rfl _ _ _ (hw.sub [1, 2, 0] rfl rfl) (lv_sub hl [2, 3, 4, 5, 1, 0] rfl)
        · have hf := if_t hf c41
          refine lv_iconst (v := 1) hx hb dX9_isSo_44 (by decide) ?_
          refine lv_goto (tgt := 49) hx hb dX9_isSo_45 (by decide) ?_
          refine lv_istore (lv' := [(4, .int 1), (0, .ref (ad 0)), (1, .int p1), (2, .int p2), (3, .int p3), (5, .int x6.2.1)]) hx hb dX9_isSo_49 hl (by decide) rfl (fun ls hl => ?_)
          refine lv_iinc (v := (x6.2.1 + 1)) (lv' := [(5, .int (x6.2.1 + 1)), (4, .int 1), (0, .ref (ad 0)), (1, .int p1), (2, .int p2), (3, .int p3)]) hx hb dX9_isSo_51 hl (k := 5) rfl (by first | rfl | decide) (by decide) rfl (fun ls hl => ?_)
          refine lv_goto (tgt := 6) hx hb dX9_isSo_54 (by decide) ?_
          have hf := sm_e hf
          subst hf
          exact hin6 _ rfl _ _ _ (hw.sub [1, 2, 0] rfl rfl) (lv_sub hl [2, 3, 4, 5, 1, 0] rfl)
theorem hd_X9_who : yX9_who.cls = "DishLiftModel" ∧ yX9_who.cls ≠ "java/lang/invoke/MethodHandle" ∧ yX9_who.cls ≠ "java/lang/invoke/VarHandle" ∧ (parseMethodDescriptor yX9_who.desc).map (fun d => d.parameters.length) = some 5 := by decide +kernel
set_option maxHeartbeats 4000000 in
theorem mX9_who (l : Launch) (X : XT) (hX : XOK X) (D : va_G) (d : Nat → ClassId) (ad : Nat → Nat) (fu : Int32) (ft : Int32) (ff : Int32) (fs : Int32) (fa : Int32) (fb : Int32) (fn : Int32) (fr : Int32) (Ww : Nat → Int32) (MA : Nat → Int32) (IT : Nat → Int32) (p1 : Int32) (p2 : Int32) (p3 : Int32) (p4 : Int32) (p5 : Int32) (res : Int32 × Int32 × (Nat → Int32)) (hf : fX9_who Ww MA IT fs p1 p2 p3 p4 p5 = some res) : MetI l yX9_who (ws_ yX9_who cX9_who 12 (some .int)) { frames := 5, cells := 0, slots := 0, locals := 116 } [.ref (ad 0), .int p1, .int p2, .int p3, .int p4, .int p5] X D d [oM ad fu ft ff fs fa fb fn fr, ((ad 1), .inl (d 0, 1247, .inl Ww)), ((ad 3), .inl (d 0, 8, .inl MA)), ((ad 5), .inl (d 0, 320, .inl IT))] (fun r (_ : Unit) => r = res.1) (fun _ => [oM ad fu ft ff res.2.1 fa fb fn fr, ((ad 1), .inl (d 0, 1247, .inl res.2.2)), ((ad 3), .inl (d 0, 8, .inl MA)), ((ad 5), .inl (d 0, 320, .inl IT))]) := by
  refine MetI.of (by decide +kernel) (Nat.le_of_ble_eq_true rfl) ?_
  intro p e s m below meth c A cx hw ls hl
  have cx : Cx p s m _ meth c X D d A "DishLiftModel" cX9_who 12 (some .int) "who" := cx
  have cx' := cx
  obtain ⟨hx, hb, hr, hlk, hml, hown, hts, hK, hA, hXs, hnm⟩ := cx'
  have hl : lv_has ls 12 [(0, .ref (ad 0)), (1, .int p1), (2, .int p2), (3, .int p3), (4, .int p4), (5, .int p5)] := hl
  unfold fX9_who at hf
  refine lv_aload_n hx hb dX9_who_0 rfl (lv_at hl 0 rfl) ?_
  refine lv_iload_n hx hb dX9_who_1 rfl (lv_at hl 1 rfl) ?_
  obtain ⟨q1, hcq1, hf⟩ := op_e hf
  refine x_VI (wr := [((ad 3), .inl (d 0, 8, .inl MA)), ((ad 5), .inl (d 0, 320, .inl IT))]) (rest := []) [.int p1] hX cx hw hl.1 (mX9_isDish l X hX D d ad fu ft ff fs fa fb fn fr Ww p1 q1 hcq1) (lw_V q1475 q1477 qs58 q94 q1478) hd_X9_isDish ⟨Nat.le_of_ble_eq_true rfl, Nat.le_of_ble_eq_true rfl⟩ (va_recv hK hw.1 (ci := 0) (q0 := 0) rfl rfl) rfl rfl (Nat.le_of_ble_eq_true rfl) dX9_who_2 [0, 1] [2, 3] rfl rfl rfl rfl (by decide) ⟨(Nat.le_of_ble_eq_true rfl), (Nat.le_of_ble_eq_true rfl)⟩ (fun r u H locs hp hw => ?_)
  have hw : Wd D A s [((ad 3), .inl (d 0, 8, .inl MA)), ((ad 5), .inl (d 0, 320, .inl IT)), oM ad fu ft ff fs fa fb fn fr, ((ad 1), .inl (d 0, 1247, .inl Ww))] H locs := hw
  subst r
  refine lv_if_eq (tgt := 40) hx hb dX9_who_5 (by decide) (fun c5 => ?_) (fun c5 => ?_)
  · have hf := if_t hf c5
    refine lv_ldc (v := (-1000001)) hx hb hown (hts _ q1319) dX9_who_40 ?_
    have hf := sm_e hf
    subst hf
    exact x_retI cx hw rfl () rfl [2, 3, 0, 1] rfl rfl (Nat.le_of_ble_eq_true rfl) (Nat.le_of_ble_eq_true rfl) dX9_who_42
  · have hf := if_f hf c5
    refine lv_iload_n hx hb dX9_who_8 rfl (lv_at hl 2 rfl) ?_
    refine lv_i2l (v := p2.toInt64) hx hb dX9_who_9 rfl ?_
    refine lv_lconst (v := 0) hx hb dX9_who_10 (by decide) ?_
    refine lv_ldc2 (v := 5) hx hb hown (hts _ q1583) dX9_who_11 ?_
    obtain ⟨q2, hcq2, hf⟩ := op_e hf
    refine x_SI (wr := [((ad 3), .inl (d 0, 8, .inl MA)), ((ad 5), .inl (d 0, 320, .inl IT)), oM ad fu ft ff fs fa fb fn fr, ((ad 1), .inl (d 0, 1247, .inl Ww))]) (rest := []) [.long p2.toInt64, .long 0, .long 5] hX cx hw hl.1 (mX9_in l X hX D d p2.toInt64 0 5 q2 hcq2) (lw_S q1315 q1316 q94 q1317) hd_X9_in ⟨Nat.le_of_ble_eq_true rfl, Nat.le_of_ble_eq_true rfl⟩ rfl rfl (Nat.le_of_ble_eq_true rfl) dX9_who_14 [] [0, 1, 2, 3] rfl rfl rfl rfl (by decide) ⟨(Nat.le_of_ble_eq_true rfl), (Nat.le_of_ble_eq_true rfl)⟩ (fun r u H locs hp hw => ?_)
    have hw : Wd D A s [((ad 3), .inl (d 0, 8, .inl MA)), ((ad 5), .inl (d 0, 320, .inl IT)), oM ad fu ft ff fs fa fb fn fr, ((ad 1), .inl (d 0, 1247, .inl Ww))] H locs := hw
    subst r
    refine lv_if_eq (tgt := 40) hx hb dX9_who_17 (by decide) (fun c17 => ?_) (fun c17 => ?_)
    · have hf := if_t hf c17
      refine lv_ldc (v := (-1000001)) hx hb hown (hts _ q1319) dX9_who_40 ?_
      have hf := sm_e hf
      subst hf
      exact x_retI cx hw rfl () rfl [2, 3, 0, 1] rfl rfl (Nat.le_of_ble_eq_true rfl) (Nat.le_of_ble_eq_true rfl) dX9_who_42
    · have hf := if_f hf c17
      refine lv_iload_n hx hb dX9_who_20 rfl (lv_at hl 3 rfl) ?_
      obtain ⟨q3, hcq3, hf⟩ := op_e hf
      refine x_SI (wr := [((ad 3), .inl (d 0, 8, .inl MA)), ((ad 5), .inl (d 0, 320, .inl IT)), oM ad fu ft ff fs fa fb fn fr, ((ad 1), .inl (d 0, 1247, .inl Ww))]) (rest := []) [.int p3] hX cx hw hl.1 (mX9_isRow l X hX D d p3 q3 hcq3) (lw_S q1311 q1312 q94 q1313) hd_X9_isRow ⟨Nat.le_of_ble_eq_true rfl, Nat.le_of_ble_eq_true rfl⟩ rfl rfl (Nat.le_of_ble_eq_true rfl) dX9_who_21 [] [0, 1, 2, 3] rfl rfl rfl rfl (by decide) ⟨(Nat.le_of_ble_eq_true rfl), (Nat.le_of_ble_eq_true rfl)⟩ (fun r u H locs hp hw => ?_)
      have hw : Wd D A s [((ad 3), .inl (d 0, 8, .inl MA)), ((ad 5), .inl (d 0, 320, .inl IT)), oM ad fu ft ff fs fa fb fn fr, ((ad 1), .inl (d 0, 1247, .inl Ww))] H locs := hw
      subst r
      refine lv_if_eq (tgt := 40) hx hb dX9_who_24 (by decide) (fun c24 => ?_) (fun c24 => ?_)
      · have hf := if_t hf c24
        refine lv_ldc (v := (-1000001)) hx hb hown (hts _ q1319) dX9_who_40 ?_
        have hf := sm_e hf
        subst hf
        exact x_retI cx hw rfl () rfl [2, 3, 0, 1] rfl rfl (Nat.le_of_ble_eq_true rfl) (Nat.le_of_ble_eq_true rfl) dX9_who_42
      · have hf := if_f hf c24
        refine lv_iload hx hb dX9_who_27 (lv_at hl 5 rfl) ?_
        refine lv_i2l (v := p5.toInt64) hx hb dX9_who_29 rfl ?_
        refine lv_lconst (v := 1) hx hb dX9_who_30 (by decide) ?_
        refine lv_ldc2 (v := 12) hx hb hown (hts _ q1584) dX9_who_31 ?_
        obtain ⟨q4, hcq4, hf⟩ := op_e hf
        refine x_SI (wr := [((ad 3), .inl (d 0, 8, .inl MA)), ((ad 5), .inl (d 0, 320, .inl IT)), oM ad fu ft ff fs fa fb fn fr, ((ad 1), .inl (d 0, 1247, .inl Ww))]) (rest := []) [.long p5.toInt64, .long 1, .long 12] hX cx hw hl.1 (mX9_in l X hX D d p5.toInt64 1 12 q4 hcq4) (lw_S q1315 q1316 q94 q1317) hd_X9_in ⟨Nat.le_of_ble_eq_true rfl, Nat.le_of_ble_eq_true rfl⟩ rfl rfl (Nat.le_of_ble_eq_true rfl) dX9_who_34 [] [0, 1, 2, 3] rfl rfl rfl rfl (by decide) ⟨(Nat.le_of_ble_eq_true rfl), (Nat.le_of_ble_eq_true rfl)⟩ (fun r u H locs hp hw => ?_)
        have hw : Wd D A s [((ad 3), .inl (d 0, 8, .inl MA)), ((ad 5), .inl (d 0, 320, .inl IT)), oM ad fu ft ff fs fa fb fn fr, ((ad 1), .inl (d 0, 1247, .inl Ww))] H locs := hw
        subst r
        refine lv_if_ne (tgt := 43) hx hb dX9_who_37 (by decide) (fun c37 => ?_) (fun c37 => ?_)
        · have hf := if_f hf c37
          refine lv_aload_n hx hb dX9_who_43 rfl (lv_at hl 0 rfl) ?_
          refine lv_iload_n hx hb dX9_who_44 rfl (lv_at hl 3 rfl) ?_
          refine lv_iload hx hb dX9_who_45 (lv_at hl 4 rfl) ?_
          refine lv_iload hx hb dX9_who_47 (lv_at hl 5 rfl) ?_
          obtain ⟨q5, hcq5, hf⟩ := op_e hf
          refine x_VI (wr := [((ad 5), .inl (d 0, 320, .inl IT)), ((ad 1), .inl (d 0, 1247, .inl Ww))]) (rest := []) [.int p3, .int p4, .int p5] hX cx hw hl.1 (mX9_against l X hX D d ad fu ft ff fs fa fb fn fr MA p3 p4 p5 q5 hcq5) (lw_V q1329 q1331 qs37 q94 q1332) hd_X9_against ⟨Nat.le_of_ble_eq_true rfl, Nat.le_of_ble_eq_true rfl⟩ (va_recv hK hw.1 (ci := 0) (q0 := 2) rfl rfl) rfl rfl (Nat.le_of_ble_eq_true rfl) dX9_who_49 [2, 0] [1, 3] rfl rfl rfl rfl (by decide) ⟨(Nat.le_of_ble_eq_true rfl), (Nat.le_of_ble_eq_true rfl)⟩ (fun r u H locs hp hw => ?_)
          have hw : Wd D A s [((ad 5), .inl (d 0, 320, .inl IT)), ((ad 1), .inl (d 0, 1247, .inl Ww)), oM ad fu ft ff fs fa fb fn fr, ((ad 3), .inl (d 0, 8, .inl MA))] H locs := hw
          subst r
          refine lv_istore (lv' := [(6, .int q5), (0, .ref (ad 0)), (1, .int p1), (2, .int p2), (3, .int p3), (4, .int p4), (5, .int p5)]) hx hb dX9_who_52 hl (by decide) rfl (fun ls hl => ?_)
          refine lv_iload hx hb dX9_who_54 (lv_at hl 0 rfl) ?_
          refine lv_if_le (tgt := 66) hx hb dX9_who_56 (by decide) (fun c56 => ?_) (fun c56 => ?_)
          · have hf := if_t hf c56
            refine lv_aload_n hx hb dX9_who_66 rfl (lv_at hl 1 rfl) ?_
            refine lv_iconst (v := 0) hx hb dX9_who_67 (by decide) ?_
            refine va_put (ci := 0) (v := .int 0) (ty := .int) (C := RX9) (T := TX9) (N := 19) hx hb hts in_X9 tyX9 tyX9_ok nmX9 hown hK hw.1 hw.2.1 hw.2.2 2 rfl rfl 5 (by decide) (hts _ q1253) (fun _ h9 => h9) rfl (by decide +kernel) rfl rfl (Nat.le_of_ble_eq_true rfl) dX9_who_68 (fun H locs hP hD hS => ?_)
            have hw : Wd D A s [((ad 5), .inl (d 0, 320, .inl IT)), ((ad 1), .inl (d 0, 1247, .inl Ww)), oM ad fu ft ff 0 fa fb fn fr, ((ad 3), .inl (d 0, 8, .inl MA))] H locs := ⟨hP, hD, hS⟩
            refine lv_bipush (v := 40) hx hb dX9_who_71 (by decide) ?_
            refine lv_iload_n hx hb dX9_who_73 rfl (lv_at hl 4 rfl) ?_
            refine lv_imul hx hb dX9_who_74 ?_
            refine lv_iload hx hb dX9_who_75 (lv_at hl 5 rfl) ?_
            refine lv_iadd hx hb dX9_who_77 ?_
            refine lv_istore (lv' := [(7, .int ((40 * p3) + p4)), (6, .int q5), (0, .ref (ad 0)), (1, .int p1), (2, .int p2), (3, .int p3), (4, .int p4), (5, .int p5)]) hx hb dX9_who_78 hl (by decide) rfl (fun ls hl => ?_)
            refine lv_iload_n hx hb dX9_who_80 rfl (lv_at hl 4 rfl) ?_
            refine lv_iconst (v := 2) hx hb dX9_who_81 (by decide) ?_
            refine lv_icmp_ge (tgt := 184) hx hb dX9_who_82 (by decide) (fun c82 => ?_) (fun c82 => ?_)
            · have hf := if_t hf c82
              refine lv_iconst (v := 0) hx hb dX9_who_184 (by decide) ?_
              refine lv_istore (lv' := [(8, .int 0), (7, .int ((40 * p3) + p4)), (6, .int q5), (0, .ref (ad 0)), (1, .int p1), (2, .int p2), (3, .int p3), (4, .int p4), (5, .int p5)]) hx hb dX9_who_185 hl (by decide) rfl (fun ls hl => ?_)
              refine lv_ldc (v := (-1000000)) hx hb hown (hts _ q1519) dX9_who_187 ?_
              refine lv_istore (lv' := [(9, .int (-1000000)), (8, .int 0), (7, .int ((40 * p3) + p4)), (6, .int q5), (0, .ref (ad 0)), (1, .int p1), (2, .int p2), (3, .int p3), (4, .int p4), (5, .int p5)]) hx hb dX9_who_189 hl (by decide) rfl (fun ls hl => ?_)
              refine lv_iload_n hx hb dX9_who_191 rfl (lv_at hl 6 rfl) ?_
              refine lv_iconst (v := 4) hx hb dX9_who_192 (by decide) ?_
              obtain ⟨j6, ha, hr⟩ := op_e hf
              refine x_join (A := A) (D := D) (J := 203) (nL := 12) (cells' := 0) (slots' := 0) (st := [.int j6]) [oM ad fu ft ff 0 fa fb fn fr, ((ad 1), .inl (d 0, 1247, .inl Ww)), ((ad 3), .inl (d 0, 8, .inl MA)), ((ad 5), .inl (d 0, 320, .inl IT))] [(0, .ref (ad 0)), (1, .int p1), (2, .int p2), (5, .int p5), (7, .int ((40 * p3) + p4)), (8, .int 0), (9, .int (-1000000))] (fun H locs ls hw hl => ?_) (fun hKj203_j6 => ?_)
              · have hf := hr
                refine lv_istore (lv' := [(10, .int j6), (0, .ref (ad 0)), (1, .int p1), (2, .int p2), (5, .int p5), (7, .int ((40 * p3) + p4)), (8, .int 0), (9, .int (-1000000))]) hx hb dX9_who_203 hl (by decide) rfl (fun ls hl => ?_)
                refine lv_iload_n hx hb dX9_who_205 rfl (lv_at hl 3 rfl) ?_
                refine lv_iconst (v := 4) hx hb dX9_who_206 (by decide) ?_
                obtain ⟨j7, ha, hr⟩ := op_e hf
                refine x_join (A := A) (D := D) (J := 215) (nL := 12) (cells' := 0) (slots' := 0) (st := [.int j7]) [oM ad fu ft ff 0 fa fb fn fr, ((ad 1), .inl (d 0, 1247, .inl Ww)), ((ad 3), .inl (d 0, 8, .inl MA)), ((ad 5), .inl (d 0, 320, .inl IT))] [(0, .ref (ad 0)), (1, .int p1), (2, .int p2), (5, .int p5), (7, .int ((40 * p3) + p4)), (8, .int 0), (9, .int (-1000000)), (10, .int j6)] (fun H locs ls hw hl => ?_) (fun hKj215_j7 => ?_)
                · have hf := hr
                  refine lv_istore (lv' := [(11, .int j7), (0, .ref (ad 0)), (1, .int p1), (2, .int p2), (5, .int p5), (7, .int ((40 * p3) + p4)), (8, .int 0), (9, .int (-1000000)), (10, .int j6)]) hx hb dX9_who_215 hl (by decide) rfl (fun ls hl => ?_)
                  obtain ⟨r8, hlp217, hf⟩ := op_e hf
                  refine x_join (A := A) (D := D) (J := 286) (nL := 12) (cells' := 0) (slots' := 0) (st := []) [oM ad fu ft ff 0 fa fb fn fr, ((ad 1), .inl (d 0, 1247, .inl r8.2.2)), ((ad 3), .inl (d 0, 8, .inl MA)), ((ad 5), .inl (d 0, 320, .inl IT))] [(2, .int p2), (8, .int r8.1), (9, .int r8.2.1)] (fun H locs ls hw hl => ?_) (fun hK217 => ?_)
                  · refine lv_iload_n hx hb dX9_who_286 rfl (lv_at hl 0 rfl) ?_
                    refine lv_iconst (v := 2) hx hb dX9_who_287 (by decide) ?_
                    refine lv_irem hx hb dX9_who_288 (by decide) ?_
                    refine lv_if_ne (tgt := 297) hx hb dX9_who_289 (by decide) (fun c289 => ?_) (fun c289 => ?_)
                    · have hf := if_f hf c289
                      refine lv_iload hx hb dX9_who_297 (lv_at hl 2 rfl) ?_
                      have hf := sm_e hf
                      subst hf
                      exact x_retI cx hw rfl () rfl [0, 1, 2, 3] rfl rfl (Nat.le_of_ble_eq_true rfl) (Nat.le_of_ble_eq_true rfl) dX9_who_299
                    · have hf := if_t hf c289
                      refine lv_iload hx hb dX9_who_292 (lv_at hl 1 rfl) ?_
                      refine lv_goto (tgt := 299) hx hb dX9_who_294 (by decide) ?_
                      have hf := sm_e hf
                      subst hf
                      exact x_retI cx hw rfl () rfl [0, 1, 2, 3] rfl rfl (Nat.le_of_ble_eq_true rfl) (Nat.le_of_ble_eq_true rfl) dX9_who_299
                  · refine x_lp hlp217 (fun x217 => [oM ad fu ft ff 0 fa fb fn fr, ((ad 1), .inl (d 0, 1247, .inl x217.2.2.2)), ((ad 3), .inl (d 0, 8, .inl MA)), ((ad 5), .inl (d 0, 320, .inl IT))]) (fun x217 => [(0, .ref (ad 0)), (1, .int p1), (2, .int p2), (5, .int p5), (7, .int ((40 * p3) + p4)), (8, .int x217.1), (9, .int x217.2.1), (10, .int j6), (11, .int x217.2.2.1)]) hw (lv_sub hl [1, 2, 3, 4, 5, 6, 7, 8, 0] rfl) (fun x217 y217 hf hin217 hout217 H locs ls hw hl => ?_)
                    have hw : Wd D A s [oM ad fu ft ff 0 fa fb fn fr, ((ad 1), .inl (d 0, 1247, .inl x217.2.2.2)), ((ad 3), .inl (d 0, 8, .inl MA)), ((ad 5), .inl (d 0, 320, .inl IT))] H locs := hw
                    have hl : lv_has ls 12 [(0, .ref (ad 0)), (1, .int p1), (2, .int p2), (5, .int p5), (7, .int ((40 * p3) + p4)), (8, .int x217.1), (9, .int x217.2.1), (10, .int j6), (11, .int x217.2.2.1)] := hl
                    refine lv_iload hx hb dX9_who_217 (lv_at hl 8 rfl) ?_
                    refine lv_iload hx hb dX9_who_219 (lv_at hl 7 rfl) ?_
                    refine lv_icmp_gt (tgt := 286) hx hb dX9_who_221 (by decide) (fun c221 => ?_) (fun c221 => ?_)
                    · have hf := if_t hf c221
                      have hf := sm_e hf
                      subst hf
                      have hz := hout217 _ rfl
                      subst hz
                      exact hK217 _ _ _ hw (lv_sub hl [2, 5, 6] rfl)
                    · have hf := if_f hf c221
                      refine lv_aload_n hx hb dX9_who_224 rfl (lv_at hl 0 rfl) ?_
                      obtain ⟨q9, hcq9, hf⟩ := op_e hf
                      refine x_VV (wr := [((ad 3), .inl (d 0, 8, .inl MA)), ((ad 5), .inl (d 0, 320, .inl IT))]) (rest := []) [] hX cx hw hl.1 (mX9_tries l X hX D d ad fu ft ff 0 fa fb fn fr x217.2.2.2 q9 hcq9) (lw_V q1499 q1501 qs60 q94 q1502) hd_X9_tries ⟨Nat.le_of_ble_eq_true rfl, Nat.le_of_ble_eq_true rfl⟩ (va_recv hK hw.1 (ci := 0) (q0 := 0) rfl rfl) rfl rfl (Nat.le_of_ble_eq_true rfl) dX9_who_225 [0, 1] [2, 3] rfl rfl rfl rfl (by decide) ⟨(Nat.le_of_ble_eq_true rfl), (Nat.le_of_ble_eq_true rfl)⟩ (fun u H locs hp hw => ?_)
                      have hw : Wd D A s [((ad 3), .inl (d 0, 8, .inl MA)), ((ad 5), .inl (d 0, 320, .inl IT)), oM ad fu ft ff 0 fa fb fn fr, ((ad 1), .inl (d 0, 1247, .inl q9))] H locs := hw
                      refine lv_aload_n hx hb dX9_who_228 rfl (lv_at hl 0 rfl) ?_
                      refine va_get (ci := 0) (C := RX9) (T := TX9) (N := 19) hx hb hts in_X9 hown hK hw.1 2 rfl rfl 0 (by decide) (hts _ q1248) (fun _ h9 => h9) rfl dX9_who_229 ?_
                      refine lv_bipush (v := 43) hx hb dX9_who_232 (by decide) ?_
                      refine lv_iload_n hx hb dX9_who_234 rfl (lv_at hl 2 rfl) ?_
                      refine lv_iconst (v := 4) hx hb dX9_who_235 (by decide) ?_
                      obtain ⟨j10, ha, hr⟩ := op_e hf
                      refine x_join (A := A) (D := D) (J := 247) (nL := 12) (cells' := 0) (slots' := 0) (st := [.int j10, .int 43, .ref (ad 1)]) [oM ad fu ft ff 0 fa fb fn fr, ((ad 1), .inl (d 0, 1247, .inl q9)), ((ad 3), .inl (d 0, 8, .inl MA)), ((ad 5), .inl (d 0, 320, .inl IT))] [(0, .ref (ad 0)), (1, .int p1), (2, .int p2), (5, .int p5), (7, .int ((40 * p3) + p4)), (8, .int x217.1), (9, .int x217.2.1), (10, .int j6), (11, .int x217.2.2.1)] (fun H locs ls hw hl => ?_) (fun hKj247_j10 => ?_)
                      · have hf := hr
                        refine lv_iadd hx hb dX9_who_247 ?_
                        refine lv_iload hx hb dX9_who_248 (lv_at hl 8 rfl) ?_
                        obtain ⟨w11, hv, hf⟩ := op_e hf
                        refine x_iast (q0 := 1) cx hw rfl hv dX9_who_250 (fun H locs hw => ?_)
                        have hw : Wd D A s [oM ad fu ft ff 0 fa fb fn fr, ((ad 1), .inl (d 0, 1247, .inl w11)), ((ad 3), .inl (d 0, 8, .inl MA)), ((ad 5), .inl (d 0, 320, .inl IT))] H locs := hw
                        refine lv_aload_n hx hb dX9_who_251 rfl (lv_at hl 0 rfl) ?_
                        refine lv_iload_n hx hb dX9_who_252 rfl (lv_at hl 1 rfl) ?_
                        refine lv_iload hx hb dX9_who_253 (lv_at hl 4 rfl) ?_
                        refine lv_iload hx hb dX9_who_255 (lv_at hl 3 rfl) ?_
                        obtain ⟨q12, hcq12, hf⟩ := op_e hf
                        refine x_VI (wr := [((ad 3), .inl (d 0, 8, .inl MA))]) (rest := []) [.int p1, .int ((40 * p3) + p4), .int p5] hX cx hw hl.1 (mX9_isSo l X hX D d ad fu ft ff 0 fa fb fn fr w11 IT p1 ((40 * p3) + p4) p5 q12 hcq12) (lw_V q1585 q1587 qs69 q94 q1588) hd_X9_isSo ⟨Nat.le_of_ble_eq_true rfl, Nat.le_of_ble_eq_true rfl⟩ (va_recv hK hw.1 (ci := 0) (q0 := 0) rfl rfl) rfl rfl (Nat.le_of_ble_eq_true rfl) dX9_who_257 [0, 1, 3] [2] rfl rfl rfl rfl (by decide) ⟨(Nat.le_of_ble_eq_true rfl), (Nat.le_of_ble_eq_true rfl)⟩ (fun r u H locs hp hw => ?_)
                        have hw : Wd D A s [((ad 3), .inl (d 0, 8, .inl MA)), oM ad fu ft ff 0 fa fb fn fr, ((ad 1), .inl (d 0, 1247, .inl q12.2)), ((ad 5), .inl (d 0, 320, .inl IT))] H locs := hw
                        subst r
                        refine lv_if_eq (tgt := 280) hx hb dX9_who_260 (by decide) (fun c260 => ?_) (fun c260 => ?_)
                        · have hf := if_t hf c260
                          refine lv_iinc (v := (x217.2.2.1 + 1)) (lv' := [(11, .int (x217.2.2.1 + 1)), (0, .ref (ad 0)), (1, .int p1), (2, .int p2), (5, .int p5), (7, .int ((40 * p3) + p4)), (8, .int x217.1), (9, .int x217.2.1), (10, .int j6)]) hx hb dX9_who_280 hl (k := 8) rfl (by first | rfl | decide) (by decide) rfl (fun ls hl => ?_)
                          refine lv_goto (tgt := 217) hx hb dX9_who_283 (by decide) ?_
                          have hf := sm_e hf
                          subst hf
                          exact hin217 _ rfl _ _ _ (hw.sub [1, 2, 0, 3] rfl rfl) (lv_sub hl [1, 2, 3, 4, 5, 6, 7, 8, 0] rfl)
                        · have hf := if_f hf c260
                          refine lv_iload hx hb dX9_who_263 (lv_at hl 5 rfl) ?_
                          refine lv_if_ne (tgt := 273) hx hb dX9_who_265 (by decide) (fun c265 => ?_) (fun c265 => ?_)
                          · have hf := if_f hf c265
                            refine lv_iload hx hb dX9_who_273 (lv_at hl 6 rfl) ?_
                            refine lv_istore (lv' := [(9, .int x217.2.1), (0, .ref (ad 0)), (1, .int p1), (2, .int p2), (5, .int p5), (7, .int ((40 * p3) + p4)), (8, .int x217.1), (10, .int j6), (11, .int x217.2.2.1)]) hx hb dX9_who_275 hl (by decide) rfl (fun ls hl => ?_)
                            refine lv_iinc (v := (x217.1 + 1)) (lv' := [(8, .int (x217.1 + 1)), (9, .int x217.2.1), (0, .ref (ad 0)), (1, .int p1), (2, .int p2), (5, .int p5), (7, .int ((40 * p3) + p4)), (10, .int j6), (11, .int x217.2.2.1)]) hx hb dX9_who_277 hl (k := 6) rfl (by first | rfl | decide) (by decide) rfl (fun ls hl => ?_)
                            refine lv_iinc (v := (x217.2.2.1 + 1)) (lv' := [(11, .int (x217.2.2.1 + 1)), (8, .int (x217.1 + 1)), (9, .int x217.2.1), (0, .ref (ad 0)), (1, .int p1), (2, .int p2), (5, .int p5), (7, .int ((40 * p3) + p4)), (10, .int j6)]) hx hb dX9_who_280 hl (k := 8) rfl (by first | rfl | decide) (by decide) rfl (fun ls hl => ?_)
                            refine lv_goto (tgt := 217) hx hb dX9_who_283 (by decide) ?_
                            have hf := sm_e hf
                            subst hf
                            exact hin217 _ rfl _ _ _ (hw.sub [1, 2, 0, 3] rfl rfl) (lv_sub hl [3, 4, 5, 6, 7, 1, 2, 8, 0] rfl)
                          · have hf := if_t hf c265
                            refine lv_iload hx hb dX9_who_268 (lv_at hl 8 rfl) ?_
                            refine lv_goto (tgt := 275) hx hb dX9_who_270 (by decide) ?_
                            refine lv_istore (lv' := [(9, .int x217.2.2.1), (0, .ref (ad 0)), (1, .int p1), (2, .int p2), (5, .int p5), (7, .int ((40 * p3) + p4)), (8, .int x217.1), (10, .int j6), (11, .int x217.2.2.1)]) hx hb dX9_who_275 hl (by decide) rfl (fun ls hl => ?_)
                            refine lv_iinc (v := (x217.1 + 1)) (lv' := [(8, .int (x217.1 + 1)), (9, .int x217.2.2.1), (0, .ref (ad 0)), (1, .int p1), (2, .int p2), (5, .int p5), (7, .int ((40 * p3) + p4)), (10, .int j6), (11, .int x217.2.2.1)]) hx hb dX9_who_277 hl (k := 6) rfl (by first | rfl | decide) (by decide) rfl (fun ls hl => ?_)
                            refine lv_iinc (v := (x217.2.2.1 + 1)) (lv' := [(11, .int (x217.2.2.1 + 1)), (8, .int (x217.1 + 1)), (9, .int x217.2.2.1), (0, .ref (ad 0)), (1, .int p1), (2, .int p2), (5, .int p5), (7, .int ((40 * p3) + p4)), (10, .int j6)]) hx hb dX9_who_280 hl (k := 8) rfl (by first | rfl | decide) (by decide) rfl (fun ls hl => ?_)
                            refine lv_goto (tgt := 217) hx hb dX9_who_283 (by decide) ?_
                            have hf := sm_e hf
                            subst hf
                            exact hin217 _ rfl _ _ _ (hw.sub [1, 2, 0, 3] rfl rfl) (lv_sub hl [3, 4, 5, 6, 7, 1, 2, 8, 0] rfl)
                      · have hf := ha
                        refine lv_icmp_ge (tgt := 246) hx hb dX9_who_236 (by decide) (fun c236 => ?_) (fun c236 => ?_)
                        · have hf := if_t hf c236
                          refine lv_iconst (v := 3) hx hb dX9_who_246 (by decide) ?_
                          have hf := sm_e hf
                          subst hf
                          exact hKj247_j10 _ _ _ (hw.sub [2, 3, 0, 1] rfl rfl) hl
                        · have hf := if_f hf c236
                          refine lv_bipush (v := 31) hx hb dX9_who_239 (by decide) ?_
                          refine lv_iload_n hx hb dX9_who_241 rfl (lv_at hl 1 rfl) ?_
                          refine lv_iadd hx hb dX9_who_242 ?_
                          refine lv_goto (tgt := 247) hx hb dX9_who_243 (by decide) ?_
                          have hf := sm_e hf
                          subst hf
                          exact hKj247_j10 _ _ _ (hw.sub [2, 3, 0, 1] rfl rfl) hl
                · have hf := ha
                  refine lv_icmp_ge (tgt := 214) hx hb dX9_who_207 (by decide) (fun c207 => ?_) (fun c207 => ?_)
                  · have hf := if_t hf c207
                    refine lv_iconst (v := 1) hx hb dX9_who_214 (by decide) ?_
                    have hf := sm_e hf
                    subst hf
                    exact hKj215_j7 _ _ _ hw (lv_sub hl [1, 2, 3, 4, 5, 6, 7, 0] rfl)
                  · have hf := if_f hf c207
                    refine lv_iconst (v := 0) hx hb dX9_who_210 (by decide) ?_
                    refine lv_goto (tgt := 215) hx hb dX9_who_211 (by decide) ?_
                    have hf := sm_e hf
                    subst hf
                    exact hKj215_j7 _ _ _ hw (lv_sub hl [1, 2, 3, 4, 5, 6, 7, 0] rfl)
              · have hf := ha
                refine lv_icmp_ge (tgt := 201) hx hb dX9_who_193 (by decide) (fun c193 => ?_) (fun c193 => ?_)
                · have hf := if_t hf c193
                  refine lv_bipush (v := 40) hx hb dX9_who_201 (by decide) ?_
                  have hf := sm_e hf
                  subst hf
                  exact hKj203_j6 _ _ _ (hw.sub [2, 1, 3, 0] rfl rfl) (lv_sub hl [4, 5, 6, 9, 2, 1, 0] rfl)
                · have hf := if_f hf c193
                  refine lv_bipush (v := 60) hx hb dX9_who_196 (by decide) ?_
                  refine lv_goto (tgt := 203) hx hb dX9_who_198 (by decide) ?_
                  have hf := sm_e hf
                  subst hf
                  exact hKj203_j6 _ _ _ (hw.sub [2, 1, 3, 0] rfl rfl) (lv_sub hl [4, 5, 6, 9, 2, 1, 0] rfl)
            · have hf := if_f hf c82
              refine lv_iconst (v := 0) hx hb dX9_who_85 (by decide) ?_
              refine lv_istore (lv' := [(8, .int 0), (7, .int ((40 * p3) + p4)), (6, .int q5), (0, .ref (ad 0)), (1, .int p1), (2, .int p2), (3, .int p3), (4, .int p4), (5, .int p5)]) hx hb dX9_who_86 hl (by decide) rfl (fun ls hl => ?_)
              refine lv_iload_n hx hb dX9_who_88 rfl (lv_at hl 5 rfl) ?_
              obtain ⟨j13, ha, hr⟩ := op_e hf
              refine x_join (A := A) (D := D) (J := 104) (nL := 12) (cells' := 0) (slots' := 0) (st := [.int j13]) [oM ad fu ft ff 0 fa fb fn fr, ((ad 1), .inl (d 0, 1247, .inl Ww)), ((ad 3), .inl (d 0, 8, .inl MA)), ((ad 5), .inl (d 0, 320, .inl IT))] [(0, .ref (ad 0)), (1, .int p1), (2, .int p2), (5, .int p5), (7, .int ((40 * p3) + p4)), (8, .int 0)] (fun H locs ls hw hl => ?_) (fun hKj104_j13 => ?_)
              · have hf := hr
                refine lv_istore (lv' := [(9, .int j13), (0, .ref (ad 0)), (1, .int p1), (2, .int p2), (5, .int p5), (7, .int ((40 * p3) + p4)), (8, .int 0)]) hx hb dX9_who_104 hl (by decide) rfl (fun ls hl => ?_)
                refine lv_iload_n hx hb dX9_who_106 rfl (lv_at hl 3 rfl) ?_
                obtain ⟨j14, ha, hr⟩ := op_e hf
                refine x_join (A := A) (D := D) (J := 115) (nL := 12) (cells' := 0) (slots' := 0) (st := [.int j14]) [oM ad fu ft ff 0 fa fb fn fr, ((ad 1), .inl (d 0, 1247, .inl Ww)), ((ad 3), .inl (d 0, 8, .inl MA)), ((ad 5), .inl (d 0, 320, .inl IT))] [(0, .ref (ad 0)), (1, .int p1), (2, .int p2), (5, .int p5), (7, .int ((40 * p3) + p4)), (8, .int 0), (9, .int j13)] (fun H locs ls hw hl => ?_) (fun hKj115_j14 => ?_)
                · have hf := hr
                  refine lv_istore (lv' := [(10, .int j14), (0, .ref (ad 0)), (1, .int p1), (2, .int p2), (5, .int p5), (7, .int ((40 * p3) + p4)), (8, .int 0), (9, .int j13)]) hx hb dX9_who_115 hl (by decide) rfl (fun ls hl => ?_)
                  obtain ⟨r15, hlp117, hf⟩ := op_e hf
                  refine x_join (A := A) (D := D) (J := 181) (nL := 12) (cells' := 0) (slots' := 0) (st := []) [oM ad fu ft ff 0 fa fb fn fr, ((ad 1), .inl (d 0, 1247, .inl r15.2)), ((ad 3), .inl (d 0, 8, .inl MA)), ((ad 5), .inl (d 0, 320, .inl IT))] [(8, .int r15.1)] (fun H locs ls hw hl => ?_) (fun hK117 => ?_)
                  · refine lv_iload hx hb dX9_who_181 (lv_at hl 0 rfl) ?_
                    have hf := sm_e hf
                    subst hf
                    exact x_retI cx hw rfl () rfl [0, 1, 2, 3] rfl rfl (Nat.le_of_ble_eq_true rfl) (Nat.le_of_ble_eq_true rfl) dX9_who_183
                  · refine x_lp hlp117 (fun x117 => [oM ad fu ft ff 0 fa fb fn fr, ((ad 1), .inl (d 0, 1247, .inl x117.2.2)), ((ad 3), .inl (d 0, 8, .inl MA)), ((ad 5), .inl (d 0, 320, .inl IT))]) (fun x117 => [(0, .ref (ad 0)), (1, .int p1), (2, .int p2), (5, .int p5), (7, .int ((40 * p3) + p4)), (8, .int x117.1), (9, .int j13), (10, .int x117.2.1)]) hw (lv_sub hl [1, 2, 3, 4, 5, 6, 7, 0] rfl) (fun x117 y117 hf hin117 hout117 H locs ls hw hl => ?_)
                    have hw : Wd D A s [oM ad fu ft ff 0 fa fb fn fr, ((ad 1), .inl (d 0, 1247, .inl x117.2.2)), ((ad 3), .inl (d 0, 8, .inl MA)), ((ad 5), .inl (d 0, 320, .inl IT))] H locs := hw
                    have hl : lv_has ls 12 [(0, .ref (ad 0)), (1, .int p1), (2, .int p2), (5, .int p5), (7, .int ((40 * p3) + p4)), (8, .int x117.1), (9, .int j13), (10, .int x117.2.1)] := hl
                    refine lv_iload hx hb dX9_who_117 (lv_at hl 7 rfl) ?_
                    refine lv_iload hx hb dX9_who_119 (lv_at hl 6 rfl) ?_
                    refine lv_icmp_gt (tgt := 181) hx hb dX9_who_121 (by decide) (fun c121 => ?_) (fun c121 => ?_)
                    · have hf := if_t hf c121
                      have hf := sm_e hf
                      subst hf
                      have hz := hout117 _ rfl
                      subst hz
                      exact hK117 _ _ _ hw (lv_sub hl [5] rfl)
                    · have hf := if_f hf c121
                      refine lv_aload_n hx hb dX9_who_124 rfl (lv_at hl 0 rfl) ?_
                      obtain ⟨q16, hcq16, hf⟩ := op_e hf
                      refine x_VV (wr := [((ad 3), .inl (d 0, 8, .inl MA)), ((ad 5), .inl (d 0, 320, .inl IT))]) (rest := []) [] hX cx hw hl.1 (mX9_tries l X hX D d ad fu ft ff 0 fa fb fn fr x117.2.2 q16 hcq16) (lw_V q1499 q1501 qs60 q94 q1502) hd_X9_tries ⟨Nat.le_of_ble_eq_true rfl, Nat.le_of_ble_eq_true rfl⟩ (va_recv hK hw.1 (ci := 0) (q0 := 0) rfl rfl) rfl rfl (Nat.le_of_ble_eq_true rfl) dX9_who_125 [0, 1] [2, 3] rfl rfl rfl rfl (by decide) ⟨(Nat.le_of_ble_eq_true rfl), (Nat.le_of_ble_eq_true rfl)⟩ (fun u H locs hp hw => ?_)
                      have hw : Wd D A s [((ad 3), .inl (d 0, 8, .inl MA)), ((ad 5), .inl (d 0, 320, .inl IT)), oM ad fu ft ff 0 fa fb fn fr, ((ad 1), .inl (d 0, 1247, .inl q16))] H locs := hw
                      refine lv_aload_n hx hb dX9_who_128 rfl (lv_at hl 0 rfl) ?_
                      refine va_get (ci := 0) (C := RX9) (T := TX9) (N := 19) hx hb hts in_X9 hown hK hw.1 2 rfl rfl 0 (by decide) (hts _ q1248) (fun _ h9 => h9) rfl dX9_who_129 ?_
                      refine lv_bipush (v := 43) hx hb dX9_who_132 (by decide) ?_
                      refine lv_iload_n hx hb dX9_who_134 rfl (lv_at hl 2 rfl) ?_
                      obtain ⟨j17, ha, hr⟩ := op_e hf
                      refine x_join (A := A) (D := D) (J := 146) (nL := 12) (cells' := 0) (slots' := 0) (st := [.int j17, .int 43, .ref (ad 1)]) [oM ad fu ft ff 0 fa fb fn fr, ((ad 1), .inl (d 0, 1247, .inl q16)), ((ad 3), .inl (d 0, 8, .inl MA)), ((ad 5), .inl (d 0, 320, .inl IT))] [(0, .ref (ad 0)), (1, .int p1), (2, .int p2), (5, .int p5), (7, .int ((40 * p3) + p4)), (8, .int x117.1), (9, .int j13), (10, .int x117.2.1)] (fun H locs ls hw hl => ?_) (fun hKj146_j17 => ?_)
                      · have hf := hr
                        refine lv_iadd hx hb dX9_who_146 ?_
                        refine lv_iload hx hb dX9_who_147 (lv_at hl 7 rfl) ?_
                        obtain ⟨w18, hv, hf⟩ := op_e hf
                        refine x_iast (q0 := 1) cx hw rfl hv dX9_who_149 (fun H locs hw => ?_)
                        have hw : Wd D A s [oM ad fu ft ff 0 fa fb fn fr, ((ad 1), .inl (d 0, 1247, .inl w18)), ((ad 3), .inl (d 0, 8, .inl MA)), ((ad 5), .inl (d 0, 320, .inl IT))] H locs := hw
                        refine lv_iload hx hb dX9_who_150 (lv_at hl 5 rfl) ?_
                        refine lv_aload_n hx hb dX9_who_152 rfl (lv_at hl 0 rfl) ?_
                        refine lv_iload_n hx hb dX9_who_153 rfl (lv_at hl 1 rfl) ?_
                        refine lv_iload hx hb dX9_who_154 (lv_at hl 4 rfl) ?_
                        refine lv_iload hx hb dX9_who_156 (lv_at hl 3 rfl) ?_
                        obtain ⟨q19, hcq19, hf⟩ := op_e hf
                        refine x_VI (wr := [((ad 3), .inl (d 0, 8, .inl MA))]) (rest := [.int x117.1]) [.int p1, .int ((40 * p3) + p4), .int p5] hX cx hw hl.1 (mX9_isSo l X hX D d ad fu ft ff 0 fa fb fn fr w18 IT p1 ((40 * p3) + p4) p5 q19 hcq19) (lw_V q1585 q1587 qs69 q94 q1588) hd_X9_isSo ⟨Nat.le_of_ble_eq_true rfl, Nat.le_of_ble_eq_true rfl⟩ (va_recv hK hw.1 (ci := 0) (q0 := 0) rfl rfl) rfl rfl (Nat.le_of_ble_eq_true rfl) dX9_who_158 [0, 1, 3] [2] rfl rfl rfl rfl (by decide) ⟨(Nat.le_of_ble_eq_true rfl), (Nat.le_of_ble_eq_true rfl)⟩ (fun r u H locs hp hw => ?_)
                        have hw : Wd D A s [((ad 3), .inl (d 0, 8, .inl MA)), oM ad fu ft ff 0 fa fb fn fr, ((ad 1), .inl (d 0, 1247, .inl q19.2)), ((ad 5), .inl (d 0, 320, .inl IT))] H locs := hw
                        subst r
                        refine lv_if_eq (tgt := 171) hx hb dX9_who_161 (by decide) (fun c161 => ?_) (fun c161 => ?_)
                        · have hf := if_t hf c161
                          refine lv_iconst (v := 0) hx hb dX9_who_171 (by decide) ?_
                          refine lv_ior hx hb dX9_who_172 ?_
                          refine lv_istore (lv' := [(8, .int (x117.1 ||| 0)), (0, .ref (ad 0)), (1, .int p1), (2, .int p2), (5, .int p5), (7, .int ((40 * p3) + p4)), (9, .int j13), (10, .int x117.2.1)]) hx hb dX9_who_173 hl (by decide) rfl (fun ls hl => ?_)
                          refine lv_iinc (v := (x117.2.1 + 1)) (lv' := [(10, .int (x117.2.1 + 1)), (8, .int (x117.1 ||| 0)), (0, .ref (ad 0)), (1, .int p1), (2, .int p2), (5, .int p5), (7, .int ((40 * p3) + p4)), (9, .int j13)]) hx hb dX9_who_175 hl (k := 7) rfl (by first | rfl | decide) (by decide) rfl (fun ls hl => ?_)
                          refine lv_goto (tgt := 117) hx hb dX9_who_178 (by decide) ?_
                          have hf := sm_e hf
                          subst hf
                          exact hin117 _ rfl _ _ _ (hw.sub [1, 2, 0, 3] rfl rfl) (lv_sub hl [2, 3, 4, 5, 6, 1, 7, 0] rfl)
                        · have hf := if_f hf c161
                          refine lv_iconst (v := 1) hx hb dX9_who_164 (by decide) ?_
                          refine lv_iload hx hb dX9_who_165 (lv_at hl 7 rfl) ?_
                          refine lv_ishl hx hb dX9_who_167 ?_
                          refine lv_goto (tgt := 172) hx hb dX9_who_168 (by decide) ?_
                          refine lv_ior hx hb dX9_who_172 ?_
                          refine lv_istore (lv' := [(8, .int (x117.1 ||| ((1 : Int32) <<< (x117.2.1 &&& 31)))), (0, .ref (ad 0)), (1, .int p1), (2, .int p2), (5, .int p5), (7, .int ((40 * p3) + p4)), (9, .int j13), (10, .int x117.2.1)]) hx hb dX9_who_173 hl (by decide) rfl (fun ls hl => ?_)
                          refine lv_iinc (v := (x117.2.1 + 1)) (lv' := [(10, .int (x117.2.1 + 1)), (8, .int (x117.1 ||| ((1 : Int32) <<< (x117.2.1 &&& 31)))), (0, .ref (ad 0)), (1, .int p1), (2, .int p2), (5, .int p5), (7, .int ((40 * p3) + p4)), (9, .int j13)]) hx hb dX9_who_175 hl (k := 7) rfl (by first | rfl | decide) (by decide) rfl (fun ls hl => ?_)
                          refine lv_goto (tgt := 117) hx hb dX9_who_178 (by decide) ?_
                          have hf := sm_e hf
                          subst hf
                          exact hin117 _ rfl _ _ _ (hw.sub [1, 2, 0, 3] rfl rfl) (lv_sub hl [2, 3, 4, 5, 6, 1, 7, 0] rfl)
                      · have hf := ha
                        refine lv_if_ne (tgt := 145) hx hb dX9_who_135 (by decide) (fun c135 => ?_) (fun c135 => ?_)
                        · have hf := if_f hf c135
                          refine lv_iconst (v := 4) hx hb dX9_who_145 (by decide) ?_
                          have hf := sm_e hf
                          subst hf
                          exact hKj146_j17 _ _ _ (hw.sub [2, 3, 0, 1] rfl rfl) hl
                        · have hf := if_t hf c135
                          refine lv_bipush (v := 7) hx hb dX9_who_138 (by decide) ?_
                          refine lv_iload_n hx hb dX9_who_140 rfl (lv_at hl 1 rfl) ?_
                          refine lv_iadd hx hb dX9_who_141 ?_
                          refine lv_goto (tgt := 146) hx hb dX9_who_142 (by decide) ?_
                          have hf := sm_e hf
                          subst hf
                          exact hKj146_j17 _ _ _ (hw.sub [2, 3, 0, 1] rfl rfl) hl
                · have hf := ha
                  refine lv_if_ne (tgt := 114) hx hb dX9_who_107 (by decide) (fun c107 => ?_) (fun c107 => ?_)
                  · have hf := if_f hf c107
                    refine lv_iconst (v := 0) hx hb dX9_who_114 (by decide) ?_
                    have hf := sm_e hf
                    subst hf
                    exact hKj115_j14 _ _ _ hw (lv_sub hl [1, 2, 3, 4, 5, 6, 0] rfl)
                  · have hf := if_t hf c107
                    refine lv_iconst (v := 1) hx hb dX9_who_110 (by decide) ?_
                    refine lv_goto (tgt := 115) hx hb dX9_who_111 (by decide) ?_
                    have hf := sm_e hf
                    subst hf
                    exact hKj115_j14 _ _ _ hw (lv_sub hl [1, 2, 3, 4, 5, 6, 0] rfl)
              · have hf := ha
                refine lv_if_ne (tgt := 96) hx hb dX9_who_89 (by decide) (fun c89 => ?_) (fun c89 => ?_)
                · have hf := if_f hf c89
                  refine lv_aload_n hx hb dX9_who_96 rfl (lv_at hl 3 rfl) ?_
                  refine va_get (ci := 0) (C := RX9) (T := TX9) (N := 19) hx hb hts in_X9 hown hK hw.1 2 rfl rfl 0 (by decide) (hts _ q1248) (fun _ h9 => h9) rfl dX9_who_97 ?_
                  refine lv_iconst (v := 1) hx hb dX9_who_100 (by decide) ?_
                  obtain ⟨v20, hv, hf⟩ := op_e hf
                  refine x_iald (q0 := 1) cx hw rfl hv dX9_who_101 ?_
                  refine lv_iconst (v := 1) hx hb dX9_who_102 (by decide) ?_
                  refine lv_isub hx hb dX9_who_103 ?_
                  have hf := sm_e hf
                  subst hf
                  exact hKj104_j13 _ _ _ (hw.sub [2, 1, 3, 0] rfl rfl) (lv_sub hl [3, 4, 5, 8, 1, 0] rfl)
                · have hf := if_t hf c89
                  refine lv_iconst (v := 5) hx hb dX9_who_92 (by decide) ?_
                  refine lv_goto (tgt := 104) hx hb dX9_who_93 (by decide) ?_
                  have hf := sm_e hf
                  subst hf
                  exact hKj104_j13 _ _ _ (hw.sub [2, 1, 3, 0] rfl rfl) (lv_sub hl [3, 4, 5, 8, 1, 0] rfl)
          · have hf := if_f hf c56
            refine lv_aload_n hx hb dX9_who_59 rfl (lv_at hl 1 rfl) ?_
            refine lv_iload hx hb dX9_who_60 (lv_at hl 0 rfl) ?_
            obtain ⟨q21, hcq21, hf⟩ := op_e hf
            refine x_VI (wr := [((ad 5), .inl (d 0, 320, .inl IT)), ((ad 1), .inl (d 0, 1247, .inl Ww)), ((ad 3), .inl (d 0, 8, .inl MA))]) (rest := []) [.int q5] hX cx hw hl.1 (mX9_finds l X hX D d ad fu ft ff fs fa fb fn fr q5 q21 hcq21) (lw_V q1320 q1322 qs36 q94 q1323) hd_X9_finds ⟨Nat.le_of_ble_eq_true rfl, Nat.le_of_ble_eq_true rfl⟩ (va_recv hK hw.1 (ci := 0) (q0 := 2) rfl rfl) rfl rfl (Nat.le_of_ble_eq_true rfl) dX9_who_62 [2] [0, 1, 3] rfl rfl rfl rfl (by decide) ⟨(Nat.le_of_ble_eq_true rfl), (Nat.le_of_ble_eq_true rfl)⟩ (fun r u H locs hp hw => ?_)
            have hw : Wd D A s [((ad 5), .inl (d 0, 320, .inl IT)), ((ad 1), .inl (d 0, 1247, .inl Ww)), ((ad 3), .inl (d 0, 8, .inl MA)), oM ad fu ft ff q21.2 fa fb fn fr] H locs := hw
            subst r
            have hf := sm_e hf
            subst hf
            exact x_retI cx hw rfl () rfl [3, 1, 2, 0] rfl rfl (Nat.le_of_ble_eq_true rfl) (Nat.le_of_ble_eq_true rfl) dX9_who_65
        · have hf := if_t hf c37
          refine lv_ldc (v := (-1000001)) hx hb hown (hts _ q1319) dX9_who_40 ?_
          have hf := sm_e hf
          subst hf
          exact x_retI cx hw rfl () rfl [2, 3, 0, 1] rfl rfl (Nat.le_of_ble_eq_true rfl) (Nat.le_of_ble_eq_true rfl) dX9_who_42
theorem hd_X9_stuck : yX9_stuck.cls = "DishLiftModel" ∧ yX9_stuck.cls ≠ "java/lang/invoke/MethodHandle" ∧ yX9_stuck.cls ≠ "java/lang/invoke/VarHandle" ∧ (parseMethodDescriptor yX9_stuck.desc).map (fun d => d.parameters.length) = some 4 := by decide +kernel
set_option maxHeartbeats 4000000 in
theorem mX9_stuck (l : Launch) (X : XT) (hX : XOK X) (D : va_G) (d : Nat → ClassId) (ad : Nat → Nat) (fu : Int32) (ft : Int32) (ff : Int32) (fs : Int32) (fa : Int32) (fb : Int32) (fn : Int32) (fr : Int32) (Ww : Nat → Int32) (p1 : Int32) (p2 : Int32) (p3 : Int32) (p4 : Int32) (res : Int64 × (Nat → Int32)) (hf : fX9_stuck Ww p1 p2 p3 p4 = some res) : MetL l yX9_stuck (ws_ yX9_stuck cX9_stuck 15 (some .long)) { frames := 4, cells := 0, slots := 0, locals := 91 } [.ref (ad 0), .int p1, .int p2, .int p3, .int p4] X D d [oM ad fu ft ff fs fa fb fn fr, ((ad 1), .inl (d 0, 1247, .inl Ww))] (fun r (_ : Unit) => r = res.1) (fun _ => [oM ad fu ft ff fs fa fb fn fr, ((ad 1), .inl (d 0, 1247, .inl res.2))]) := by
  refine MetL.of (by decide +kernel) (Nat.le_of_ble_eq_true rfl) ?_
  intro p e s m below meth c A cx hw ls hl
  have cx : Cx p s m _ meth c X D d A "DishLiftModel" cX9_stuck 15 (some .long) "stuck" := cx
  have cx' := cx
  obtain ⟨hx, hb, hr, hlk, hml, hown, hts, hK, hA, hXs, hnm⟩ := cx'
  have hl : lv_has ls 15 [(0, .ref (ad 0)), (1, .int p1), (2, .int p2), (3, .int p3), (4, .int p4)] := hl
  unfold fX9_stuck at hf
  refine lv_aload_n hx hb dX9_stuck_0 rfl (lv_at hl 0 rfl) ?_
  refine lv_iload_n hx hb dX9_stuck_1 rfl (lv_at hl 1 rfl) ?_
  obtain ⟨q1, hcq1, hf⟩ := op_e hf
  refine x_VI (wr := []) (rest := []) [.int p1] hX cx hw hl.1 (mX9_isDish l X hX D d ad fu ft ff fs fa fb fn fr Ww p1 q1 hcq1) (lw_V q1475 q1477 qs58 q94 q1478) hd_X9_isDish ⟨Nat.le_of_ble_eq_true rfl, Nat.le_of_ble_eq_true rfl⟩ (va_recv hK hw.1 (ci := 0) (q0 := 0) rfl rfl) rfl rfl (Nat.le_of_ble_eq_true rfl) dX9_stuck_2 [0, 1] [] rfl rfl rfl rfl (by decide) ⟨(Nat.le_of_ble_eq_true rfl), (Nat.le_of_ble_eq_true rfl)⟩ (fun r u H locs hp hw => ?_)
  have hw : Wd D A s [oM ad fu ft ff fs fa fb fn fr, ((ad 1), .inl (d 0, 1247, .inl Ww))] H locs := hw
  subst r
  refine lv_if_eq (tgt := 43) hx hb dX9_stuck_5 (by decide) (fun c5 => ?_) (fun c5 => ?_)
  · have hf := if_t hf c5
    refine lv_ldc2 (v := (-1000001)) hx hb hown (hts _ q1595) dX9_stuck_43 ?_
    have hf := sm_e hf
    subst hf
    exact x_retL cx hw () rfl [0, 1] rfl rfl (Nat.le_of_ble_eq_true rfl) (Nat.le_of_ble_eq_true rfl) dX9_stuck_46
  · have hf := if_f hf c5
    refine lv_iload_n hx hb dX9_stuck_8 rfl (lv_at hl 2 rfl) ?_
    refine lv_i2l (v := p2.toInt64) hx hb dX9_stuck_9 rfl ?_
    refine lv_lconst (v := 0) hx hb dX9_stuck_10 (by decide) ?_
    refine lv_ldc2 (v := 8) hx hb hown (hts _ q1593) dX9_stuck_11 ?_
    obtain ⟨q2, hcq2, hf⟩ := op_e hf
    refine x_SI (wr := [oM ad fu ft ff fs fa fb fn fr, ((ad 1), .inl (d 0, 1247, .inl Ww))]) (rest := []) [.long p2.toInt64, .long 0, .long 8] hX cx hw hl.1 (mX9_in l X hX D d p2.toInt64 0 8 q2 hcq2) (lw_S q1315 q1316 q94 q1317) hd_X9_in ⟨Nat.le_of_ble_eq_true rfl, Nat.le_of_ble_eq_true rfl⟩ rfl rfl (Nat.le_of_ble_eq_true rfl) dX9_stuck_14 [] [0, 1] rfl rfl rfl rfl (by decide) ⟨(Nat.le_of_ble_eq_true rfl), (Nat.le_of_ble_eq_true rfl)⟩ (fun r u H locs hp hw => ?_)
    have hw : Wd D A s [oM ad fu ft ff fs fa fb fn fr, ((ad 1), .inl (d 0, 1247, .inl Ww))] H locs := hw
    subst r
    refine lv_if_eq (tgt := 43) hx hb dX9_stuck_17 (by decide) (fun c17 => ?_) (fun c17 => ?_)
    · have hf := if_t hf c17
      refine lv_ldc2 (v := (-1000001)) hx hb hown (hts _ q1595) dX9_stuck_43 ?_
      have hf := sm_e hf
      subst hf
      exact x_retL cx hw () rfl [0, 1] rfl rfl (Nat.le_of_ble_eq_true rfl) (Nat.le_of_ble_eq_true rfl) dX9_stuck_46
    · have hf := if_f hf c17
      refine lv_iload_n hx hb dX9_stuck_20 rfl (lv_at hl 3 rfl) ?_
      refine lv_i2l (v := p3.toInt64) hx hb dX9_stuck_21 rfl ?_
      refine lv_lconst (v := 0) hx hb dX9_stuck_22 (by decide) ?_
      refine lv_ldc2 (v := 10) hx hb hown (hts _ q1594) dX9_stuck_23 ?_
      obtain ⟨q3, hcq3, hf⟩ := op_e hf
      refine x_SI (wr := [oM ad fu ft ff fs fa fb fn fr, ((ad 1), .inl (d 0, 1247, .inl Ww))]) (rest := []) [.long p3.toInt64, .long 0, .long 10] hX cx hw hl.1 (mX9_in l X hX D d p3.toInt64 0 10 q3 hcq3) (lw_S q1315 q1316 q94 q1317) hd_X9_in ⟨Nat.le_of_ble_eq_true rfl, Nat.le_of_ble_eq_true rfl⟩ rfl rfl (Nat.le_of_ble_eq_true rfl) dX9_stuck_26 [] [0, 1] rfl rfl rfl rfl (by decide) ⟨(Nat.le_of_ble_eq_true rfl), (Nat.le_of_ble_eq_true rfl)⟩ (fun r u H locs hp hw => ?_)
      have hw : Wd D A s [oM ad fu ft ff fs fa fb fn fr, ((ad 1), .inl (d 0, 1247, .inl Ww))] H locs := hw
      subst r
      refine lv_if_eq (tgt := 43) hx hb dX9_stuck_29 (by decide) (fun c29 => ?_) (fun c29 => ?_)
      · have hf := if_t hf c29
        refine lv_ldc2 (v := (-1000001)) hx hb hown (hts _ q1595) dX9_stuck_43 ?_
        have hf := sm_e hf
        subst hf
        exact x_retL cx hw () rfl [0, 1] rfl rfl (Nat.le_of_ble_eq_true rfl) (Nat.le_of_ble_eq_true rfl) dX9_stuck_46
      · have hf := if_f hf c29
        refine lv_iload hx hb dX9_stuck_32 (lv_at hl 4 rfl) ?_
        refine lv_i2l (v := p4.toInt64) hx hb dX9_stuck_34 rfl ?_
        refine lv_lconst (v := 0) hx hb dX9_stuck_35 (by decide) ?_
        refine lv_lconst (v := 1) hx hb dX9_stuck_36 (by decide) ?_
        obtain ⟨q4, hcq4, hf⟩ := op_e hf
        refine x_SI (wr := [oM ad fu ft ff fs fa fb fn fr, ((ad 1), .inl (d 0, 1247, .inl Ww))]) (rest := []) [.long p4.toInt64, .long 0, .long 1] hX cx hw hl.1 (mX9_in l X hX D d p4.toInt64 0 1 q4 hcq4) (lw_S q1315 q1316 q94 q1317) hd_X9_in ⟨Nat.le_of_ble_eq_true rfl, Nat.le_of_ble_eq_true rfl⟩ rfl rfl (Nat.le_of_ble_eq_true rfl) dX9_stuck_37 [] [0, 1] rfl rfl rfl rfl (by decide) ⟨(Nat.le_of_ble_eq_true rfl), (Nat.le_of_ble_eq_true rfl)⟩ (fun r u H locs hp hw => ?_)
        have hw : Wd D A s [oM ad fu ft ff fs fa fb fn fr, ((ad 1), .inl (d 0, 1247, .inl Ww))] H locs := hw
        subst r
        refine lv_if_ne (tgt := 47) hx hb dX9_stuck_40 (by decide) (fun c40 => ?_) (fun c40 => ?_)
        · have hf := if_f hf c40
          refine lv_lconst (v := 0) hx hb dX9_stuck_47 (by decide) ?_
          refine lv_lstore (lv' := [(5, .long 0), (0, .ref (ad 0)), (1, .int p1), (2, .int p2), (3, .int p3), (4, .int p4)]) hx hb dX9_stuck_48 hl (by decide) rfl (fun ls hl => ?_)
          refine lv_lconst (v := 1) hx hb dX9_stuck_50 (by decide) ?_
          refine lv_lstore (lv' := [(7, .long 1), (5, .long 0), (0, .ref (ad 0)), (1, .int p1), (2, .int p2), (3, .int p3), (4, .int p4)]) hx hb dX9_stuck_51 hl (by decide) rfl (fun ls hl => ?_)
          refine lv_iconst (v := 0) hx hb dX9_stuck_53 (by decide) ?_
          refine lv_istore (lv' := [(9, .int 0), (7, .long 1), (5, .long 0), (0, .ref (ad 0)), (1, .int p1), (2, .int p2), (3, .int p3), (4, .int p4)]) hx hb dX9_stuck_54 hl (by decide) rfl (fun ls hl => ?_)
          obtain ⟨r5, hlp56, hf⟩ := op_e hf
          refine x_join (A := A) (D := D) (J := 76) (nL := 15) (cells' := 0) (slots' := 0) (st := []) [oM ad fu ft ff fs fa fb fn fr, ((ad 1), .inl (d 0, 1247, .inl Ww))] [(0, .ref (ad 0)), (1, .int p1), (2, .int p2), (3, .int p3), (4, .int p4), (5, .long 0), (7, .long r5)] (fun H locs ls hw hl => ?_) (fun hK56 => ?_)
          · refine lv_iconst (v := 0) hx hb dX9_stuck_76 (by decide) ?_
            refine lv_istore (lv' := [(9, .int 0), (0, .ref (ad 0)), (1, .int p1), (2, .int p2), (3, .int p3), (4, .int p4), (5, .long 0), (7, .long r5)]) hx hb dX9_stuck_77 hl (by decide) rfl (fun ls hl => ?_)
            obtain ⟨r6, hlp79, hf⟩ := op_e hf
            refine x_join (A := A) (D := D) (J := 191) (nL := 15) (cells' := 0) (slots' := 0) (st := []) [oM ad fu ft ff fs fa fb fn fr, ((ad 1), .inl (d 0, 1247, .inl r6.2))] [(4, .int p4), (5, .long r6.1), (7, .long r5)] (fun H locs ls hw hl => ?_) (fun hK79 => ?_)
            · refine lv_lload hx hb dX9_stuck_191 (lv_at hl 1 rfl) ?_
              refine lv_lstore (lv' := [(9, .long r6.1), (4, .int p4), (5, .long r6.1), (7, .long r5)]) hx hb dX9_stuck_193 hl (by decide) rfl (fun ls hl => ?_)
              refine lv_lload hx hb dX9_stuck_195 (lv_at hl 3 rfl) ?_
              refine lv_lstore (lv' := [(11, .long r5), (9, .long r6.1), (4, .int p4), (5, .long r6.1), (7, .long r5)]) hx hb dX9_stuck_197 hl (by decide) rfl (fun ls hl => ?_)
              obtain ⟨r7, hlp199, hf⟩ := op_e hf
              refine x_join (A := A) (D := D) (J := 224) (nL := 15) (cells' := 0) (slots' := 0) (st := []) [oM ad fu ft ff fs fa fb fn fr, ((ad 1), .inl (d 0, 1247, .inl r6.2))] [(4, .int p4), (5, .long r6.1), (7, .long r5), (9, .long r7)] (fun H locs ls hw hl => ?_) (fun hK199 => ?_)
              · refine lv_iload hx hb dX9_stuck_224 (lv_at hl 0 rfl) ?_
                refine lv_if_ne (tgt := 237) hx hb dX9_stuck_226 (by decide) (fun c226 => ?_) (fun c226 => ?_)
                · have hf := if_f hf c226
                  refine lv_lload hx hb dX9_stuck_237 (lv_at hl 2 rfl) ?_
                  refine lv_lload hx hb dX9_stuck_239 (lv_at hl 3 rfl) ?_
                  obtain ⟨g9, hv, hf⟩ := op_e hf
                  refine x_ldiv cx hv dX9_stuck_241 ?_
                  have hf := sm_e hf
                  subst hf
                  exact x_retL cx hw () rfl [0, 1] rfl rfl (Nat.le_of_ble_eq_true rfl) (Nat.le_of_ble_eq_true rfl) dX9_stuck_242
                · have hf := if_t hf c226
                  refine lv_lload hx hb dX9_stuck_229 (lv_at hl 1 rfl) ?_
                  refine lv_lload hx hb dX9_stuck_231 (lv_at hl 3 rfl) ?_
                  obtain ⟨g8, hv, hf⟩ := op_e hf
                  refine x_ldiv cx hv dX9_stuck_233 ?_
                  refine lv_goto (tgt := 242) hx hb dX9_stuck_234 (by decide) ?_
                  have hf := sm_e hf
                  subst hf
                  exact x_retL cx hw () rfl [0, 1] rfl rfl (Nat.le_of_ble_eq_true rfl) (Nat.le_of_ble_eq_true rfl) dX9_stuck_242
              · refine x_lp hlp199 (fun x199 => [oM ad fu ft ff fs fa fb fn fr, ((ad 1), .inl (d 0, 1247, .inl r6.2))]) (fun x199 => [(4, .int p4), (5, .long r6.1), (7, .long r5), (9, .long x199.1), (11, .long x199.2)]) hw (lv_sub hl [2, 3, 4, 1, 0] rfl) (fun x199 y199 hf hin199 hout199 H locs ls hw hl => ?_)
                have hw : Wd D A s [oM ad fu ft ff fs fa fb fn fr, ((ad 1), .inl (d 0, 1247, .inl r6.2))] H locs := hw
                have hl : lv_has ls 15 [(4, .int p4), (5, .long r6.1), (7, .long r5), (9, .long x199.1), (11, .long x199.2)] := hl
                refine lv_lload hx hb dX9_stuck_199 (lv_at hl 4 rfl) ?_
                refine lv_lconst (v := 0) hx hb dX9_stuck_201 (by decide) ?_
                refine W.lcmp hx hb dX9_stuck_202 ?_
                refine lv_if_eq (tgt := 224) hx hb dX9_stuck_203 (by decide) (fun c203 => ?_) (fun c203 => ?_)
                · have hf := if_t hf ((lg_cmp_eq _ _).mp c203)
                  have hf := sm_e hf
                  subst hf
                  have hz := hout199 _ rfl
                  subst hz
                  exact hK199 _ _ _ hw (lv_sub hl [0, 1, 2, 3] rfl)
                · have hf := if_f hf (fun h => c203 ((lg_cmp_eq _ _).mpr h))
                  refine lv_lload hx hb dX9_stuck_206 (lv_at hl 3 rfl) ?_
                  refine lv_lload hx hb dX9_stuck_208 (lv_at hl 4 rfl) ?_
                  obtain ⟨g10, hv, hf⟩ := op_e hf
                  refine x_lrem cx hv dX9_stuck_210 ?_
                  refine lv_lstore (lv' := [(13, .long (x199.1 - x199.1 / x199.2 * x199.2)), (4, .int p4), (5, .long r6.1), (7, .long r5), (9, .long x199.1), (11, .long x199.2)]) hx hb dX9_stuck_211 hl (by decide) rfl (fun ls hl => ?_)
                  refine lv_lload hx hb dX9_stuck_213 (lv_at hl 5 rfl) ?_
                  refine lv_lstore (lv' := [(9, .long x199.2), (13, .long (x199.1 - x199.1 / x199.2 * x199.2)), (4, .int p4), (5, .long r6.1), (7, .long r5), (11, .long x199.2)]) hx hb dX9_stuck_215 hl (by decide) rfl (fun ls hl => ?_)
                  refine lv_lload hx hb dX9_stuck_217 (lv_at hl 1 rfl) ?_
                  refine lv_lstore (lv' := [(11, .long (x199.1 - x199.1 / x199.2 * x199.2)), (9, .long x199.2), (13, .long (x199.1 - x199.1 / x199.2 * x199.2)), (4, .int p4), (5, .long r6.1), (7, .long r5)]) hx hb dX9_stuck_219 hl (by decide) rfl (fun ls hl => ?_)
                  refine lv_goto (tgt := 199) hx hb dX9_stuck_221 (by decide) ?_
                  have hf := sm_e hf
                  subst hf
                  exact hin199 _ rfl _ _ _ hw (lv_sub hl [3, 4, 5, 1, 0] rfl)
            · refine x_lp hlp79 (fun x79 => [oM ad fu ft ff fs fa fb fn fr, ((ad 1), .inl (d 0, 1247, .inl x79.2.2))]) (fun x79 => [(0, .ref (ad 0)), (1, .int p1), (2, .int p2), (3, .int p3), (4, .int p4), (5, .long x79.1), (7, .long r5), (9, .int x79.2.1)]) hw (lv_sub hl [1, 2, 3, 4, 5, 6, 7, 0] rfl) (fun x79 y79 hf hin79 hout79 H locs ls hw hl => ?_)
              have hw : Wd D A s [oM ad fu ft ff fs fa fb fn fr, ((ad 1), .inl (d 0, 1247, .inl x79.2.2))] H locs := hw
              have hl : lv_has ls 15 [(0, .ref (ad 0)), (1, .int p1), (2, .int p2), (3, .int p3), (4, .int p4), (5, .long x79.1), (7, .long r5), (9, .int x79.2.1)] := hl
              refine lv_iload hx hb dX9_stuck_79 (lv_at hl 7 rfl) ?_
              refine lv_iconst (v := 1) hx hb dX9_stuck_81 (by decide) ?_
              refine lv_iload_n hx hb dX9_stuck_82 rfl (lv_at hl 2 rfl) ?_
              refine lv_ishl hx hb dX9_stuck_83 ?_
              refine lv_icmp_ge (tgt := 191) hx hb dX9_stuck_84 (by decide) (fun c84 => ?_) (fun c84 => ?_)
              · have hf := if_t hf c84
                have hf := sm_e hf
                subst hf
                have hz := hout79 _ rfl
                subst hz
                exact hK79 _ _ _ hw (lv_sub hl [4, 5, 6] rfl)
              · have hf := if_f hf c84
                refine lv_lconst (v := 1) hx hb dX9_stuck_87 (by decide) ?_
                refine lv_lstore (lv' := [(10, .long 1), (0, .ref (ad 0)), (1, .int p1), (2, .int p2), (3, .int p3), (4, .int p4), (5, .long x79.1), (7, .long r5), (9, .int x79.2.1)]) hx hb dX9_stuck_88 hl (by decide) rfl (fun ls hl => ?_)
                refine lv_aload_n hx hb dX9_stuck_90 rfl (lv_at hl 1 rfl) ?_
                obtain ⟨q11, hcq11, hf⟩ := op_e hf
                refine x_VV (wr := []) (rest := []) [] hX cx hw hl.1 (mX9_tries l X hX D d ad fu ft ff fs fa fb fn fr x79.2.2 q11 hcq11) (lw_V q1499 q1501 qs60 q94 q1502) hd_X9_tries ⟨Nat.le_of_ble_eq_true rfl, Nat.le_of_ble_eq_true rfl⟩ (va_recv hK hw.1 (ci := 0) (q0 := 0) rfl rfl) rfl rfl (Nat.le_of_ble_eq_true rfl) dX9_stuck_91 [0, 1] [] rfl rfl rfl rfl (by decide) ⟨(Nat.le_of_ble_eq_true rfl), (Nat.le_of_ble_eq_true rfl)⟩ (fun u H locs hp hw => ?_)
                have hw : Wd D A s [oM ad fu ft ff fs fa fb fn fr, ((ad 1), .inl (d 0, 1247, .inl q11))] H locs := hw
                refine lv_iconst (v := 0) hx hb dX9_stuck_94 (by decide) ?_
                refine lv_istore (lv' := [(12, .int 0), (10, .long 1), (0, .ref (ad 0)), (1, .int p1), (2, .int p2), (3, .int p3), (4, .int p4), (5, .long x79.1), (7, .long r5), (9, .int x79.2.1)]) hx hb dX9_stuck_95 hl (by decide) rfl (fun ls hl => ?_)
                obtain ⟨r12, hlp97, hf⟩ := op_e hf
                refine x_join (A := A) (D := D) (J := 160) (nL := 15) (cells' := 0) (slots' := 0) (st := []) [oM ad fu ft ff fs fa fb fn fr, ((ad 1), .inl (d 0, 1247, .inl r12.2))] [(0, .ref (ad 0)), (1, .int p1), (2, .int p2), (3, .int p3), (4, .int p4), (5, .long x79.1), (7, .long r5), (9, .int x79.2.1), (10, .long r12.1)] (fun H locs ls hw hl => ?_) (fun hK97 => ?_)
                · refine lv_lload hx hb dX9_stuck_160 (lv_at hl 5 rfl) ?_
                  refine lv_aload_n hx hb dX9_stuck_162 rfl (lv_at hl 0 rfl) ?_
                  refine va_get (ci := 0) (C := RX9) (T := TX9) (N := 19) hx hb hts in_X9 hown hK hw.1 0 rfl rfl 0 (by decide) (hts _ q1248) (fun _ h9 => h9) rfl dX9_stuck_163 ?_
                  refine lv_bipush (v := 56) hx hb dX9_stuck_166 (by decide) ?_
                  refine lv_iload_n hx hb dX9_stuck_168 rfl (lv_at hl 1 rfl) ?_
                  refine lv_iadd hx hb dX9_stuck_169 ?_
                  obtain ⟨v13, hv, hf⟩ := op_e hf
                  refine x_iald (q0 := 1) cx hw rfl hv dX9_stuck_170 ?_
                  refine lv_bipush (v := 11) hx hb dX9_stuck_171 (by decide) ?_
                  refine lv_icmp_ne (tgt := 181) hx hb dX9_stuck_173 (by decide) (fun c173 => ?_) (fun c173 => ?_)
                  · have hf := if_f hf c173
                    refine lv_lconst (v := 0) hx hb dX9_stuck_181 (by decide) ?_
                    refine lv_ladd hx hb dX9_stuck_182 ?_
                    refine lv_lstore (lv' := [(5, .long (x79.1 + 0)), (0, .ref (ad 0)), (1, .int p1), (2, .int p2), (3, .int p3), (4, .int p4), (7, .long r5), (9, .int x79.2.1), (10, .long r12.1)]) hx hb dX9_stuck_183 hl (by decide) rfl (fun ls hl => ?_)
                    refine lv_iinc (v := (x79.2.1 + 1)) (lv' := [(9, .int (x79.2.1 + 1)), (5, .long (x79.1 + 0)), (0, .ref (ad 0)), (1, .int p1), (2, .int p2), (3, .int p3), (4, .int p4), (7, .long r5), (10, .long r12.1)]) hx hb dX9_stuck_185 hl (k := 7) rfl (by first | rfl | decide) (by decide) rfl (fun ls hl => ?_)
                    refine lv_goto (tgt := 79) hx hb dX9_stuck_188 (by decide) ?_
                    have hf := sm_e hf
                    subst hf
                    exact hin79 _ rfl _ _ _ hw (lv_sub hl [2, 3, 4, 5, 6, 1, 7, 0] rfl)
                  · have hf := if_t hf c173
                    refine lv_lload hx hb dX9_stuck_176 (lv_at hl 8 rfl) ?_
                    refine lv_goto (tgt := 182) hx hb dX9_stuck_178 (by decide) ?_
                    refine lv_ladd hx hb dX9_stuck_182 ?_
                    refine lv_lstore (lv' := [(5, .long (x79.1 + r12.1)), (0, .ref (ad 0)), (1, .int p1), (2, .int p2), (3, .int p3), (4, .int p4), (7, .long r5), (9, .int x79.2.1), (10, .long r12.1)]) hx hb dX9_stuck_183 hl (by decide) rfl (fun ls hl => ?_)
                    refine lv_iinc (v := (x79.2.1 + 1)) (lv' := [(9, .int (x79.2.1 + 1)), (5, .long (x79.1 + r12.1)), (0, .ref (ad 0)), (1, .int p1), (2, .int p2), (3, .int p3), (4, .int p4), (7, .long r5), (10, .long r12.1)]) hx hb dX9_stuck_185 hl (k := 7) rfl (by first | rfl | decide) (by decide) rfl (fun ls hl => ?_)
                    refine lv_goto (tgt := 79) hx hb dX9_stuck_188 (by decide) ?_
                    have hf := sm_e hf
                    subst hf
                    exact hin79 _ rfl _ _ _ hw (lv_sub hl [2, 3, 4, 5, 6, 1, 7, 0] rfl)
                · refine x_lp hlp97 (fun x97 => [oM ad fu ft ff fs fa fb fn fr, ((ad 1), .inl (d 0, 1247, .inl x97.2.2))]) (fun x97 => [(0, .ref (ad 0)), (1, .int p1), (2, .int p2), (3, .int p3), (4, .int p4), (5, .long x79.1), (7, .long r5), (9, .int x79.2.1), (10, .long x97.1), (12, .int x97.2.1)]) hw (lv_sub hl [2, 3, 4, 5, 6, 7, 8, 9, 1, 0] rfl) (fun x97 y97 hf hin97 hout97 H locs ls hw hl => ?_)
                  have hw : Wd D A s [oM ad fu ft ff fs fa fb fn fr, ((ad 1), .inl (d 0, 1247, .inl x97.2.2))] H locs := hw
                  have hl : lv_has ls 15 [(0, .ref (ad 0)), (1, .int p1), (2, .int p2), (3, .int p3), (4, .int p4), (5, .long x79.1), (7, .long r5), (9, .int x79.2.1), (10, .long x97.1), (12, .int x97.2.1)] := hl
                  refine lv_iload hx hb dX9_stuck_97 (lv_at hl 9 rfl) ?_
                  refine lv_iload_n hx hb dX9_stuck_99 rfl (lv_at hl 2 rfl) ?_
                  refine lv_icmp_ge (tgt := 160) hx hb dX9_stuck_100 (by decide) (fun c100 => ?_) (fun c100 => ?_)
                  · have hf := if_t hf c100
                    have hf := sm_e hf
                    subst hf
                    have hz := hout97 _ rfl
                    subst hz
                    exact hK97 _ _ _ hw (lv_sub hl [0, 1, 2, 3, 4, 5, 6, 7, 8] rfl)
                  · have hf := if_f hf c100
                    refine lv_lload hx hb dX9_stuck_103 (lv_at hl 8 rfl) ?_
                    refine lv_iload hx hb dX9_stuck_105 (lv_at hl 7 rfl) ?_
                    refine lv_iload hx hb dX9_stuck_107 (lv_at hl 9 rfl) ?_
                    obtain ⟨q14, hcq14, hf⟩ := op_e hf
                    refine x_SI (wr := [oM ad fu ft ff fs fa fb fn fr, ((ad 1), .inl (d 0, 1247, .inl x97.2.2))]) (rest := [.long x97.1]) [.int x79.2.1, .int x97.2.1] hX cx hw hl.1 (mX9_has l X hX D d x79.2.1 x97.2.1 q14 hcq14) (lw_S q1430 q1431 q94 q1432) hd_X9_has ⟨Nat.le_of_ble_eq_true rfl, Nat.le_of_ble_eq_true rfl⟩ rfl rfl (Nat.le_of_ble_eq_true rfl) dX9_stuck_109 [] [0, 1] rfl rfl rfl rfl (by decide) ⟨(Nat.le_of_ble_eq_true rfl), (Nat.le_of_ble_eq_true rfl)⟩ (fun r u H locs hp hw => ?_)
                    have hw : Wd D A s [oM ad fu ft ff fs fa fb fn fr, ((ad 1), .inl (d 0, 1247, .inl x97.2.2))] H locs := hw
                    subst r
                    obtain ⟨j15, ha, hr⟩ := op_e hf
                    refine x_join (A := A) (D := D) (J := 125) (nL := 15) (cells' := 0) (slots' := 0) (st := [.long j15, .long x97.1]) [oM ad fu ft ff fs fa fb fn fr, ((ad 1), .inl (d 0, 1247, .inl x97.2.2))] [(0, .ref (ad 0)), (1, .int p1), (2, .int p2), (3, .int p3), (4, .int p4), (5, .long x79.1), (7, .long r5), (9, .int x79.2.1), (12, .int x97.2.1)] (fun H locs ls hw hl => ?_) (fun hKj125_j15 => ?_)
                    · have hf := hr
                      refine lv_lmul hx hb dX9_stuck_125 ?_
                      refine lv_lstore (lv' := [(10, .long (x97.1 * j15)), (0, .ref (ad 0)), (1, .int p1), (2, .int p2), (3, .int p3), (4, .int p4), (5, .long x79.1), (7, .long r5), (9, .int x79.2.1), (12, .int x97.2.1)]) hx hb dX9_stuck_126 hl (by decide) rfl (fun ls hl => ?_)
                      refine lv_iload hx hb dX9_stuck_128 (lv_at hl 8 rfl) ?_
                      refine lv_iload hx hb dX9_stuck_130 (lv_at hl 9 rfl) ?_
                      obtain ⟨q16, hcq16, hf⟩ := op_e hf
                      refine x_SI (wr := [oM ad fu ft ff fs fa fb fn fr, ((ad 1), .inl (d 0, 1247, .inl x97.2.2))]) (rest := []) [.int x79.2.1, .int x97.2.1] hX cx hw hl.1 (mX9_has l X hX D d x79.2.1 x97.2.1 q16 hcq16) (lw_S q1430 q1431 q94 q1432) hd_X9_has ⟨Nat.le_of_ble_eq_true rfl, Nat.le_of_ble_eq_true rfl⟩ rfl rfl (Nat.le_of_ble_eq_true rfl) dX9_stuck_132 [] [0, 1] rfl rfl rfl rfl (by decide) ⟨(Nat.le_of_ble_eq_true rfl), (Nat.le_of_ble_eq_true rfl)⟩ (fun r u H locs hp hw => ?_)
                      have hw : Wd D A s [oM ad fu ft ff fs fa fb fn fr, ((ad 1), .inl (d 0, 1247, .inl x97.2.2))] H locs := hw
                      subst r
                      refine lv_if_eq (tgt := 148) hx hb dX9_stuck_135 (by decide) (fun c135 => ?_) (fun c135 => ?_)
                      · have hf := if_t hf c135
                        refine lv_aload_n hx hb dX9_stuck_148 rfl (lv_at hl 1 rfl) ?_
                        refine lv_bipush (v := 43) hx hb dX9_stuck_149 (by decide) ?_
                        obtain ⟨q17, hcq17, hf⟩ := op_e hf
                        refine x_VV (wr := []) (rest := []) [.int 43] hX cx hw hl.1 (mX9_passes l X hX D d ad fu ft ff fs fa fb fn fr x97.2.2 43 q17 hcq17) (lw_V q1411 q1413 qs48 q94 q1414) hd_X9_passes ⟨Nat.le_of_ble_eq_true rfl, Nat.le_of_ble_eq_true rfl⟩ (va_recv hK hw.1 (ci := 0) (q0 := 0) rfl rfl) rfl rfl (Nat.le_of_ble_eq_true rfl) dX9_stuck_151 [0, 1] [] rfl rfl rfl rfl (by decide) ⟨(Nat.le_of_ble_eq_true rfl), (Nat.le_of_ble_eq_true rfl)⟩ (fun u H locs hp hw => ?_)
                        have hw : Wd D A s [oM ad fu ft ff fs fa fb fn fr, ((ad 1), .inl (d 0, 1247, .inl q17))] H locs := hw
                        refine lv_iinc (v := (x97.2.1 + 1)) (lv' := [(12, .int (x97.2.1 + 1)), (10, .long (x97.1 * j15)), (0, .ref (ad 0)), (1, .int p1), (2, .int p2), (3, .int p3), (4, .int p4), (5, .long x79.1), (7, .long r5), (9, .int x79.2.1)]) hx hb dX9_stuck_154 hl (k := 9) rfl (by first | rfl | decide) (by decide) rfl (fun ls hl => ?_)
                        refine lv_goto (tgt := 97) hx hb dX9_stuck_157 (by decide) ?_
                        have hf := sm_e hf
                        subst hf
                        exact hin97 _ rfl _ _ _ hw (lv_sub hl [2, 3, 4, 5, 6, 7, 8, 9, 1, 0] rfl)
                      · have hf := if_f hf c135
                        refine lv_aload_n hx hb dX9_stuck_138 rfl (lv_at hl 1 rfl) ?_
                        refine lv_bipush (v := 43) hx hb dX9_stuck_139 (by decide) ?_
                        refine lv_iconst (v := 0) hx hb dX9_stuck_141 (by decide) ?_
                        obtain ⟨q18, hcq18, hf⟩ := op_e hf
                        refine x_VV (wr := []) (rest := []) [.int 43, .int 0] hX cx hw hl.1 (mX9_cools l X hX D d ad fu ft ff fs fa fb fn fr x97.2.2 43 0 q18 hcq18) (lw_V q1441 q1443 qs54 q94 q1444) hd_X9_cools ⟨Nat.le_of_ble_eq_true rfl, Nat.le_of_ble_eq_true rfl⟩ (va_recv hK hw.1 (ci := 0) (q0 := 0) rfl rfl) rfl rfl (Nat.le_of_ble_eq_true rfl) dX9_stuck_142 [0, 1] [] rfl rfl rfl rfl (by decide) ⟨(Nat.le_of_ble_eq_true rfl), (Nat.le_of_ble_eq_true rfl)⟩ (fun u H locs hp hw => ?_)
                        have hw : Wd D A s [oM ad fu ft ff fs fa fb fn fr, ((ad 1), .inl (d 0, 1247, .inl q18))] H locs := hw
                        refine lv_goto (tgt := 154) hx hb dX9_stuck_145 (by decide) ?_
                        refine lv_iinc (v := (x97.2.1 + 1)) (lv' := [(12, .int (x97.2.1 + 1)), (10, .long (x97.1 * j15)), (0, .ref (ad 0)), (1, .int p1), (2, .int p2), (3, .int p3), (4, .int p4), (5, .long x79.1), (7, .long r5), (9, .int x79.2.1)]) hx hb dX9_stuck_154 hl (k := 9) rfl (by first | rfl | decide) (by decide) rfl (fun ls hl => ?_)
                        refine lv_goto (tgt := 97) hx hb dX9_stuck_157 (by decide) ?_
                        have hf := sm_e hf
                        subst hf
                        exact hin97 _ rfl _ _ _ hw (lv_sub hl [2, 3, 4, 5, 6, 7, 8, 9, 1, 0] rfl)
                    · have hf := ha
                      refine lv_if_eq (tgt := 120) hx hb dX9_stuck_112 (by decide) (fun c112 => ?_) (fun c112 => ?_)
                      · have hf := if_t hf c112
                        refine lv_bipush (v := 10) hx hb dX9_stuck_120 (by decide) ?_
                        refine lv_iload_n hx hb dX9_stuck_122 rfl (lv_at hl 3 rfl) ?_
                        refine lv_isub hx hb dX9_stuck_123 ?_
                        refine lv_i2l (v := (10 - p3).toInt64) hx hb dX9_stuck_124 rfl ?_
                        have hf := sm_e hf
                        subst hf
                        exact hKj125_j15 _ _ _ hw (lv_sub hl [0, 1, 2, 3, 4, 5, 6, 7, 9] rfl)
                      · have hf := if_f hf c112
                        refine lv_iload_n hx hb dX9_stuck_115 rfl (lv_at hl 3 rfl) ?_
                        refine lv_i2l (v := p3.toInt64) hx hb dX9_stuck_116 rfl ?_
                        refine lv_goto (tgt := 125) hx hb dX9_stuck_117 (by decide) ?_
                        have hf := sm_e hf
                        subst hf
                        exact hKj125_j15 _ _ _ hw (lv_sub hl [0, 1, 2, 3, 4, 5, 6, 7, 9] rfl)
          · refine x_lp hlp56 (fun x56 => [oM ad fu ft ff fs fa fb fn fr, ((ad 1), .inl (d 0, 1247, .inl Ww))]) (fun x56 => [(0, .ref (ad 0)), (1, .int p1), (2, .int p2), (3, .int p3), (4, .int p4), (5, .long 0), (7, .long x56.1), (9, .int x56.2)]) hw (lv_sub hl [3, 4, 5, 6, 7, 2, 1, 0] rfl) (fun x56 y56 hf hin56 hout56 H locs ls hw hl => ?_)
            have hw : Wd D A s [oM ad fu ft ff fs fa fb fn fr, ((ad 1), .inl (d 0, 1247, .inl Ww))] H locs := hw
            have hl : lv_has ls 15 [(0, .ref (ad 0)), (1, .int p1), (2, .int p2), (3, .int p3), (4, .int p4), (5, .long 0), (7, .long x56.1), (9, .int x56.2)] := hl
            refine lv_iload hx hb dX9_stuck_56 (lv_at hl 7 rfl) ?_
            refine lv_iload_n hx hb dX9_stuck_58 rfl (lv_at hl 2 rfl) ?_
            refine lv_icmp_ge (tgt := 76) hx hb dX9_stuck_59 (by decide) (fun c59 => ?_) (fun c59 => ?_)
            · have hf := if_t hf c59
              have hf := sm_e hf
              subst hf
              have hz := hout56 _ rfl
              subst hz
              exact hK56 _ _ _ hw (lv_sub hl [0, 1, 2, 3, 4, 5, 6] rfl)
            · have hf := if_f hf c59
              refine lv_lload hx hb dX9_stuck_62 (lv_at hl 6 rfl) ?_
              refine lv_ldc2 (v := 10) hx hb hown (hts _ q1594) dX9_stuck_64 ?_
              refine lv_lmul hx hb dX9_stuck_67 ?_
              refine lv_lstore (lv' := [(7, .long (x56.1 * 10)), (0, .ref (ad 0)), (1, .int p1), (2, .int p2), (3, .int p3), (4, .int p4), (5, .long 0), (9, .int x56.2)]) hx hb dX9_stuck_68 hl (by decide) rfl (fun ls hl => ?_)
              refine lv_iinc (v := (x56.2 + 1)) (lv' := [(9, .int (x56.2 + 1)), (7, .long (x56.1 * 10)), (0, .ref (ad 0)), (1, .int p1), (2, .int p2), (3, .int p3), (4, .int p4), (5, .long 0)]) hx hb dX9_stuck_70 hl (k := 7) rfl (by first | rfl | decide) (by decide) rfl (fun ls hl => ?_)
              refine lv_goto (tgt := 56) hx hb dX9_stuck_73 (by decide) ?_
              have hf := sm_e hf
              subst hf
              exact hin56 _ rfl _ _ _ hw (lv_sub hl [2, 3, 4, 5, 6, 7, 1, 0] rfl)
        · have hf := if_t hf c40
          refine lv_ldc2 (v := (-1000001)) hx hb hown (hts _ q1595) dX9_stuck_43 ?_
          have hf := sm_e hf
          subst hf
          exact x_retL cx hw () rfl [0, 1] rfl rfl (Nat.le_of_ble_eq_true rfl) (Nat.le_of_ble_eq_true rfl) dX9_stuck_46
theorem hd_X9_drawn : yX9_drawn.cls = "DishLiftModel" ∧ yX9_drawn.cls ≠ "java/lang/invoke/MethodHandle" ∧ yX9_drawn.cls ≠ "java/lang/invoke/VarHandle" ∧ (parseMethodDescriptor yX9_drawn.desc).map (fun d => d.parameters.length) = some 3 := by decide +kernel
set_option maxHeartbeats 4000000 in
theorem mX9_drawn (l : Launch) (X : XT) (hX : XOK X) (D : va_G) (d : Nat → ClassId) (ad : Nat → Nat) (fu : Int32) (ft : Int32) (ff : Int32) (fs : Int32) (fa : Int32) (fb : Int32) (fn : Int32) (fr : Int32) (Ww : Nat → Int32) (p1 : Int32) (p2 : Int32) (p3 : Int32) (res : Int32 × (Nat → Int32)) (hf : fX9_drawn Ww p1 p2 p3 = some res) : MetI l yX9_drawn (ws_ yX9_drawn cX9_drawn 11 (some .int)) { frames := 4, cells := 0, slots := 0, locals := 91 } [.ref (ad 0), .int p1, .int p2, .int p3] X D d [oM ad fu ft ff fs fa fb fn fr, ((ad 1), .inl (d 0, 1247, .inl Ww))] (fun r (_ : Unit) => r = res.1) (fun _ => [oM ad fu ft ff fs fa fb fn fr, ((ad 1), .inl (d 0, 1247, .inl res.2))]) := by
  refine MetI.of (by decide +kernel) (Nat.le_of_ble_eq_true rfl) ?_
  intro p e s m below meth c A cx hw ls hl
  have cx : Cx p s m _ meth c X D d A "DishLiftModel" cX9_drawn 11 (some .int) "drawn" := cx
  have cx' := cx
  obtain ⟨hx, hb, hr, hlk, hml, hown, hts, hK, hA, hXs, hnm⟩ := cx'
  have hl : lv_has ls 11 [(0, .ref (ad 0)), (1, .int p1), (2, .int p2), (3, .int p3)] := hl
  unfold fX9_drawn at hf
  refine lv_aload_n hx hb dX9_drawn_0 rfl (lv_at hl 0 rfl) ?_
  obtain ⟨q1, hcq1, hf⟩ := op_e hf
  refine x_VI (wr := []) (rest := []) [] hX cx hw hl.1 (mX9_isHouse l X hX D d ad fu ft ff fs fa fb fn fr Ww q1 hcq1) (lw_V q1402 q1404 qs46 q94 q1405) hd_X9_isHouse ⟨Nat.le_of_ble_eq_true rfl, Nat.le_of_ble_eq_true rfl⟩ (va_recv hK hw.1 (ci := 0) (q0 := 0) rfl rfl) rfl rfl (Nat.le_of_ble_eq_true rfl) dX9_drawn_1 [0, 1] [] rfl rfl rfl rfl (by decide) ⟨(Nat.le_of_ble_eq_true rfl), (Nat.le_of_ble_eq_true rfl)⟩ (fun r u H locs hp hw => ?_)
  have hw : Wd D A s [oM ad fu ft ff fs fa fb fn fr, ((ad 1), .inl (d 0, 1247, .inl Ww))] H locs := hw
  subst r
  refine lv_if_ne (tgt := 10) hx hb dX9_drawn_4 (by decide) (fun c4 => ?_) (fun c4 => ?_)
  · have hf := if_f hf c4
    refine lv_iload_n hx hb dX9_drawn_10 rfl (lv_at hl 1 rfl) ?_
    refine lv_i2l (v := p1.toInt64) hx hb dX9_drawn_11 rfl ?_
    refine lv_lconst (v := 0) hx hb dX9_drawn_12 (by decide) ?_
    refine lv_ldc2 (v := 60) hx hb hown (hts _ q1479) dX9_drawn_13 ?_
    obtain ⟨q2, hcq2, hf⟩ := op_e hf
    refine x_SI (wr := [oM ad fu ft ff fs fa fb fn fr, ((ad 1), .inl (d 0, 1247, .inl Ww))]) (rest := []) [.long p1.toInt64, .long 0, .long 60] hX cx hw hl.1 (mX9_in l X hX D d p1.toInt64 0 60 q2 hcq2) (lw_S q1315 q1316 q94 q1317) hd_X9_in ⟨Nat.le_of_ble_eq_true rfl, Nat.le_of_ble_eq_true rfl⟩ rfl rfl (Nat.le_of_ble_eq_true rfl) dX9_drawn_16 [] [0, 1] rfl rfl rfl rfl (by decide) ⟨(Nat.le_of_ble_eq_true rfl), (Nat.le_of_ble_eq_true rfl)⟩ (fun r u H locs hp hw => ?_)
    have hw : Wd D A s [oM ad fu ft ff fs fa fb fn fr, ((ad 1), .inl (d 0, 1247, .inl Ww))] H locs := hw
    subst r
    refine lv_if_eq (tgt := 44) hx hb dX9_drawn_19 (by decide) (fun c19 => ?_) (fun c19 => ?_)
    · have hf := if_t hf c19
      refine lv_ldc (v := (-1000001)) hx hb hown (hts _ q1319) dX9_drawn_44 ?_
      have hf := sm_e hf
      subst hf
      exact x_retI cx hw rfl () rfl [0, 1] rfl rfl (Nat.le_of_ble_eq_true rfl) (Nat.le_of_ble_eq_true rfl) dX9_drawn_46
    · have hf := if_f hf c19
      refine lv_iload_n hx hb dX9_drawn_22 rfl (lv_at hl 2 rfl) ?_
      refine lv_i2l (v := p2.toInt64) hx hb dX9_drawn_23 rfl ?_
      refine lv_lconst (v := 1) hx hb dX9_drawn_24 (by decide) ?_
      refine lv_ldc2 (v := 999999) hx hb hown (hts _ q1600) dX9_drawn_25 ?_
      obtain ⟨q3, hcq3, hf⟩ := op_e hf
      refine x_SI (wr := [oM ad fu ft ff fs fa fb fn fr, ((ad 1), .inl (d 0, 1247, .inl Ww))]) (rest := []) [.long p2.toInt64, .long 1, .long 999999] hX cx hw hl.1 (mX9_in l X hX D d p2.toInt64 1 999999 q3 hcq3) (lw_S q1315 q1316 q94 q1317) hd_X9_in ⟨Nat.le_of_ble_eq_true rfl, Nat.le_of_ble_eq_true rfl⟩ rfl rfl (Nat.le_of_ble_eq_true rfl) dX9_drawn_28 [] [0, 1] rfl rfl rfl rfl (by decide) ⟨(Nat.le_of_ble_eq_true rfl), (Nat.le_of_ble_eq_true rfl)⟩ (fun r u H locs hp hw => ?_)
      have hw : Wd D A s [oM ad fu ft ff fs fa fb fn fr, ((ad 1), .inl (d 0, 1247, .inl Ww))] H locs := hw
      subst r
      refine lv_if_eq (tgt := 44) hx hb dX9_drawn_31 (by decide) (fun c31 => ?_) (fun c31 => ?_)
      · have hf := if_t hf c31
        refine lv_ldc (v := (-1000001)) hx hb hown (hts _ q1319) dX9_drawn_44 ?_
        have hf := sm_e hf
        subst hf
        exact x_retI cx hw rfl () rfl [0, 1] rfl rfl (Nat.le_of_ble_eq_true rfl) (Nat.le_of_ble_eq_true rfl) dX9_drawn_46
      · have hf := if_f hf c31
        refine lv_iload_n hx hb dX9_drawn_34 rfl (lv_at hl 3 rfl) ?_
        refine lv_i2l (v := p3.toInt64) hx hb dX9_drawn_35 rfl ?_
        refine lv_lconst (v := 0) hx hb dX9_drawn_36 (by decide) ?_
        refine lv_lconst (v := 1) hx hb dX9_drawn_37 (by decide) ?_
        obtain ⟨q4, hcq4, hf⟩ := op_e hf
        refine x_SI (wr := [oM ad fu ft ff fs fa fb fn fr, ((ad 1), .inl (d 0, 1247, .inl Ww))]) (rest := []) [.long p3.toInt64, .long 0, .long 1] hX cx hw hl.1 (mX9_in l X hX D d p3.toInt64 0 1 q4 hcq4) (lw_S q1315 q1316 q94 q1317) hd_X9_in ⟨Nat.le_of_ble_eq_true rfl, Nat.le_of_ble_eq_true rfl⟩ rfl rfl (Nat.le_of_ble_eq_true rfl) dX9_drawn_38 [] [0, 1] rfl rfl rfl rfl (by decide) ⟨(Nat.le_of_ble_eq_true rfl), (Nat.le_of_ble_eq_true rfl)⟩ (fun r u H locs hp hw => ?_)
        have hw : Wd D A s [oM ad fu ft ff fs fa fb fn fr, ((ad 1), .inl (d 0, 1247, .inl Ww))] H locs := hw
        subst r
        refine lv_if_ne (tgt := 47) hx hb dX9_drawn_41 (by decide) (fun c41 => ?_) (fun c41 => ?_)
        · have hf := if_f hf c41
          refine lv_aload_n hx hb dX9_drawn_47 rfl (lv_at hl 0 rfl) ?_
          obtain ⟨q5, hcq5, hf⟩ := op_e hf
          refine x_VV (wr := []) (rest := []) [] hX cx hw hl.1 (mX9_tries l X hX D d ad fu ft ff fs fa fb fn fr Ww q5 hcq5) (lw_V q1499 q1501 qs60 q94 q1502) hd_X9_tries ⟨Nat.le_of_ble_eq_true rfl, Nat.le_of_ble_eq_true rfl⟩ (va_recv hK hw.1 (ci := 0) (q0 := 0) rfl rfl) rfl rfl (Nat.le_of_ble_eq_true rfl) dX9_drawn_48 [0, 1] [] rfl rfl rfl rfl (by decide) ⟨(Nat.le_of_ble_eq_true rfl), (Nat.le_of_ble_eq_true rfl)⟩ (fun u H locs hp hw => ?_)
          have hw : Wd D A s [oM ad fu ft ff fs fa fb fn fr, ((ad 1), .inl (d 0, 1247, .inl q5))] H locs := hw
          refine lv_iload_n hx hb dX9_drawn_51 rfl (lv_at hl 2 rfl) ?_
          refine lv_i2l (v := p2.toInt64) hx hb dX9_drawn_52 rfl ?_
          refine lv_lstore (lv' := [(4, .long p2.toInt64), (0, .ref (ad 0)), (1, .int p1), (2, .int p2), (3, .int p3)]) hx hb dX9_drawn_53 hl (by decide) rfl (fun ls hl => ?_)
          refine lv_iconst (v := 0) hx hb dX9_drawn_55 (by decide) ?_
          refine lv_istore (lv' := [(6, .int 0), (4, .long p2.toInt64), (0, .ref (ad 0)), (1, .int p1), (2, .int p2), (3, .int p3)]) hx hb dX9_drawn_56 hl (by decide) rfl (fun ls hl => ?_)
          refine lv_iconst (v := 0) hx hb dX9_drawn_58 (by decide) ?_
          refine lv_istore (lv' := [(7, .int 0), (6, .int 0), (4, .long p2.toInt64), (0, .ref (ad 0)), (1, .int p1), (2, .int p2), (3, .int p3)]) hx hb dX9_drawn_59 hl (by decide) rfl (fun ls hl => ?_)
          obtain ⟨r6, hlp61, hf⟩ := op_e hf
          refine x_join (A := A) (D := D) (J := 199) (nL := 11) (cells' := 0) (slots' := 0) (st := []) [oM ad fu ft ff fs fa fb fn fr, ((ad 1), .inl (d 0, 1247, .inl r6.2))] [(0, .ref (ad 0)), (3, .int p3), (6, .int r6.1)] (fun H locs ls hw hl => ?_) (fun hK61 => ?_)
          · refine lv_iload_n hx hb dX9_drawn_199 rfl (lv_at hl 1 rfl) ?_
            refine lv_if_ne (tgt := 208) hx hb dX9_drawn_200 (by decide) (fun c200 => ?_) (fun c200 => ?_)
            · have hf := if_f hf c200
              refine lv_aload_n hx hb dX9_drawn_208 rfl (lv_at hl 0 rfl) ?_
              refine lv_bipush (v := 43) hx hb dX9_drawn_209 (by decide) ?_
              obtain ⟨q7, hcq7, hf⟩ := op_e hf
              refine x_VI (wr := []) (rest := []) [.int 43] hX cx hw hl.1 (mX9_heatOf l X hX D d ad fu ft ff fs fa fb fn fr r6.2 43 q7 hcq7) (lw_V q1562 q1564 qs66 q94 q1565) hd_X9_heatOf ⟨Nat.le_of_ble_eq_true rfl, Nat.le_of_ble_eq_true rfl⟩ (va_recv hK hw.1 (ci := 0) (q0 := 0) rfl rfl) rfl rfl (Nat.le_of_ble_eq_true rfl) dX9_drawn_211 [0, 1] [] rfl rfl rfl rfl (by decide) ⟨(Nat.le_of_ble_eq_true rfl), (Nat.le_of_ble_eq_true rfl)⟩ (fun r u H locs hp hw => ?_)
              have hw : Wd D A s [oM ad fu ft ff fs fa fb fn fr, ((ad 1), .inl (d 0, 1247, .inl r6.2))] H locs := hw
              subst r
              have hf := sm_e hf
              subst hf
              exact x_retI cx hw rfl () rfl [0, 1] rfl rfl (Nat.le_of_ble_eq_true rfl) (Nat.le_of_ble_eq_true rfl) dX9_drawn_214
            · have hf := if_t hf c200
              refine lv_iload hx hb dX9_drawn_203 (lv_at hl 2 rfl) ?_
              refine lv_goto (tgt := 214) hx hb dX9_drawn_205 (by decide) ?_
              have hf := sm_e hf
              subst hf
              exact x_retI cx hw rfl () rfl [0, 1] rfl rfl (Nat.le_of_ble_eq_true rfl) (Nat.le_of_ble_eq_true rfl) dX9_drawn_214
          · refine x_lp hlp61 (fun x61 => [oM ad fu ft ff fs fa fb fn fr, ((ad 1), .inl (d 0, 1247, .inl x61.2.2.2))]) (fun x61 => [(0, .ref (ad 0)), (1, .int p1), (3, .int p3), (4, .long x61.1), (6, .int x61.2.1), (7, .int x61.2.2.1)]) hw (lv_sub hl [3, 4, 6, 2, 1, 0] rfl) (fun x61 y61 hf hin61 hout61 H locs ls hw hl => ?_)
            have hw : Wd D A s [oM ad fu ft ff fs fa fb fn fr, ((ad 1), .inl (d 0, 1247, .inl x61.2.2.2))] H locs := hw
            have hl : lv_has ls 11 [(0, .ref (ad 0)), (1, .int p1), (3, .int p3), (4, .long x61.1), (6, .int x61.2.1), (7, .int x61.2.2.1)] := hl
            refine lv_iload hx hb dX9_drawn_61 (lv_at hl 5 rfl) ?_
            refine lv_iload_n hx hb dX9_drawn_63 rfl (lv_at hl 1 rfl) ?_
            refine lv_icmp_ge (tgt := 199) hx hb dX9_drawn_64 (by decide) (fun c64 => ?_) (fun c64 => ?_)
            · have hf := if_t hf c64
              have hf := sm_e hf
              subst hf
              have hz := hout61 _ rfl
              subst hz
              exact hK61 _ _ _ hw (lv_sub hl [0, 2, 4] rfl)
            · have hf := if_f hf c64
              refine lv_lload hx hb dX9_drawn_67 (lv_at hl 3 rfl) ?_
              refine lv_ldc2 (v := 16807) hx hb hown (hts _ q1601) dX9_drawn_69 ?_
              refine lv_lmul hx hb dX9_drawn_72 ?_
              refine lv_ldc2 (v := 2147483647) hx hb hown (hts _ q1602) dX9_drawn_73 ?_
              refine lv_lrem hx hb dX9_drawn_76 (by decide) ?_
              refine lv_lstore (lv' := [(4, .long ((x61.1 * 16807) - (x61.1 * 16807) / 2147483647 * 2147483647)), (0, .ref (ad 0)), (1, .int p1), (3, .int p3), (6, .int x61.2.1), (7, .int x61.2.2.1)]) hx hb dX9_drawn_77 hl (by decide) rfl (fun ls hl => ?_)
              refine lv_lload hx hb dX9_drawn_79 (lv_at hl 0 rfl) ?_
              refine lv_aload_n hx hb dX9_drawn_81 rfl (lv_at hl 1 rfl) ?_
              refine va_get (ci := 0) (C := RX9) (T := TX9) (N := 19) hx hb hts in_X9 hown hK hw.1 0 rfl rfl 0 (by decide) (hts _ q1248) (fun _ h9 => h9) rfl dX9_drawn_82 ?_
              refine lv_iconst (v := 0) hx hb dX9_drawn_85 (by decide) ?_
              obtain ⟨v8, hv, hf⟩ := op_e hf
              refine x_iald (q0 := 1) cx hw rfl hv dX9_drawn_86 ?_
              refine lv_i2l (v := v8.toInt64) hx hb dX9_drawn_87 rfl ?_
              obtain ⟨g9, hv, hf⟩ := op_e hf
              refine x_lrem cx hv dX9_drawn_88 ?_
              refine lv_l2i (v := (((x61.1 * 16807) - (x61.1 * 16807) / 2147483647 * 2147483647) - ((x61.1 * 16807) - (x61.1 * 16807) / 2147483647 * 2147483647) / v8.toInt64 * v8.toInt64).toInt32) hx hb dX9_drawn_89 rfl ?_
              refine lv_istore (lv' := [(8, .int (((x61.1 * 16807) - (x61.1 * 16807) / 2147483647 * 2147483647) - ((x61.1 * 16807) - (x61.1 * 16807) / 2147483647 * 2147483647) / v8.toInt64 * v8.toInt64).toInt32), (4, .long ((x61.1 * 16807) - (x61.1 * 16807) / 2147483647 * 2147483647)), (0, .ref (ad 0)), (1, .int p1), (3, .int p3), (6, .int x61.2.1), (7, .int x61.2.2.1)]) hx hb dX9_drawn_90 hl (by decide) rfl (fun ls hl => ?_)
              refine lv_lload hx hb dX9_drawn_92 (lv_at hl 1 rfl) ?_
              refine lv_aload_n hx hb dX9_drawn_94 rfl (lv_at hl 2 rfl) ?_
              refine va_get (ci := 0) (C := RX9) (T := TX9) (N := 19) hx hb hts in_X9 hown hK hw.1 0 rfl rfl 0 (by decide) (hts _ q1248) (fun _ h9 => h9) rfl dX9_drawn_95 ?_
              refine lv_iconst (v := 1) hx hb dX9_drawn_98 (by decide) ?_
              obtain ⟨v10, hv, hf⟩ := op_e hf
              refine x_iald (q0 := 1) cx hw rfl hv dX9_drawn_99 ?_
              refine lv_i2l (v := v10.toInt64) hx hb dX9_drawn_100 rfl ?_
              obtain ⟨g11, hv, hf⟩ := op_e hf
              refine x_lrem cx hv dX9_drawn_101 ?_
              refine lv_l2i (v := (((x61.1 * 16807) - (x61.1 * 16807) / 2147483647 * 2147483647) - ((x61.1 * 16807) - (x61.1 * 16807) / 2147483647 * 2147483647) / v10.toInt64 * v10.toInt64).toInt32) hx hb dX9_drawn_102 rfl ?_
              refine lv_istore (lv' := [(9, .int (((x61.1 * 16807) - (x61.1 * 16807) / 2147483647 * 2147483647) - ((x61.1 * 16807) - (x61.1 * 16807) / 2147483647 * 2147483647) / v10.toInt64 * v10.toInt64).toInt32), (8, .int (((x61.1 * 16807) - (x61.1 * 16807) / 2147483647 * 2147483647) - ((x61.1 * 16807) - (x61.1 * 16807) / 2147483647 * 2147483647) / v8.toInt64 * v8.toInt64).toInt32), (4, .long ((x61.1 * 16807) - (x61.1 * 16807) / 2147483647 * 2147483647)), (0, .ref (ad 0)), (1, .int p1), (3, .int p3), (6, .int x61.2.1), (7, .int x61.2.2.1)]) hx hb dX9_drawn_103 hl (by decide) rfl (fun ls hl => ?_)
              refine lv_aload_n hx hb dX9_drawn_105 rfl (lv_at hl 3 rfl) ?_
              refine va_get (ci := 0) (C := RX9) (T := TX9) (N := 19) hx hb hts in_X9 hown hK hw.1 0 rfl rfl 0 (by decide) (hts _ q1248) (fun _ h9 => h9) rfl dX9_drawn_106 ?_
              refine lv_bipush (v := 56) hx hb dX9_drawn_109 (by decide) ?_
              refine lv_iload hx hb dX9_drawn_111 (lv_at hl 1 rfl) ?_
              refine lv_iadd hx hb dX9_drawn_113 ?_
              obtain ⟨v12, hv, hf⟩ := op_e hf
              refine x_iald (q0 := 1) cx hw rfl hv dX9_drawn_114 ?_
              refine lv_bipush (v := 11) hx hb dX9_drawn_115 (by decide) ?_
              obtain ⟨j13, ha, hr⟩ := op_e hf
              refine x_join (A := A) (D := D) (J := 160) (nL := 11) (cells' := 0) (slots' := 0) (st := []) [oM ad fu ft ff fs fa fb fn fr, ((ad 1), .inl (d 0, 1247, .inl j13))] [(0, .ref (ad 0)), (1, .int p1), (3, .int p3), (4, .long ((x61.1 * 16807) - (x61.1 * 16807) / 2147483647 * 2147483647)), (6, .int x61.2.1), (7, .int x61.2.2.1)] (fun H locs ls hw hl => ?_) (fun hKj160_j13 => ?_)
              · have hf := hr
                refine lv_aload_n hx hb dX9_drawn_160 rfl (lv_at hl 0 rfl) ?_
                refine lv_bipush (v := 43) hx hb dX9_drawn_161 (by decide) ?_
                obtain ⟨q14, hcq14, hf⟩ := op_e hf
                refine x_VI (wr := []) (rest := []) [.int 43] hX cx hw hl.1 (mX9_servedOf l X hX D d ad fu ft ff fs fa fb fn fr j13 43 q14 hcq14) (lw_V q1449 q1451 qs56 q94 q1452) hd_X9_servedOf ⟨Nat.le_of_ble_eq_true rfl, Nat.le_of_ble_eq_true rfl⟩ (va_recv hK hw.1 (ci := 0) (q0 := 0) rfl rfl) rfl rfl (Nat.le_of_ble_eq_true rfl) dX9_drawn_163 [0, 1] [] rfl rfl rfl rfl (by decide) ⟨(Nat.le_of_ble_eq_true rfl), (Nat.le_of_ble_eq_true rfl)⟩ (fun r u H locs hp hw => ?_)
                have hw : Wd D A s [oM ad fu ft ff fs fa fb fn fr, ((ad 1), .inl (d 0, 1247, .inl j13))] H locs := hw
                subst r
                refine lv_istore (lv' := [(10, .int q14), (0, .ref (ad 0)), (1, .int p1), (3, .int p3), (4, .long ((x61.1 * 16807) - (x61.1 * 16807) / 2147483647 * 2147483647)), (6, .int x61.2.1), (7, .int x61.2.2.1)]) hx hb dX9_drawn_166 hl (by decide) rfl (fun ls hl => ?_)
                refine lv_aload_n hx hb dX9_drawn_168 rfl (lv_at hl 1 rfl) ?_
                refine lv_bipush (v := 43) hx hb dX9_drawn_169 (by decide) ?_
                obtain ⟨q15, hcq15, hf⟩ := op_e hf
                refine x_VV (wr := []) (rest := []) [.int 43] hX cx hw hl.1 (mX9_passes l X hX D d ad fu ft ff fs fa fb fn fr j13 43 q15 hcq15) (lw_V q1411 q1413 qs48 q94 q1414) hd_X9_passes ⟨Nat.le_of_ble_eq_true rfl, Nat.le_of_ble_eq_true rfl⟩ (va_recv hK hw.1 (ci := 0) (q0 := 0) rfl rfl) rfl rfl (Nat.le_of_ble_eq_true rfl) dX9_drawn_171 [0, 1] [] rfl rfl rfl rfl (by decide) ⟨(Nat.le_of_ble_eq_true rfl), (Nat.le_of_ble_eq_true rfl)⟩ (fun u H locs hp hw => ?_)
                have hw : Wd D A s [oM ad fu ft ff fs fa fb fn fr, ((ad 1), .inl (d 0, 1247, .inl q15))] H locs := hw
                refine lv_iload hx hb dX9_drawn_174 (lv_at hl 5 rfl) ?_
                refine lv_aload_n hx hb dX9_drawn_176 rfl (lv_at hl 1 rfl) ?_
                refine lv_bipush (v := 43) hx hb dX9_drawn_177 (by decide) ?_
                obtain ⟨q16, hcq16, hf⟩ := op_e hf
                refine x_VI (wr := []) (rest := [.int x61.2.1]) [.int 43] hX cx hw hl.1 (mX9_servedOf l X hX D d ad fu ft ff fs fa fb fn fr q15 43 q16 hcq16) (lw_V q1449 q1451 qs56 q94 q1452) hd_X9_servedOf ⟨Nat.le_of_ble_eq_true rfl, Nat.le_of_ble_eq_true rfl⟩ (va_recv hK hw.1 (ci := 0) (q0 := 0) rfl rfl) rfl rfl (Nat.le_of_ble_eq_true rfl) dX9_drawn_179 [0, 1] [] rfl rfl rfl rfl (by decide) ⟨(Nat.le_of_ble_eq_true rfl), (Nat.le_of_ble_eq_true rfl)⟩ (fun r u H locs hp hw => ?_)
                have hw : Wd D A s [oM ad fu ft ff fs fa fb fn fr, ((ad 1), .inl (d 0, 1247, .inl q15))] H locs := hw
                subst r
                refine lv_iload hx hb dX9_drawn_182 (lv_at hl 0 rfl) ?_
                refine lv_iconst (v := (-1)) hx hb dX9_drawn_184 (by decide) ?_
                refine lv_ixor hx hb dX9_drawn_185 ?_
                refine lv_iand hx hb dX9_drawn_186 ?_
                obtain ⟨q17, hcq17, hf⟩ := op_e hf
                refine x_SI (wr := [oM ad fu ft ff fs fa fb fn fr, ((ad 1), .inl (d 0, 1247, .inl q15))]) (rest := [.int x61.2.1]) [.int (q16 &&& (q14 ^^^ (-1)))] hX cx hw hl.1 (mX9_ones l X hX D d (q16 &&& (q14 ^^^ (-1))) q17 hcq17) (lw_S q1423 q1424 q94 q1425) hd_X9_ones ⟨Nat.le_of_ble_eq_true rfl, Nat.le_of_ble_eq_true rfl⟩ rfl rfl (Nat.le_of_ble_eq_true rfl) dX9_drawn_187 [] [0, 1] rfl rfl rfl rfl (by decide) ⟨(Nat.le_of_ble_eq_true rfl), (Nat.le_of_ble_eq_true rfl)⟩ (fun r u H locs hp hw => ?_)
                have hw : Wd D A s [oM ad fu ft ff fs fa fb fn fr, ((ad 1), .inl (d 0, 1247, .inl q15))] H locs := hw
                subst r
                refine lv_iadd hx hb dX9_drawn_190 ?_
                refine lv_istore (lv' := [(6, .int (x61.2.1 + q17)), (10, .int q14), (0, .ref (ad 0)), (1, .int p1), (3, .int p3), (4, .long ((x61.1 * 16807) - (x61.1 * 16807) / 2147483647 * 2147483647)), (7, .int x61.2.2.1)]) hx hb dX9_drawn_191 hl (by decide) rfl (fun ls hl => ?_)
                refine lv_iinc (v := (x61.2.2.1 + 1)) (lv' := [(7, .int (x61.2.2.1 + 1)), (6, .int (x61.2.1 + q17)), (10, .int q14), (0, .ref (ad 0)), (1, .int p1), (3, .int p3), (4, .long ((x61.1 * 16807) - (x61.1 * 16807) / 2147483647 * 2147483647))]) hx hb dX9_drawn_193 hl (k := 6) rfl (by first | rfl | decide) (by decide) rfl (fun ls hl => ?_)
                refine lv_goto (tgt := 61) hx hb dX9_drawn_196 (by decide) ?_
                have hf := sm_e hf
                subst hf
                exact hin61 _ rfl _ _ _ hw (lv_sub hl [3, 4, 5, 6, 1, 0] rfl)
              · have hf := ha
                refine lv_icmp_ne (tgt := 140) hx hb dX9_drawn_117 (by decide) (fun c117 => ?_) (fun c117 => ?_)
                · have hf := if_f hf c117
                  refine lv_lload hx hb dX9_drawn_140 (lv_at hl 2 rfl) ?_
                  refine lv_ldc2 (v := 4) hx hb hown (hts _ q1470) dX9_drawn_142 ?_
                  refine lv_lrem hx hb dX9_drawn_145 (by decide) ?_
                  refine lv_lconst (v := 0) hx hb dX9_drawn_146 (by decide) ?_
                  refine W.lcmp hx hb dX9_drawn_147 ?_
                  refine lv_if_ne (tgt := 160) hx hb dX9_drawn_148 (by decide) (fun c148 => ?_) (fun c148 => ?_)
                  · have hf := if_f hf (fun h => c148 ((lg_cmp_eq _ _).mpr h))
                    have hf := sm_e hf
                    subst hf
                    exact hKj160_j13 _ _ _ hw (lv_sub hl [3, 4, 5, 2, 6, 7] rfl)
                  · have hf := if_t hf ((lg_cmp_eq _ _).mp c148)
                    refine lv_aload_n hx hb dX9_drawn_151 rfl (lv_at hl 3 rfl) ?_
                    refine va_get (ci := 0) (C := RX9) (T := TX9) (N := 19) hx hb hts in_X9 hown hK hw.1 0 rfl rfl 0 (by decide) (hts _ q1248) (fun _ h9 => h9) rfl dX9_drawn_152 ?_
                    refine lv_bipush (v := 47) hx hb dX9_drawn_155 (by decide) ?_
                    refine lv_iload hx hb dX9_drawn_157 (lv_at hl 0 rfl) ?_
                    obtain ⟨w19, hv, hf⟩ := op_e hf
                    refine x_iast (q0 := 1) cx hw rfl hv dX9_drawn_159 (fun H locs hw => ?_)
                    have hw : Wd D A s [oM ad fu ft ff fs fa fb fn fr, ((ad 1), .inl (d 0, 1247, .inl w19))] H locs := hw
                    have hf := sm_e hf
                    subst hf
                    exact hKj160_j13 _ _ _ hw (lv_sub hl [3, 4, 5, 2, 6, 7] rfl)
                · have hf := if_t hf c117
                  refine lv_aload_n hx hb dX9_drawn_120 rfl (lv_at hl 3 rfl) ?_
                  refine lv_bipush (v := 43) hx hb dX9_drawn_121 (by decide) ?_
                  refine lv_iload hx hb dX9_drawn_123 (lv_at hl 1 rfl) ?_
                  refine lv_iload hx hb dX9_drawn_125 (lv_at hl 0 rfl) ?_
                  refine lv_lload hx hb dX9_drawn_127 (lv_at hl 2 rfl) ?_
                  refine lv_ldc2 (v := 61) hx hb hown (hts _ q1603) dX9_drawn_129 ?_
                  refine lv_lrem hx hb dX9_drawn_132 (by decide) ?_
                  refine lv_l2i (v := (((x61.1 * 16807) - (x61.1 * 16807) / 2147483647 * 2147483647) - ((x61.1 * 16807) - (x61.1 * 16807) / 2147483647 * 2147483647) / 61 * 61).toInt32) hx hb dX9_drawn_133 rfl ?_
                  obtain ⟨q18, hcq18, hf⟩ := op_e hf
                  refine x_VV (wr := []) (rest := []) [.int 43, .int (((x61.1 * 16807) - (x61.1 * 16807) / 2147483647 * 2147483647) - ((x61.1 * 16807) - (x61.1 * 16807) / 2147483647 * 2147483647) / v8.toInt64 * v8.toInt64).toInt32, .int (((x61.1 * 16807) - (x61.1 * 16807) / 2147483647 * 2147483647) - ((x61.1 * 16807) - (x61.1 * 16807) / 2147483647 * 2147483647) / v10.toInt64 * v10.toInt64).toInt32, .int (((x61.1 * 16807) - (x61.1 * 16807) / 2147483647 * 2147483647) - ((x61.1 * 16807) - (x61.1 * 16807) / 2147483647 * 2147483647) / 61 * 61).toInt32] hX cx hw hl.1 (mX9_sendsBack l X hX D d ad fu ft ff fs fa fb fn fr x61.2.2.2 43 ((((x61.1 * 16807) - (x61.1 * 16807) / 2147483647 * 2147483647) - ((x61.1 * 16807) - (x61.1 * 16807) / 2147483647 * 2147483647) / v8.toInt64 * v8.toInt64).toInt32) ((((x61.1 * 16807) - (x61.1 * 16807) / 2147483647 * 2147483647) - ((x61.1 * 16807) - (x61.1 * 16807) / 2147483647 * 2147483647) / v10.toInt64 * v10.toInt64).toInt32) ((((x61.1 * 16807) - (x61.1 * 16807) / 2147483647 * 2147483647) - ((x61.1 * 16807) - (x61.1 * 16807) / 2147483647 * 2147483647) / 61 * 61).toInt32) q18 hcq18) (lw_V q1480 q1482 qs59 q94 q1483) hd_X9_sendsBack ⟨Nat.le_of_ble_eq_true rfl, Nat.le_of_ble_eq_true rfl⟩ (va_recv hK hw.1 (ci := 0) (q0 := 0) rfl rfl) rfl rfl (Nat.le_of_ble_eq_true rfl) dX9_drawn_134 [0, 1] [] rfl rfl rfl rfl (by decide) ⟨(Nat.le_of_ble_eq_true rfl), (Nat.le_of_ble_eq_true rfl)⟩ (fun u H locs hp hw => ?_)
                  have hw : Wd D A s [oM ad fu ft ff fs fa fb fn fr, ((ad 1), .inl (d 0, 1247, .inl q18))] H locs := hw
                  refine lv_goto (tgt := 160) hx hb dX9_drawn_137 (by decide) ?_
                  have hf := sm_e hf
                  subst hf
                  exact hKj160_j13 _ _ _ hw (lv_sub hl [3, 4, 5, 2, 6, 7] rfl)
        · have hf := if_t hf c41
          refine lv_ldc (v := (-1000001)) hx hb hown (hts _ q1319) dX9_drawn_44 ?_
          have hf := sm_e hf
          subst hf
          exact x_retI cx hw rfl () rfl [0, 1] rfl rfl (Nat.le_of_ble_eq_true rfl) (Nat.le_of_ble_eq_true rfl) dX9_drawn_46
  · have hf := if_t hf c4
    refine lv_ldc (v := (-1000002)) hx hb hown (hts _ q1397) dX9_drawn_7 ?_
    have hf := sm_e hf
    subst hf
    exact x_retI cx hw rfl () rfl [0, 1] rfl rfl (Nat.le_of_ble_eq_true rfl) (Nat.le_of_ble_eq_true rfl) dX9_drawn_9
theorem hd_X9_image : yX9_image.cls = "DishLiftModel" ∧ yX9_image.cls ≠ "java/lang/invoke/MethodHandle" ∧ yX9_image.cls ≠ "java/lang/invoke/VarHandle" ∧ (parseMethodDescriptor yX9_image.desc).map (fun d => d.parameters.length) = some 1 := by decide +kernel
set_option maxHeartbeats 4000000 in
theorem mX9_image (l : Launch) (X : XT) (hX : XOK X) (D : va_G) (d : Nat → ClassId) (ad : Nat → Nat) (fu : Int32) (ft : Int32) (ff : Int32) (fs : Int32) (fa : Int32) (fb : Int32) (fn : Int32) (fr : Int32) (Ww : Nat → Int32) (KP : Nat → Int32) (p1 : Int32) (res : Int32 × (Nat → Int32) × (Nat → Int32)) (hf : fX9_image Ww KP p1 = some res) : MetI l yX9_image (ws_ yX9_image cX9_image 2 (some .int)) { frames := 1, cells := 0, slots := 0, locals := 25 } [.ref (ad 0), .int p1] X D d [oM ad fu ft ff fs fa fb fn fr, ((ad 1), .inl (d 0, 1247, .inl Ww)), ((ad 10), .inl (d 2, 2, .inl KP))] (fun r (_ : Unit) => r = res.1) (fun _ => [oM ad fu ft ff fs fa fb fn fr, ((ad 1), .inl (d 0, 1247, .inl res.2.1)), ((ad 10), .inl (d 2, 2, .inl res.2.2))]) := by
  refine MetI.of (by decide +kernel) (Nat.le_of_ble_eq_true rfl) ?_
  intro p e s m below meth c A cx hw ls hl
  have cx : Cx p s m _ meth c X D d A "DishLiftModel" cX9_image 2 (some .int) "image" := cx
  have cx' := cx
  obtain ⟨hx, hb, hr, hlk, hml, hown, hts, hK, hA, hXs, hnm⟩ := cx'
  have hl : lv_has ls 2 [(0, .ref (ad 0)), (1, .int p1)] := hl
  unfold fX9_image at hf
  refine lv_iload_n hx hb dX9_image_0 rfl (lv_at hl 1 rfl) ?_
  refine lv_i2l (v := p1.toInt64) hx hb dX9_image_1 rfl ?_
  refine lv_lconst (v := 0) hx hb dX9_image_2 (by decide) ?_
  refine lv_lconst (v := 1) hx hb dX9_image_3 (by decide) ?_
  obtain ⟨q1, hcq1, hf⟩ := op_e hf
  refine x_SI (wr := [oM ad fu ft ff fs fa fb fn fr, ((ad 1), .inl (d 0, 1247, .inl Ww)), ((ad 10), .inl (d 2, 2, .inl KP))]) (rest := []) [.long p1.toInt64, .long 0, .long 1] hX cx hw hl.1 (mX9_in l X hX D d p1.toInt64 0 1 q1 hcq1) (lw_S q1315 q1316 q94 q1317) hd_X9_in ⟨Nat.le_of_ble_eq_true rfl, Nat.le_of_ble_eq_true rfl⟩ rfl rfl (Nat.le_of_ble_eq_true rfl) dX9_image_4 [] [0, 1, 2] rfl rfl rfl rfl (by decide) ⟨(Nat.le_of_ble_eq_true rfl), (Nat.le_of_ble_eq_true rfl)⟩ (fun r u H locs hp hw => ?_)
  have hw : Wd D A s [oM ad fu ft ff fs fa fb fn fr, ((ad 1), .inl (d 0, 1247, .inl Ww)), ((ad 10), .inl (d 2, 2, .inl KP))] H locs := hw
  subst r
  refine lv_if_ne (tgt := 13) hx hb dX9_image_7 (by decide) (fun c7 => ?_) (fun c7 => ?_)
  · have hf := if_f hf c7
    refine lv_aload_n hx hb dX9_image_13 rfl (lv_at hl 0 rfl) ?_
    obtain ⟨q2, hcq2, hf⟩ := op_e hf
    refine x_VI (wr := [((ad 10), .inl (d 2, 2, .inl KP))]) (rest := []) [] hX cx hw hl.1 (mX9_isHouse l X hX D d ad fu ft ff fs fa fb fn fr Ww q2 hcq2) (lw_V q1402 q1404 qs46 q94 q1405) hd_X9_isHouse ⟨Nat.le_of_ble_eq_true rfl, Nat.le_of_ble_eq_true rfl⟩ (va_recv hK hw.1 (ci := 0) (q0 := 0) rfl rfl) rfl rfl (Nat.le_of_ble_eq_true rfl) dX9_image_14 [0, 1] [2] rfl rfl rfl rfl (by decide) ⟨(Nat.le_of_ble_eq_true rfl), (Nat.le_of_ble_eq_true rfl)⟩ (fun r u H locs hp hw => ?_)
    have hw : Wd D A s [((ad 10), .inl (d 2, 2, .inl KP)), oM ad fu ft ff fs fa fb fn fr, ((ad 1), .inl (d 0, 1247, .inl Ww))] H locs := hw
    subst r
    refine lv_if_ne (tgt := 23) hx hb dX9_image_17 (by decide) (fun c17 => ?_) (fun c17 => ?_)
    · have hf := if_f hf c17
      refine lv_aload_n hx hb dX9_image_23 rfl (lv_at hl 0 rfl) ?_
      refine lv_iconst (v := 0) hx hb dX9_image_24 (by decide) ?_
      refine lv_bipush (v := 86) hx hb dX9_image_25 (by decide) ?_
      refine lv_bipush (v := 43) hx hb dX9_image_27 (by decide) ?_
      refine lv_iload_n hx hb dX9_image_29 rfl (lv_at hl 1 rfl) ?_
      refine lv_imul hx hb dX9_image_30 ?_
      refine lv_iadd hx hb dX9_image_31 ?_
      obtain ⟨q3, hcq3, hf⟩ := op_e hf
      refine x_VV (wr := [((ad 10), .inl (d 2, 2, .inl KP))]) (rest := []) [.int 0, .int (86 + (43 * p1))] hX cx hw hl.1 (mX9_copyOf l X hX D d ad fu ft ff fs fa fb fn fr Ww 0 (86 + (43 * p1)) q3 hcq3) (lw_V q1385 q1387 qs45 q94 q1388) hd_X9_copyOf ⟨Nat.le_of_ble_eq_true rfl, Nat.le_of_ble_eq_true rfl⟩ (va_recv hK hw.1 (ci := 0) (q0 := 1) rfl rfl) rfl rfl (Nat.le_of_ble_eq_true rfl) dX9_image_32 [1, 2] [0] rfl rfl rfl rfl (by decide) ⟨(Nat.le_of_ble_eq_true rfl), (Nat.le_of_ble_eq_true rfl)⟩ (fun u H locs hp hw => ?_)
      have hw : Wd D A s [((ad 10), .inl (d 2, 2, .inl KP)), oM ad fu ft ff fs fa fb fn fr, ((ad 1), .inl (d 0, 1247, .inl q3))] H locs := hw
      refine lv_aload_n hx hb dX9_image_35 rfl (lv_at hl 0 rfl) ?_
      refine va_get (ci := 0) (C := RX9) (T := TX9) (N := 19) hx hb hts in_X9 hown hK hw.1 1 rfl rfl 16 (by decide) (hts _ q1264) (fun _ h9 => h9) rfl dX9_image_36 ?_
      refine lv_iload_n hx hb dX9_image_39 rfl (lv_at hl 1 rfl) ?_
      refine lv_iconst (v := 1) hx hb dX9_image_40 (by decide) ?_
      obtain ⟨w4, hv, hf⟩ := op_e hf
      refine x_zast (q0 := 0) cx hw rfl hv dX9_image_41 (fun H locs hw => ?_)
      have hw : Wd D A s [((ad 10), .inl (d 2, 2, .inl w4)), oM ad fu ft ff fs fa fb fn fr, ((ad 1), .inl (d 0, 1247, .inl q3))] H locs := hw
      refine lv_iconst (v := 1) hx hb dX9_image_42 (by decide) ?_
      have hf := sm_e hf
      subst hf
      exact x_retI cx hw rfl () rfl [1, 2, 0] rfl rfl (Nat.le_of_ble_eq_true rfl) (Nat.le_of_ble_eq_true rfl) dX9_image_43
    · have hf := if_t hf c17
      refine lv_ldc (v := (-1000002)) hx hb hown (hts _ q1397) dX9_image_20 ?_
      have hf := sm_e hf
      subst hf
      exact x_retI cx hw rfl () rfl [1, 2, 0] rfl rfl (Nat.le_of_ble_eq_true rfl) (Nat.le_of_ble_eq_true rfl) dX9_image_22
  · have hf := if_t hf c7
    refine lv_ldc (v := (-1000001)) hx hb hown (hts _ q1319) dX9_image_10 ?_
    have hf := sm_e hf
    subst hf
    exact x_retI cx hw rfl () rfl [0, 1, 2] rfl rfl (Nat.le_of_ble_eq_true rfl) (Nat.le_of_ble_eq_true rfl) dX9_image_12
theorem hd_X9_restore : yX9_restore.cls = "DishLiftModel" ∧ yX9_restore.cls ≠ "java/lang/invoke/MethodHandle" ∧ yX9_restore.cls ≠ "java/lang/invoke/VarHandle" ∧ (parseMethodDescriptor yX9_restore.desc).map (fun d => d.parameters.length) = some 1 := by decide +kernel
set_option maxHeartbeats 4000000 in
theorem mX9_restore (l : Launch) (X : XT) (hX : XOK X) (D : va_G) (d : Nat → ClassId) (ad : Nat → Nat) (fu : Int32) (ft : Int32) (ff : Int32) (fs : Int32) (fa : Int32) (fb : Int32) (fn : Int32) (fr : Int32) (Ww : Nat → Int32) (KP : Nat → Int32) (p1 : Int32) (res : Int32 × Int32 × (Nat → Int32)) (hf : fX9_restore Ww KP fu p1 = some res) : MetI l yX9_restore (ws_ yX9_restore cX9_restore 2 (some .int)) { frames := 1, cells := 0, slots := 0, locals := 25 } [.ref (ad 0), .int p1] X D d [oM ad fu ft ff fs fa fb fn fr, ((ad 1), .inl (d 0, 1247, .inl Ww)), ((ad 10), .inl (d 2, 2, .inl KP))] (fun r (_ : Unit) => r = res.1) (fun _ => [oM ad res.2.1 ft ff fs fa fb fn fr, ((ad 1), .inl (d 0, 1247, .inl res.2.2)), ((ad 10), .inl (d 2, 2, .inl KP))]) := by
  refine MetI.of (by decide +kernel) (Nat.le_of_ble_eq_true rfl) ?_
  intro p e s m below meth c A cx hw ls hl
  have cx : Cx p s m _ meth c X D d A "DishLiftModel" cX9_restore 2 (some .int) "restore" := cx
  have cx' := cx
  obtain ⟨hx, hb, hr, hlk, hml, hown, hts, hK, hA, hXs, hnm⟩ := cx'
  have hl : lv_has ls 2 [(0, .ref (ad 0)), (1, .int p1)] := hl
  unfold fX9_restore at hf
  refine lv_iload_n hx hb dX9_restore_0 rfl (lv_at hl 1 rfl) ?_
  refine lv_i2l (v := p1.toInt64) hx hb dX9_restore_1 rfl ?_
  refine lv_lconst (v := 0) hx hb dX9_restore_2 (by decide) ?_
  refine lv_lconst (v := 1) hx hb dX9_restore_3 (by decide) ?_
  obtain ⟨q1, hcq1, hf⟩ := op_e hf
  refine x_SI (wr := [oM ad fu ft ff fs fa fb fn fr, ((ad 1), .inl (d 0, 1247, .inl Ww)), ((ad 10), .inl (d 2, 2, .inl KP))]) (rest := []) [.long p1.toInt64, .long 0, .long 1] hX cx hw hl.1 (mX9_in l X hX D d p1.toInt64 0 1 q1 hcq1) (lw_S q1315 q1316 q94 q1317) hd_X9_in ⟨Nat.le_of_ble_eq_true rfl, Nat.le_of_ble_eq_true rfl⟩ rfl rfl (Nat.le_of_ble_eq_true rfl) dX9_restore_4 [] [0, 1, 2] rfl rfl rfl rfl (by decide) ⟨(Nat.le_of_ble_eq_true rfl), (Nat.le_of_ble_eq_true rfl)⟩ (fun r u H locs hp hw => ?_)
  have hw : Wd D A s [oM ad fu ft ff fs fa fb fn fr, ((ad 1), .inl (d 0, 1247, .inl Ww)), ((ad 10), .inl (d 2, 2, .inl KP))] H locs := hw
  subst r
  refine lv_if_ne (tgt := 13) hx hb dX9_restore_7 (by decide) (fun c7 => ?_) (fun c7 => ?_)
  · have hf := if_f hf c7
    refine lv_aload_n hx hb dX9_restore_13 rfl (lv_at hl 0 rfl) ?_
    refine va_get (ci := 0) (C := RX9) (T := TX9) (N := 19) hx hb hts in_X9 hown hK hw.1 0 rfl rfl 16 (by decide) (hts _ q1264) (fun _ h9 => h9) rfl dX9_restore_14 ?_
    refine lv_iload_n hx hb dX9_restore_17 rfl (lv_at hl 1 rfl) ?_
    obtain ⟨v2, hv, hf⟩ := op_e hf
    refine x_zald (q0 := 2) cx hw rfl hv dX9_restore_18 ?_
    refine lv_if_ne (tgt := 25) hx hb dX9_restore_19 (by decide) (fun c19 => ?_) (fun c19 => ?_)
    · have hf := if_f hf c19
      refine lv_aload_n hx hb dX9_restore_25 rfl (lv_at hl 0 rfl) ?_
      refine lv_bipush (v := 86) hx hb dX9_restore_26 (by decide) ?_
      refine lv_bipush (v := 43) hx hb dX9_restore_28 (by decide) ?_
      refine lv_iload_n hx hb dX9_restore_30 rfl (lv_at hl 1 rfl) ?_
      refine lv_imul hx hb dX9_restore_31 ?_
      refine lv_iadd hx hb dX9_restore_32 ?_
      refine lv_iconst (v := 0) hx hb dX9_restore_33 (by decide) ?_
      obtain ⟨q3, hcq3, hf⟩ := op_e hf
      refine x_VV (wr := [((ad 10), .inl (d 2, 2, .inl KP))]) (rest := []) [.int (86 + (43 * p1)), .int 0] hX cx hw hl.1 (mX9_copyOf l X hX D d ad fu ft ff fs fa fb fn fr Ww (86 + (43 * p1)) 0 q3 hcq3) (lw_V q1385 q1387 qs45 q94 q1388) hd_X9_copyOf ⟨Nat.le_of_ble_eq_true rfl, Nat.le_of_ble_eq_true rfl⟩ (va_recv hK hw.1 (ci := 0) (q0 := 0) rfl rfl) rfl rfl (Nat.le_of_ble_eq_true rfl) dX9_restore_34 [0, 1] [2] rfl rfl rfl rfl (by decide) ⟨(Nat.le_of_ble_eq_true rfl), (Nat.le_of_ble_eq_true rfl)⟩ (fun u H locs hp hw => ?_)
      have hw : Wd D A s [((ad 10), .inl (d 2, 2, .inl KP)), oM ad fu ft ff fs fa fb fn fr, ((ad 1), .inl (d 0, 1247, .inl q3))] H locs := hw
      refine lv_aload_n hx hb dX9_restore_37 rfl (lv_at hl 0 rfl) ?_
      refine lv_iconst (v := 0) hx hb dX9_restore_38 (by decide) ?_
      refine va_put (ci := 0) (v := .int 0) (ty := .int) (C := RX9) (T := TX9) (N := 19) hx hb hts in_X9 tyX9 tyX9_ok nmX9 hown hK hw.1 hw.2.1 hw.2.2 1 rfl rfl 1 (by decide) (hts _ q1249) (fun _ h9 => h9) rfl (by decide +kernel) rfl rfl (Nat.le_of_ble_eq_true rfl) dX9_restore_39 (fun H locs hP hD hS => ?_)
      have hw : Wd D A s [((ad 10), .inl (d 2, 2, .inl KP)), oM ad 0 ft ff fs fa fb fn fr, ((ad 1), .inl (d 0, 1247, .inl q3))] H locs := ⟨hP, hD, hS⟩
      refine lv_iconst (v := 1) hx hb dX9_restore_42 (by decide) ?_
      have hf := sm_e hf
      subst hf
      exact x_retI cx hw rfl () rfl [1, 2, 0] rfl rfl (Nat.le_of_ble_eq_true rfl) (Nat.le_of_ble_eq_true rfl) dX9_restore_43
    · have hf := if_t hf c19
      refine lv_ldc (v := (-1000002)) hx hb hown (hts _ q1397) dX9_restore_22 ?_
      have hf := sm_e hf
      subst hf
      exact x_retI cx hw rfl () rfl [0, 1, 2] rfl rfl (Nat.le_of_ble_eq_true rfl) (Nat.le_of_ble_eq_true rfl) dX9_restore_24
  · have hf := if_t hf c7
    refine lv_ldc (v := (-1000001)) hx hb hown (hts _ q1319) dX9_restore_10 ?_
    have hf := sm_e hf
    subst hf
    exact x_retI cx hw rfl () rfl [0, 1, 2] rfl rfl (Nat.le_of_ble_eq_true rfl) (Nat.le_of_ble_eq_true rfl) dX9_restore_12
theorem hd_X9_kind : yX9_kind.cls = "DishLiftModel" ∧ yX9_kind.cls ≠ "java/lang/invoke/MethodHandle" ∧ yX9_kind.cls ≠ "java/lang/invoke/VarHandle" ∧ (parseMethodDescriptor yX9_kind.desc).map (fun d => d.parameters.length) = some 1 := by decide +kernel
set_option maxHeartbeats 4000000 in
theorem mX9_kind (l : Launch) (X : XT) (hX : XOK X) (D : va_G) (d : Nat → ClassId) (ad : Nat → Nat) (fu : Int32) (ft : Int32) (ff : Int32) (fs : Int32) (fa : Int32) (fb : Int32) (fn : Int32) (fr : Int32) (Ww : Nat → Int32) (p1 : Int32) (res : Int32) (hf : fX9_kind Ww p1 = some res) : MetI l yX9_kind (ws_ yX9_kind cX9_kind 2 (some .int)) { frames := 2, cells := 0, slots := 0, locals := 46 } [.ref (ad 0), .int p1] X D d [oM ad fu ft ff fs fa fb fn fr, ((ad 1), .inl (d 0, 1247, .inl Ww))] (fun r (_ : Unit) => r = res) (fun _ => [oM ad fu ft ff fs fa fb fn fr, ((ad 1), .inl (d 0, 1247, .inl Ww))]) := by
  refine MetI.of (by decide +kernel) (Nat.le_of_ble_eq_true rfl) ?_
  intro p e s m below meth c A cx hw ls hl
  have cx : Cx p s m _ meth c X D d A "DishLiftModel" cX9_kind 2 (some .int) "kind" := cx
  have cx' := cx
  obtain ⟨hx, hb, hr, hlk, hml, hown, hts, hK, hA, hXs, hnm⟩ := cx'
  have hl : lv_has ls 2 [(0, .ref (ad 0)), (1, .int p1)] := hl
  unfold fX9_kind at hf
  refine lv_aload_n hx hb dX9_kind_0 rfl (lv_at hl 0 rfl) ?_
  refine lv_iload_n hx hb dX9_kind_1 rfl (lv_at hl 1 rfl) ?_
  obtain ⟨q1, hcq1, hf⟩ := op_e hf
  refine x_VI (wr := []) (rest := []) [.int p1] hX cx hw hl.1 (mX9_isDish l X hX D d ad fu ft ff fs fa fb fn fr Ww p1 q1 hcq1) (lw_V q1475 q1477 qs58 q94 q1478) hd_X9_isDish ⟨Nat.le_of_ble_eq_true rfl, Nat.le_of_ble_eq_true rfl⟩ (va_recv hK hw.1 (ci := 0) (q0 := 0) rfl rfl) rfl rfl (Nat.le_of_ble_eq_true rfl) dX9_kind_2 [0, 1] [] rfl rfl rfl rfl (by decide) ⟨(Nat.le_of_ble_eq_true rfl), (Nat.le_of_ble_eq_true rfl)⟩ (fun r u H locs hp hw => ?_)
  have hw : Wd D A s [oM ad fu ft ff fs fa fb fn fr, ((ad 1), .inl (d 0, 1247, .inl Ww))] H locs := hw
  subst r
  refine lv_if_eq (tgt := 20) hx hb dX9_kind_5 (by decide) (fun c5 => ?_) (fun c5 => ?_)
  · have hf := if_t hf c5
    refine lv_ldc (v := (-1000001)) hx hb hown (hts _ q1319) dX9_kind_20 ?_
    have hf := sm_e hf
    subst hf
    exact x_retI cx hw rfl () rfl [0, 1] rfl rfl (Nat.le_of_ble_eq_true rfl) (Nat.le_of_ble_eq_true rfl) dX9_kind_22
  · have hf := if_f hf c5
    refine lv_aload_n hx hb dX9_kind_8 rfl (lv_at hl 0 rfl) ?_
    refine va_get (ci := 0) (C := RX9) (T := TX9) (N := 19) hx hb hts in_X9 hown hK hw.1 0 rfl rfl 0 (by decide) (hts _ q1248) (fun _ h9 => h9) rfl dX9_kind_9 ?_
    refine lv_bipush (v := 7) hx hb dX9_kind_12 (by decide) ?_
    refine lv_iload_n hx hb dX9_kind_14 rfl (lv_at hl 1 rfl) ?_
    refine lv_iadd hx hb dX9_kind_15 ?_
    obtain ⟨v2, hv, hf⟩ := op_e hf
    refine x_iald (q0 := 1) cx hw rfl hv dX9_kind_16 ?_
    refine lv_goto (tgt := 22) hx hb dX9_kind_17 (by decide) ?_
    have hf := sm_e hf
    subst hf
    exact x_retI cx hw rfl () rfl [0, 1] rfl rfl (Nat.le_of_ble_eq_true rfl) (Nat.le_of_ble_eq_true rfl) dX9_kind_22
theorem hd_X9_isA : yX9_isA.cls ≠ "java/lang/invoke/MethodHandle" ∧ yX9_isA.cls ≠ "java/lang/invoke/VarHandle" ∧ (parseMethodDescriptor yX9_isA.desc).map (fun d => d.parameters.length) = some 2 := by decide +kernel
set_option maxHeartbeats 4000000 in
theorem mX9_isA (l : Launch) (X : XT) (hX : XOK X) (D : va_G) (d : Nat → ClassId) (p0 : Int32) (p1 : Int32) (res : Int32) (hf : fX9_isA p0 p1 = some res) : MetI l yX9_isA (ws_ yX9_isA cX9_isA 2 (some .boolean)) { frames := 0, cells := 0, slots := 0, locals := 0 } [.int p0, .int p1] X D d [] (fun r (_ : Unit) => r = res) (fun _ => []) := by
  refine MetI.of (by decide +kernel) (Nat.le_of_ble_eq_true rfl) ?_
  intro p e s m below meth c A cx hw ls hl
  have cx : Cx p s m _ meth c X D d A "DishLiftModel" cX9_isA 2 (some .boolean) "isA" := cx
  have cx' := cx
  obtain ⟨hx, hb, hr, hlk, hml, hown, hts, hK, hA, hXs, hnm⟩ := cx'
  have hl : lv_has ls 2 [(0, .int p0), (1, .int p1)] := hl
  unfold fX9_isA at hf
  refine lv_iload_n hx hb dX9_isA_0 rfl (lv_at hl 1 rfl) ?_
  refine lv_if_eq (tgt := 34) hx hb dX9_isA_1 (by decide) (fun c1 => ?_) (fun c1 => ?_)
  · have hf := if_t hf c1
    refine lv_iconst (v := 1) hx hb dX9_isA_34 (by decide) ?_
    refine lv_goto (tgt := 39) hx hb dX9_isA_35 (by decide) ?_
    have hf := sm_e hf
    subst hf
    exact x_retI cx hw rfl () rfl [] rfl rfl (Nat.le_of_ble_eq_true rfl) (Nat.le_of_ble_eq_true rfl) dX9_isA_39
  · have hf := if_f hf c1
    refine lv_iload_n hx hb dX9_isA_4 rfl (lv_at hl 1 rfl) ?_
    refine lv_iload_n hx hb dX9_isA_5 rfl (lv_at hl 0 rfl) ?_
    refine lv_icmp_eq (tgt := 34) hx hb dX9_isA_6 (by decide) (fun c6 => ?_) (fun c6 => ?_)
    · have hf := if_t hf c6
      refine lv_iconst (v := 1) hx hb dX9_isA_34 (by decide) ?_
      refine lv_goto (tgt := 39) hx hb dX9_isA_35 (by decide) ?_
      have hf := sm_e hf
      subst hf
      exact x_retI cx hw rfl () rfl [] rfl rfl (Nat.le_of_ble_eq_true rfl) (Nat.le_of_ble_eq_true rfl) dX9_isA_39
    · have hf := if_f hf c6
      refine lv_iload_n hx hb dX9_isA_9 rfl (lv_at hl 1 rfl) ?_
      refine lv_iconst (v := 1) hx hb dX9_isA_10 (by decide) ?_
      refine lv_icmp_ne (tgt := 24) hx hb dX9_isA_11 (by decide) (fun c11 => ?_) (fun c11 => ?_)
      · have hf := if_f hf c11
        refine lv_iload_n hx hb dX9_isA_24 rfl (lv_at hl 1 rfl) ?_
        refine lv_iconst (v := 4) hx hb dX9_isA_25 (by decide) ?_
        refine lv_icmp_ne (tgt := 38) hx hb dX9_isA_26 (by decide) (fun c26 => ?_) (fun c26 => ?_)
        · have hf := if_f hf c26
          refine lv_iconst (v := 0) hx hb dX9_isA_38 (by decide) ?_
          have hf := sm_e hf
          subst hf
          exact x_retI cx hw rfl () rfl [] rfl rfl (Nat.le_of_ble_eq_true rfl) (Nat.le_of_ble_eq_true rfl) dX9_isA_39
        · have hf := if_t hf c26
          refine lv_iload_n hx hb dX9_isA_29 rfl (lv_at hl 0 rfl) ?_
          refine lv_iconst (v := 5) hx hb dX9_isA_30 (by decide) ?_
          refine lv_icmp_ne (tgt := 38) hx hb dX9_isA_31 (by decide) (fun c31 => ?_) (fun c31 => ?_)
          · have hf := if_f hf c31
            refine lv_iconst (v := 0) hx hb dX9_isA_38 (by decide) ?_
            have hf := sm_e hf
            subst hf
            exact x_retI cx hw rfl () rfl [] rfl rfl (Nat.le_of_ble_eq_true rfl) (Nat.le_of_ble_eq_true rfl) dX9_isA_39
          · have hf := if_t hf c31
            refine lv_iconst (v := 1) hx hb dX9_isA_34 (by decide) ?_
            refine lv_goto (tgt := 39) hx hb dX9_isA_35 (by decide) ?_
            have hf := sm_e hf
            subst hf
            exact x_retI cx hw rfl () rfl [] rfl rfl (Nat.le_of_ble_eq_true rfl) (Nat.le_of_ble_eq_true rfl) dX9_isA_39
      · have hf := if_t hf c11
        refine lv_iload_n hx hb dX9_isA_14 rfl (lv_at hl 0 rfl) ?_
        refine lv_iconst (v := 2) hx hb dX9_isA_15 (by decide) ?_
        refine lv_icmp_eq (tgt := 34) hx hb dX9_isA_16 (by decide) (fun c16 => ?_) (fun c16 => ?_)
        · have hf := if_t hf c16
          refine lv_iconst (v := 1) hx hb dX9_isA_34 (by decide) ?_
          refine lv_goto (tgt := 39) hx hb dX9_isA_35 (by decide) ?_
          have hf := sm_e hf
          subst hf
          exact x_retI cx hw rfl () rfl [] rfl rfl (Nat.le_of_ble_eq_true rfl) (Nat.le_of_ble_eq_true rfl) dX9_isA_39
        · have hf := if_f hf c16
          refine lv_iload_n hx hb dX9_isA_19 rfl (lv_at hl 0 rfl) ?_
          refine lv_iconst (v := 3) hx hb dX9_isA_20 (by decide) ?_
          refine lv_icmp_eq (tgt := 34) hx hb dX9_isA_21 (by decide) (fun c21 => ?_) (fun c21 => ?_)
          · have hf := if_t hf c21
            refine lv_iconst (v := 1) hx hb dX9_isA_34 (by decide) ?_
            refine lv_goto (tgt := 39) hx hb dX9_isA_35 (by decide) ?_
            have hf := sm_e hf
            subst hf
            exact x_retI cx hw rfl () rfl [] rfl rfl (Nat.le_of_ble_eq_true rfl) (Nat.le_of_ble_eq_true rfl) dX9_isA_39
          · have hf := if_f hf c21
            refine lv_iload_n hx hb dX9_isA_24 rfl (lv_at hl 1 rfl) ?_
            refine lv_iconst (v := 4) hx hb dX9_isA_25 (by decide) ?_
            refine lv_icmp_ne (tgt := 38) hx hb dX9_isA_26 (by decide) (fun c26 => ?_) (fun c26 => ?_)
            · have hf := if_f hf c26
              refine lv_iconst (v := 0) hx hb dX9_isA_38 (by decide) ?_
              have hf := sm_e hf
              subst hf
              exact x_retI cx hw rfl () rfl [] rfl rfl (Nat.le_of_ble_eq_true rfl) (Nat.le_of_ble_eq_true rfl) dX9_isA_39
            · have hf := if_t hf c26
              refine lv_iload_n hx hb dX9_isA_29 rfl (lv_at hl 0 rfl) ?_
              refine lv_iconst (v := 5) hx hb dX9_isA_30 (by decide) ?_
              refine lv_icmp_ne (tgt := 38) hx hb dX9_isA_31 (by decide) (fun c31 => ?_) (fun c31 => ?_)
              · have hf := if_f hf c31
                refine lv_iconst (v := 0) hx hb dX9_isA_38 (by decide) ?_
                have hf := sm_e hf
                subst hf
                exact x_retI cx hw rfl () rfl [] rfl rfl (Nat.le_of_ble_eq_true rfl) (Nat.le_of_ble_eq_true rfl) dX9_isA_39
              · have hf := if_t hf c31
                refine lv_iconst (v := 1) hx hb dX9_isA_34 (by decide) ?_
                refine lv_goto (tgt := 39) hx hb dX9_isA_35 (by decide) ?_
                have hf := sm_e hf
                subst hf
                exact x_retI cx hw rfl () rfl [] rfl rfl (Nat.le_of_ble_eq_true rfl) (Nat.le_of_ble_eq_true rfl) dX9_isA_39
theorem hd_X9_as : yX9_as.cls = "DishLiftModel" ∧ yX9_as.cls ≠ "java/lang/invoke/MethodHandle" ∧ yX9_as.cls ≠ "java/lang/invoke/VarHandle" ∧ (parseMethodDescriptor yX9_as.desc).map (fun d => d.parameters.length) = some 2 := by decide +kernel
set_option maxHeartbeats 4000000 in
theorem mX9_as (l : Launch) (X : XT) (hX : XOK X) (D : va_G) (d : Nat → ClassId) (ad : Nat → Nat) (fu : Int32) (ft : Int32) (ff : Int32) (fs : Int32) (fa : Int32) (fb : Int32) (fn : Int32) (fr : Int32) (Ww : Nat → Int32) (p1 : Int32) (p2 : Int32) (res : Int32 × Int32) (hf : fX9_as Ww fs p1 p2 = some res) : MetI l yX9_as (ws_ yX9_as cX9_as 3 (some .int)) { frames := 2, cells := 0, slots := 0, locals := 46 } [.ref (ad 0), .int p1, .int p2] X D d [oM ad fu ft ff fs fa fb fn fr, ((ad 1), .inl (d 0, 1247, .inl Ww))] (fun r (_ : Unit) => r = res.1) (fun _ => [oM ad fu ft ff res.2 fa fb fn fr, ((ad 1), .inl (d 0, 1247, .inl Ww))]) := by
  refine MetI.of (by decide +kernel) (Nat.le_of_ble_eq_true rfl) ?_
  intro p e s m below meth c A cx hw ls hl
  have cx : Cx p s m _ meth c X D d A "DishLiftModel" cX9_as 3 (some .int) "as" := cx
  have cx' := cx
  obtain ⟨hx, hb, hr, hlk, hml, hown, hts, hK, hA, hXs, hnm⟩ := cx'
  have hl : lv_has ls 3 [(0, .ref (ad 0)), (1, .int p1), (2, .int p2)] := hl
  unfold fX9_as at hf
  refine lv_aload_n hx hb dX9_as_0 rfl (lv_at hl 0 rfl) ?_
  refine lv_iload_n hx hb dX9_as_1 rfl (lv_at hl 1 rfl) ?_
  obtain ⟨q1, hcq1, hf⟩ := op_e hf
  refine x_VI (wr := []) (rest := []) [.int p1] hX cx hw hl.1 (mX9_isDish l X hX D d ad fu ft ff fs fa fb fn fr Ww p1 q1 hcq1) (lw_V q1475 q1477 qs58 q94 q1478) hd_X9_isDish ⟨Nat.le_of_ble_eq_true rfl, Nat.le_of_ble_eq_true rfl⟩ (va_recv hK hw.1 (ci := 0) (q0 := 0) rfl rfl) rfl rfl (Nat.le_of_ble_eq_true rfl) dX9_as_2 [0, 1] [] rfl rfl rfl rfl (by decide) ⟨(Nat.le_of_ble_eq_true rfl), (Nat.le_of_ble_eq_true rfl)⟩ (fun r u H locs hp hw => ?_)
  have hw : Wd D A s [oM ad fu ft ff fs fa fb fn fr, ((ad 1), .inl (d 0, 1247, .inl Ww))] H locs := hw
  subst r
  refine lv_if_eq (tgt := 20) hx hb dX9_as_5 (by decide) (fun c5 => ?_) (fun c5 => ?_)
  · have hf := if_t hf c5
    refine lv_ldc (v := (-1000001)) hx hb hown (hts _ q1319) dX9_as_20 ?_
    have hf := sm_e hf
    subst hf
    exact x_retI cx hw rfl () rfl [0, 1] rfl rfl (Nat.le_of_ble_eq_true rfl) (Nat.le_of_ble_eq_true rfl) dX9_as_22
  · have hf := if_f hf c5
    refine lv_iload_n hx hb dX9_as_8 rfl (lv_at hl 2 rfl) ?_
    refine lv_i2l (v := p2.toInt64) hx hb dX9_as_9 rfl ?_
    refine lv_lconst (v := 0) hx hb dX9_as_10 (by decide) ?_
    refine lv_ldc2 (v := 5) hx hb hown (hts _ q1583) dX9_as_11 ?_
    obtain ⟨q2, hcq2, hf⟩ := op_e hf
    refine x_SI (wr := [oM ad fu ft ff fs fa fb fn fr, ((ad 1), .inl (d 0, 1247, .inl Ww))]) (rest := []) [.long p2.toInt64, .long 0, .long 5] hX cx hw hl.1 (mX9_in l X hX D d p2.toInt64 0 5 q2 hcq2) (lw_S q1315 q1316 q94 q1317) hd_X9_in ⟨Nat.le_of_ble_eq_true rfl, Nat.le_of_ble_eq_true rfl⟩ rfl rfl (Nat.le_of_ble_eq_true rfl) dX9_as_14 [] [0, 1] rfl rfl rfl rfl (by decide) ⟨(Nat.le_of_ble_eq_true rfl), (Nat.le_of_ble_eq_true rfl)⟩ (fun r u H locs hp hw => ?_)
    have hw : Wd D A s [oM ad fu ft ff fs fa fb fn fr, ((ad 1), .inl (d 0, 1247, .inl Ww))] H locs := hw
    subst r
    refine lv_if_ne (tgt := 23) hx hb dX9_as_17 (by decide) (fun c17 => ?_) (fun c17 => ?_)
    · have hf := if_f hf c17
      refine lv_aload_n hx hb dX9_as_23 rfl (lv_at hl 0 rfl) ?_
      refine va_get (ci := 0) (C := RX9) (T := TX9) (N := 19) hx hb hts in_X9 hown hK hw.1 0 rfl rfl 0 (by decide) (hts _ q1248) (fun _ h9 => h9) rfl dX9_as_24 ?_
      refine lv_bipush (v := 7) hx hb dX9_as_27 (by decide) ?_
      refine lv_iload_n hx hb dX9_as_29 rfl (lv_at hl 1 rfl) ?_
      refine lv_iadd hx hb dX9_as_30 ?_
      obtain ⟨v3, hv, hf⟩ := op_e hf
      refine x_iald (q0 := 1) cx hw rfl hv dX9_as_31 ?_
      refine lv_iload_n hx hb dX9_as_32 rfl (lv_at hl 2 rfl) ?_
      obtain ⟨q4, hcq4, hf⟩ := op_e hf
      refine x_SI (wr := [oM ad fu ft ff fs fa fb fn fr, ((ad 1), .inl (d 0, 1247, .inl Ww))]) (rest := []) [.int v3, .int p2] hX cx hw hl.1 (mX9_isA l X hX D d v3 p2 q4 hcq4) (lw_S q1620 q1621 q94 q1622) hd_X9_isA ⟨Nat.le_of_ble_eq_true rfl, Nat.le_of_ble_eq_true rfl⟩ rfl rfl (Nat.le_of_ble_eq_true rfl) dX9_as_33 [] [0, 1] rfl rfl rfl rfl (by decide) ⟨(Nat.le_of_ble_eq_true rfl), (Nat.le_of_ble_eq_true rfl)⟩ (fun r u H locs hp hw => ?_)
      have hw : Wd D A s [oM ad fu ft ff fs fa fb fn fr, ((ad 1), .inl (d 0, 1247, .inl Ww))] H locs := hw
      subst r
      refine lv_if_ne (tgt := 45) hx hb dX9_as_36 (by decide) (fun c36 => ?_) (fun c36 => ?_)
      · have hf := if_f hf c36
        refine lv_aload_n hx hb dX9_as_45 rfl (lv_at hl 0 rfl) ?_
        refine lv_iconst (v := 0) hx hb dX9_as_46 (by decide) ?_
        refine va_put (ci := 0) (v := .int 0) (ty := .int) (C := RX9) (T := TX9) (N := 19) hx hb hts in_X9 tyX9 tyX9_ok nmX9 hown hK hw.1 hw.2.1 hw.2.2 0 rfl rfl 5 (by decide) (hts _ q1253) (fun _ h9 => h9) rfl (by decide +kernel) rfl rfl (Nat.le_of_ble_eq_true rfl) dX9_as_47 (fun H locs hP hD hS => ?_)
        have hw : Wd D A s [oM ad fu ft ff 0 fa fb fn fr, ((ad 1), .inl (d 0, 1247, .inl Ww))] H locs := ⟨hP, hD, hS⟩
        refine lv_iload_n hx hb dX9_as_50 rfl (lv_at hl 1 rfl) ?_
        have hf := sm_e hf
        subst hf
        exact x_retI cx hw rfl () rfl [0, 1] rfl rfl (Nat.le_of_ble_eq_true rfl) (Nat.le_of_ble_eq_true rfl) dX9_as_51
      · have hf := if_t hf c36
        refine lv_aload_n hx hb dX9_as_39 rfl (lv_at hl 0 rfl) ?_
        refine lv_iconst (v := 3) hx hb dX9_as_40 (by decide) ?_
        obtain ⟨q5, hcq5, hf⟩ := op_e hf
        refine x_VI (wr := [((ad 1), .inl (d 0, 1247, .inl Ww))]) (rest := []) [.int 3] hX cx hw hl.1 (mX9_finds l X hX D d ad fu ft ff fs fa fb fn fr 3 q5 hcq5) (lw_V q1320 q1322 qs36 q94 q1323) hd_X9_finds ⟨Nat.le_of_ble_eq_true rfl, Nat.le_of_ble_eq_true rfl⟩ (va_recv hK hw.1 (ci := 0) (q0 := 0) rfl rfl) rfl rfl (Nat.le_of_ble_eq_true rfl) dX9_as_41 [0] [1] rfl rfl rfl rfl (by decide) ⟨(Nat.le_of_ble_eq_true rfl), (Nat.le_of_ble_eq_true rfl)⟩ (fun r u H locs hp hw => ?_)
        have hw : Wd D A s [((ad 1), .inl (d 0, 1247, .inl Ww)), oM ad fu ft ff q5.2 fa fb fn fr] H locs := hw
        subst r
        have hf := sm_e hf
        subst hf
        exact x_retI cx hw rfl () rfl [1, 0] rfl rfl (Nat.le_of_ble_eq_true rfl) (Nat.le_of_ble_eq_true rfl) dX9_as_44
    · have hf := if_t hf c17
      refine lv_ldc (v := (-1000001)) hx hb hown (hts _ q1319) dX9_as_20 ?_
      have hf := sm_e hf
      subst hf
      exact x_retI cx hw rfl () rfl [0, 1] rfl rfl (Nat.le_of_ble_eq_true rfl) (Nat.le_of_ble_eq_true rfl) dX9_as_22
theorem hd_X9_traces : yX9_traces.cls = "DishLiftModel" ∧ yX9_traces.cls ≠ "java/lang/invoke/MethodHandle" ∧ yX9_traces.cls ≠ "java/lang/invoke/VarHandle" ∧ (parseMethodDescriptor yX9_traces.desc).map (fun d => d.parameters.length) = some 1 := by decide +kernel
set_option maxHeartbeats 4000000 in
theorem mX9_traces (l : Launch) (X : XT) (hX : XOK X) (D : va_G) (d : Nat → ClassId) (ad : Nat → Nat) (fu : Int32) (ft : Int32) (ff : Int32) (fs : Int32) (fa : Int32) (fb : Int32) (fn : Int32) (fr : Int32) (TR : Nat → Int32) (p1 : Int32) (res : Int32 × (Nat → Int32)) (hf : fX9_traces TR fr p1 = some res) : MetV l yX9_traces (ws_ yX9_traces cX9_traces 2 none) { frames := 0, cells := 0, slots := 0, locals := 0 } [.ref (ad 0), .int p1] X D d [oM ad fu ft ff fs fa fb fn fr, ((ad 11), .inl (d 0, 16, .inl TR))] (fun (_ : Unit) => True) (fun _ => [oM ad fu ft ff fs fa fb fn res.1, ((ad 11), .inl (d 0, 16, .inl res.2))]) := by
  refine MetV.of (by decide +kernel) (Nat.le_of_ble_eq_true rfl) ?_
  intro p e s m below meth c A cx hw ls hl
  have cx : Cx p s m _ meth c X D d A "DishLiftModel" cX9_traces 2 none "traces" := cx
  have cx' := cx
  obtain ⟨hx, hb, hr, hlk, hml, hown, hts, hK, hA, hXs, hnm⟩ := cx'
  have hl : lv_has ls 2 [(0, .ref (ad 0)), (1, .int p1)] := hl
  unfold fX9_traces at hf
  refine lv_aload_n hx hb dX9_traces_0 rfl (lv_at hl 0 rfl) ?_
  refine va_get (ci := 0) (C := RX9) (T := TX9) (N := 19) hx hb hts in_X9 hown hK hw.1 0 rfl rfl 18 (by decide) (hts _ q1266) (fun _ h9 => h9) rfl dX9_traces_1 ?_
  refine lv_bipush (v := 16) hx hb dX9_traces_4 (by decide) ?_
  refine lv_icmp_ge (tgt := 29) hx hb dX9_traces_6 (by decide) (fun c6 => ?_) (fun c6 => ?_)
  · have hf := if_t hf c6
    have hf := sm_e hf
    subst hf
    exact x_retV cx hw () trivial [0, 1] rfl rfl (Nat.le_of_ble_eq_true rfl) (Nat.le_of_ble_eq_true rfl) dX9_traces_29
  · have hf := if_f hf c6
    refine lv_aload_n hx hb dX9_traces_9 rfl (lv_at hl 0 rfl) ?_
    refine va_get (ci := 0) (C := RX9) (T := TX9) (N := 19) hx hb hts in_X9 hown hK hw.1 0 rfl rfl 17 (by decide) (hts _ q1265) (fun _ h9 => h9) rfl dX9_traces_10 ?_
    refine lv_aload_n hx hb dX9_traces_13 rfl (lv_at hl 0 rfl) ?_
    refine va_get (ci := 0) (C := RX9) (T := TX9) (N := 19) hx hb hts in_X9 hown hK hw.1 0 rfl rfl 18 (by decide) (hts _ q1266) (fun _ h9 => h9) rfl dX9_traces_14 ?_
    refine lv_iload_n hx hb dX9_traces_17 rfl (lv_at hl 1 rfl) ?_
    obtain ⟨w1, hv, hf⟩ := op_e hf
    refine x_iast (q0 := 1) cx hw rfl hv dX9_traces_18 (fun H locs hw => ?_)
    have hw : Wd D A s [oM ad fu ft ff fs fa fb fn fr, ((ad 11), .inl (d 0, 16, .inl w1))] H locs := hw
    refine lv_aload_n hx hb dX9_traces_19 rfl (lv_at hl 0 rfl) ?_
    refine lv_dup hx hb dX9_traces_20 rfl ?_
    refine va_get (ci := 0) (C := RX9) (T := TX9) (N := 19) hx hb hts in_X9 hown hK hw.1 0 rfl rfl 18 (by decide) (hts _ q1266) (fun _ h9 => h9) rfl dX9_traces_21 ?_
    refine lv_iconst (v := 1) hx hb dX9_traces_24 (by decide) ?_
    refine lv_iadd hx hb dX9_traces_25 ?_
    refine va_put (ci := 0) (v := .int (fr + 1)) (ty := .int) (C := RX9) (T := TX9) (N := 19) hx hb hts in_X9 tyX9 tyX9_ok nmX9 hown hK hw.1 hw.2.1 hw.2.2 0 rfl rfl 18 (by decide) (hts _ q1266) (fun _ h9 => h9) rfl (by decide +kernel) rfl rfl (Nat.le_of_ble_eq_true rfl) dX9_traces_26 (fun H locs hP hD hS => ?_)
    have hw : Wd D A s [oM ad fu ft ff fs fa fb fn (fr + 1), ((ad 11), .inl (d 0, 16, .inl w1))] H locs := ⟨hP, hD, hS⟩
    have hf := sm_e hf
    subst hf
    exact x_retV cx hw () trivial [0, 1] rfl rfl (Nat.le_of_ble_eq_true rfl) (Nat.le_of_ble_eq_true rfl) dX9_traces_29
theorem hd_X9_size10 : yX9_size10.cls = "DishLiftModel" ∧ yX9_size10.cls ≠ "java/lang/invoke/MethodHandle" ∧ yX9_size10.cls ≠ "java/lang/invoke/VarHandle" ∧ (parseMethodDescriptor yX9_size10.desc).map (fun d => d.parameters.length) = some 1 := by decide +kernel
set_option maxHeartbeats 4000000 in
theorem mX9_size10 (l : Launch) (X : XT) (hX : XOK X) (D : va_G) (d : Nat → ClassId) (ad : Nat → Nat) (fu : Int32) (ft : Int32) (ff : Int32) (fs : Int32) (fa : Int32) (fb : Int32) (fn : Int32) (fr : Int32) (Ww : Nat → Int32) (TR : Nat → Int32) (p1 : Int32) (res : Int32 × Int32 × (Nat → Int32)) (hf : fX9_size10 Ww TR fr p1 = some res) : MetI l yX9_size10 (ws_ yX9_size10 cX9_size10 2 (some .int)) { frames := 1, cells := 0, slots := 0, locals := 21 } [.ref (ad 0), .int p1] X D d [oM ad fu ft ff fs fa fb fn fr, ((ad 1), .inl (d 0, 1247, .inl Ww)), ((ad 11), .inl (d 0, 16, .inl TR))] (fun r (_ : Unit) => r = res.1) (fun _ => [oM ad fu ft ff fs fa fb fn res.2.1, ((ad 1), .inl (d 0, 1247, .inl Ww)), ((ad 11), .inl (d 0, 16, .inl res.2.2))]) := by
  refine MetI.of (by decide +kernel) (Nat.le_of_ble_eq_true rfl) ?_
  intro p e s m below meth c A cx hw ls hl
  have cx : Cx p s m _ meth c X D d A "DishLiftModel" cX9_size10 2 (some .int) "size10" := cx
  have cx' := cx
  obtain ⟨hx, hb, hr, hlk, hml, hown, hts, hK, hA, hXs, hnm⟩ := cx'
  have hl : lv_has ls 2 [(0, .ref (ad 0)), (1, .int p1)] := hl
  unfold fX9_size10 at hf
  refine lv_aload_n hx hb dX9_size10_0 rfl (lv_at hl 0 rfl) ?_
  refine lv_bipush (v := 10) hx hb dX9_size10_1 (by decide) ?_
  obtain ⟨q1, hcq1, hf⟩ := op_e hf
  refine x_VV (wr := [((ad 1), .inl (d 0, 1247, .inl Ww))]) (rest := []) [.int 10] hX cx hw hl.1 (mX9_traces l X hX D d ad fu ft ff fs fa fb fn fr TR 10 q1 hcq1) (lw_V q1631 q1633 qs71 q94 q1634) hd_X9_traces ⟨Nat.le_of_ble_eq_true rfl, Nat.le_of_ble_eq_true rfl⟩ (va_recv hK hw.1 (ci := 0) (q0 := 0) rfl rfl) rfl rfl (Nat.le_of_ble_eq_true rfl) dX9_size10_3 [0, 2] [1] rfl rfl rfl rfl (by decide) ⟨(Nat.le_of_ble_eq_true rfl), (Nat.le_of_ble_eq_true rfl)⟩ (fun u H locs hp hw => ?_)
  have hw : Wd D A s [((ad 1), .inl (d 0, 1247, .inl Ww)), oM ad fu ft ff fs fa fb fn q1.1, ((ad 11), .inl (d 0, 16, .inl q1.2))] H locs := hw
  refine lv_aload_n hx hb dX9_size10_6 rfl (lv_at hl 0 rfl) ?_
  refine va_get (ci := 0) (C := RX9) (T := TX9) (N := 19) hx hb hts in_X9 hown hK hw.1 1 rfl rfl 0 (by decide) (hts _ q1248) (fun _ h9 => h9) rfl dX9_size10_7 ?_
  refine lv_bipush (v := 25) hx hb dX9_size10_10 (by decide) ?_
  refine lv_iload_n hx hb dX9_size10_12 rfl (lv_at hl 1 rfl) ?_
  refine lv_iadd hx hb dX9_size10_13 ?_
  obtain ⟨v2, hv, hf⟩ := op_e hf
  refine x_iald (q0 := 0) cx hw rfl hv dX9_size10_14 ?_
  have hf := sm_e hf
  subst hf
  exact x_retI cx hw rfl () rfl [1, 0, 2] rfl rfl (Nat.le_of_ble_eq_true rfl) (Nat.le_of_ble_eq_true rfl) dX9_size10_15
theorem hd_X9_mark20 : yX9_mark20.cls = "DishLiftModel" ∧ yX9_mark20.cls ≠ "java/lang/invoke/MethodHandle" ∧ yX9_mark20.cls ≠ "java/lang/invoke/VarHandle" ∧ (parseMethodDescriptor yX9_mark20.desc).map (fun d => d.parameters.length) = some 1 := by decide +kernel
set_option maxHeartbeats 4000000 in
theorem mX9_mark20 (l : Launch) (X : XT) (hX : XOK X) (D : va_G) (d : Nat → ClassId) (ad : Nat → Nat) (fu : Int32) (ft : Int32) (ff : Int32) (fs : Int32) (fa : Int32) (fb : Int32) (fn : Int32) (fr : Int32) (TR : Nat → Int32) (p1 : Int32) (res : Int32 × Int32 × (Nat → Int32)) (hf : fX9_mark20 TR fr p1 = some res) : MetI l yX9_mark20 (ws_ yX9_mark20 cX9_mark20 2 (some .int)) { frames := 1, cells := 0, slots := 0, locals := 21 } [.ref (ad 0), .int p1] X D d [oM ad fu ft ff fs fa fb fn fr, ((ad 11), .inl (d 0, 16, .inl TR))] (fun r (_ : Unit) => r = res.1) (fun _ => [oM ad fu ft ff fs fa fb fn res.2.1, ((ad 11), .inl (d 0, 16, .inl res.2.2))]) := by
  refine MetI.of (by decide +kernel) (Nat.le_of_ble_eq_true rfl) ?_
  intro p e s m below meth c A cx hw ls hl
  have cx : Cx p s m _ meth c X D d A "DishLiftModel" cX9_mark20 2 (some .int) "mark20" := cx
  have cx' := cx
  obtain ⟨hx, hb, hr, hlk, hml, hown, hts, hK, hA, hXs, hnm⟩ := cx'
  have hl : lv_has ls 2 [(0, .ref (ad 0)), (1, .int p1)] := hl
  unfold fX9_mark20 at hf
  refine lv_aload_n hx hb dX9_mark20_0 rfl (lv_at hl 0 rfl) ?_
  refine lv_bipush (v := 20) hx hb dX9_mark20_1 (by decide) ?_
  obtain ⟨q1, hcq1, hf⟩ := op_e hf
  refine x_VV (wr := []) (rest := []) [.int 20] hX cx hw hl.1 (mX9_traces l X hX D d ad fu ft ff fs fa fb fn fr TR 20 q1 hcq1) (lw_V q1631 q1633 qs71 q94 q1634) hd_X9_traces ⟨Nat.le_of_ble_eq_true rfl, Nat.le_of_ble_eq_true rfl⟩ (va_recv hK hw.1 (ci := 0) (q0 := 0) rfl rfl) rfl rfl (Nat.le_of_ble_eq_true rfl) dX9_mark20_3 [0, 1] [] rfl rfl rfl rfl (by decide) ⟨(Nat.le_of_ble_eq_true rfl), (Nat.le_of_ble_eq_true rfl)⟩ (fun u H locs hp hw => ?_)
  have hw : Wd D A s [oM ad fu ft ff fs fa fb fn q1.1, ((ad 11), .inl (d 0, 16, .inl q1.2))] H locs := hw
  refine lv_iload_n hx hb dX9_mark20_6 rfl (lv_at hl 1 rfl) ?_
  have hf := sm_e hf
  subst hf
  exact x_retI cx hw rfl () rfl [0, 1] rfl rfl (Nat.le_of_ble_eq_true rfl) (Nat.le_of_ble_eq_true rfl) dX9_mark20_7
theorem hd_X9_mark21 : yX9_mark21.cls = "DishLiftModel" ∧ yX9_mark21.cls ≠ "java/lang/invoke/MethodHandle" ∧ yX9_mark21.cls ≠ "java/lang/invoke/VarHandle" ∧ (parseMethodDescriptor yX9_mark21.desc).map (fun d => d.parameters.length) = some 1 := by decide +kernel
set_option maxHeartbeats 4000000 in
theorem mX9_mark21 (l : Launch) (X : XT) (hX : XOK X) (D : va_G) (d : Nat → ClassId) (ad : Nat → Nat) (fu : Int32) (ft : Int32) (ff : Int32) (fs : Int32) (fa : Int32) (fb : Int32) (fn : Int32) (fr : Int32) (Ww : Nat → Int32) (TR : Nat → Int32) (p1 : Int32) (res : Int32 × Int32 × (Nat → Int32)) (hf : fX9_mark21 Ww TR fr p1 = some res) : MetI l yX9_mark21 (ws_ yX9_mark21 cX9_mark21 2 (some .int)) { frames := 2, cells := 0, slots := 0, locals := 42 } [.ref (ad 0), .int p1] X D d [oM ad fu ft ff fs fa fb fn fr, ((ad 1), .inl (d 0, 1247, .inl Ww)), ((ad 11), .inl (d 0, 16, .inl TR))] (fun r (_ : Unit) => r = res.1) (fun _ => [oM ad fu ft ff fs fa fb fn res.2.1, ((ad 1), .inl (d 0, 1247, .inl Ww)), ((ad 11), .inl (d 0, 16, .inl res.2.2))]) := by
  refine MetI.of (by decide +kernel) (Nat.le_of_ble_eq_true rfl) ?_
  intro p e s m below meth c A cx hw ls hl
  have cx : Cx p s m _ meth c X D d A "DishLiftModel" cX9_mark21 2 (some .int) "mark21" := cx
  have cx' := cx
  obtain ⟨hx, hb, hr, hlk, hml, hown, hts, hK, hA, hXs, hnm⟩ := cx'
  have hl : lv_has ls 2 [(0, .ref (ad 0)), (1, .int p1)] := hl
  unfold fX9_mark21 at hf
  refine lv_aload_n hx hb dX9_mark21_0 rfl (lv_at hl 0 rfl) ?_
  refine lv_bipush (v := 21) hx hb dX9_mark21_1 (by decide) ?_
  obtain ⟨q1, hcq1, hf⟩ := op_e hf
  refine x_VV (wr := [((ad 1), .inl (d 0, 1247, .inl Ww))]) (rest := []) [.int 21] hX cx hw hl.1 (mX9_traces l X hX D d ad fu ft ff fs fa fb fn fr TR 21 q1 hcq1) (lw_V q1631 q1633 qs71 q94 q1634) hd_X9_traces ⟨Nat.le_of_ble_eq_true rfl, Nat.le_of_ble_eq_true rfl⟩ (va_recv hK hw.1 (ci := 0) (q0 := 0) rfl rfl) rfl rfl (Nat.le_of_ble_eq_true rfl) dX9_mark21_3 [0, 2] [1] rfl rfl rfl rfl (by decide) ⟨(Nat.le_of_ble_eq_true rfl), (Nat.le_of_ble_eq_true rfl)⟩ (fun u H locs hp hw => ?_)
  have hw : Wd D A s [((ad 1), .inl (d 0, 1247, .inl Ww)), oM ad fu ft ff fs fa fb fn q1.1, ((ad 11), .inl (d 0, 16, .inl q1.2))] H locs := hw
  refine lv_aload_n hx hb dX9_mark21_6 rfl (lv_at hl 0 rfl) ?_
  refine lv_iload_n hx hb dX9_mark21_7 rfl (lv_at hl 1 rfl) ?_
  obtain ⟨q2, hcq2, hf⟩ := op_e hf
  refine x_VI (wr := [((ad 1), .inl (d 0, 1247, .inl Ww))]) (rest := []) [.int p1] hX cx hw hl.1 (mX9_mark20 l X hX D d ad fu ft ff fs fa fb fn q1.1 q1.2 p1 q2 hcq2) (lw_V q1651 q1653 qs76 q94 q1654) hd_X9_mark20 ⟨Nat.le_of_ble_eq_true rfl, Nat.le_of_ble_eq_true rfl⟩ (va_recv hK hw.1 (ci := 0) (q0 := 1) rfl rfl) rfl rfl (Nat.le_of_ble_eq_true rfl) dX9_mark21_8 [1, 2] [0] rfl rfl rfl rfl (by decide) ⟨(Nat.le_of_ble_eq_true rfl), (Nat.le_of_ble_eq_true rfl)⟩ (fun r u H locs hp hw => ?_)
  have hw : Wd D A s [((ad 1), .inl (d 0, 1247, .inl Ww)), oM ad fu ft ff fs fa fb fn q2.2.1, ((ad 11), .inl (d 0, 16, .inl q2.2.2))] H locs := hw
  subst r
  refine lv_aload_n hx hb dX9_mark21_11 rfl (lv_at hl 0 rfl) ?_
  refine va_get (ci := 0) (C := RX9) (T := TX9) (N := 19) hx hb hts in_X9 hown hK hw.1 1 rfl rfl 0 (by decide) (hts _ q1248) (fun _ h9 => h9) rfl dX9_mark21_12 ?_
  refine lv_bipush (v := 31) hx hb dX9_mark21_15 (by decide) ?_
  refine lv_iload_n hx hb dX9_mark21_17 rfl (lv_at hl 1 rfl) ?_
  refine lv_iadd hx hb dX9_mark21_18 ?_
  obtain ⟨v3, hv, hf⟩ := op_e hf
  refine x_iald (q0 := 0) cx hw rfl hv dX9_mark21_19 ?_
  refine lv_iadd hx hb dX9_mark21_20 ?_
  have hf := sm_e hf
  subst hf
  exact x_retI cx hw rfl () rfl [1, 0, 2] rfl rfl (Nat.le_of_ble_eq_true rfl) (Nat.le_of_ble_eq_true rfl) dX9_mark21_21
theorem hd_X9_markOf : yX9_markOf.cls = "DishLiftModel" ∧ yX9_markOf.cls ≠ "java/lang/invoke/MethodHandle" ∧ yX9_markOf.cls ≠ "java/lang/invoke/VarHandle" ∧ (parseMethodDescriptor yX9_markOf.desc).map (fun d => d.parameters.length) = some 1 := by decide +kernel
set_option maxHeartbeats 4000000 in
theorem mX9_markOf (l : Launch) (X : XT) (hX : XOK X) (D : va_G) (d : Nat → ClassId) (ad : Nat → Nat) (fu : Int32) (ft : Int32) (ff : Int32) (fs : Int32) (fa : Int32) (fb : Int32) (fn : Int32) (fr : Int32) (Ww : Nat → Int32) (TR : Nat → Int32) (p1 : Int32) (res : Int32 × Int32 × (Nat → Int32)) (hf : fX9_markOf Ww TR fr p1 = some res) : MetI l yX9_markOf (ws_ yX9_markOf cX9_markOf 2 (some .int)) { frames := 3, cells := 0, slots := 0, locals := 63 } [.ref (ad 0), .int p1] X D d [oM ad fu ft ff fs fa fb fn fr, ((ad 1), .inl (d 0, 1247, .inl Ww)), ((ad 11), .inl (d 0, 16, .inl TR))] (fun r (_ : Unit) => r = res.1) (fun _ => [oM ad fu ft ff fs fa fb fn res.2.1, ((ad 1), .inl (d 0, 1247, .inl Ww)), ((ad 11), .inl (d 0, 16, .inl res.2.2))]) := by
  refine MetI.of (by decide +kernel) (Nat.le_of_ble_eq_true rfl) ?_
  intro p e s m below meth c A cx hw ls hl
  have cx : Cx p s m _ meth c X D d A "DishLiftModel" cX9_markOf 2 (some .int) "markOf" := cx
  have cx' := cx
  obtain ⟨hx, hb, hr, hlk, hml, hown, hts, hK, hA, hXs, hnm⟩ := cx'
  have hl : lv_has ls 2 [(0, .ref (ad 0)), (1, .int p1)] := hl
  unfold fX9_markOf at hf
  refine lv_aload_n hx hb dX9_markOf_0 rfl (lv_at hl 0 rfl) ?_
  refine va_get (ci := 0) (C := RX9) (T := TX9) (N := 19) hx hb hts in_X9 hown hK hw.1 0 rfl rfl 0 (by decide) (hts _ q1248) (fun _ h9 => h9) rfl dX9_markOf_1 ?_
  refine lv_bipush (v := 7) hx hb dX9_markOf_4 (by decide) ?_
  refine lv_iload_n hx hb dX9_markOf_6 rfl (lv_at hl 1 rfl) ?_
  refine lv_iadd hx hb dX9_markOf_7 ?_
  obtain ⟨v1, hv, hf⟩ := op_e hf
  refine x_iald (q0 := 1) cx hw rfl hv dX9_markOf_8 ?_
  by_cases n2 : v1 = 2
  · have hf := if_t hf n2
    refine lv_lookup (off := 27) (tgt := 36) hx hb dX9_markOf_9 (by decide) (by rw [n2]; decide) (by decide) ?_
    refine lv_aload_n hx hb dX9_markOf_36 rfl (lv_at hl 0 rfl) ?_
    refine lv_bipush (v := 24) hx hb dX9_markOf_37 (by decide) ?_
    obtain ⟨q2, hcq2, hf⟩ := op_e hf
    refine x_VV (wr := [((ad 1), .inl (d 0, 1247, .inl Ww))]) (rest := []) [.int 24] hX cx hw hl.1 (mX9_traces l X hX D d ad fu ft ff fs fa fb fn fr TR 24 q2 hcq2) (lw_V q1631 q1633 qs71 q94 q1634) hd_X9_traces ⟨Nat.le_of_ble_eq_true rfl, Nat.le_of_ble_eq_true rfl⟩ (va_recv hK hw.1 (ci := 0) (q0 := 0) rfl rfl) rfl rfl (Nat.le_of_ble_eq_true rfl) dX9_markOf_39 [0, 2] [1] rfl rfl rfl rfl (by decide) ⟨(Nat.le_of_ble_eq_true rfl), (Nat.le_of_ble_eq_true rfl)⟩ (fun u H locs hp hw => ?_)
    have hw : Wd D A s [((ad 1), .inl (d 0, 1247, .inl Ww)), oM ad fu ft ff fs fa fb fn q2.1, ((ad 11), .inl (d 0, 16, .inl q2.2))] H locs := hw
    refine lv_iconst (v := 2) hx hb dX9_markOf_42 (by decide) ?_
    refine lv_aload_n hx hb dX9_markOf_43 rfl (lv_at hl 0 rfl) ?_
    refine lv_iload_n hx hb dX9_markOf_44 rfl (lv_at hl 1 rfl) ?_
    obtain ⟨q3, hcq3, hf⟩ := op_e hf
    refine x_VI (wr := []) (rest := [.int 2]) [.int p1] hX cx hw hl.1 (mX9_mark21 l X hX D d ad fu ft ff fs fa fb fn q2.1 Ww q2.2 p1 q3 hcq3) (lw_V q1647 q1649 qs75 q94 q1650) hd_X9_mark21 ⟨Nat.le_of_ble_eq_true rfl, Nat.le_of_ble_eq_true rfl⟩ (va_recv hK hw.1 (ci := 0) (q0 := 1) rfl rfl) rfl rfl (Nat.le_of_ble_eq_true rfl) dX9_markOf_45 [1, 0, 2] [] rfl rfl rfl rfl (by decide) ⟨(Nat.le_of_ble_eq_true rfl), (Nat.le_of_ble_eq_true rfl)⟩ (fun r u H locs hp hw => ?_)
    have hw : Wd D A s [oM ad fu ft ff fs fa fb fn q3.2.1, ((ad 1), .inl (d 0, 1247, .inl Ww)), ((ad 11), .inl (d 0, 16, .inl q3.2.2))] H locs := hw
    subst r
    refine lv_imul hx hb dX9_markOf_48 ?_
    have hf := sm_e hf
    subst hf
    exact x_retI cx hw rfl () rfl [0, 1, 2] rfl rfl (Nat.le_of_ble_eq_true rfl) (Nat.le_of_ble_eq_true rfl) dX9_markOf_49
  · have hf := if_f hf n2
    by_cases n3 : v1 = 3
    · have hf := if_t hf n3
      refine lv_lookup (off := 41) (tgt := 50) hx hb dX9_markOf_9 (by decide) (by rw [n3]; decide) (by decide) ?_
      refine lv_aload_n hx hb dX9_markOf_50 rfl (lv_at hl 0 rfl) ?_
      refine lv_bipush (v := 22) hx hb dX9_markOf_51 (by decide) ?_
      obtain ⟨q4, hcq4, hf⟩ := op_e hf
      refine x_VV (wr := [((ad 1), .inl (d 0, 1247, .inl Ww))]) (rest := []) [.int 22] hX cx hw hl.1 (mX9_traces l X hX D d ad fu ft ff fs fa fb fn fr TR 22 q4 hcq4) (lw_V q1631 q1633 qs71 q94 q1634) hd_X9_traces ⟨Nat.le_of_ble_eq_true rfl, Nat.le_of_ble_eq_true rfl⟩ (va_recv hK hw.1 (ci := 0) (q0 := 0) rfl rfl) rfl rfl (Nat.le_of_ble_eq_true rfl) dX9_markOf_53 [0, 2] [1] rfl rfl rfl rfl (by decide) ⟨(Nat.le_of_ble_eq_true rfl), (Nat.le_of_ble_eq_true rfl)⟩ (fun u H locs hp hw => ?_)
      have hw : Wd D A s [((ad 1), .inl (d 0, 1247, .inl Ww)), oM ad fu ft ff fs fa fb fn q4.1, ((ad 11), .inl (d 0, 16, .inl q4.2))] H locs := hw
      refine lv_aload_n hx hb dX9_markOf_56 rfl (lv_at hl 0 rfl) ?_
      refine lv_iload_n hx hb dX9_markOf_57 rfl (lv_at hl 1 rfl) ?_
      obtain ⟨q5, hcq5, hf⟩ := op_e hf
      refine x_VI (wr := []) (rest := []) [.int p1] hX cx hw hl.1 (mX9_mark21 l X hX D d ad fu ft ff fs fa fb fn q4.1 Ww q4.2 p1 q5 hcq5) (lw_V q1647 q1649 qs75 q94 q1650) hd_X9_mark21 ⟨Nat.le_of_ble_eq_true rfl, Nat.le_of_ble_eq_true rfl⟩ (va_recv hK hw.1 (ci := 0) (q0 := 1) rfl rfl) rfl rfl (Nat.le_of_ble_eq_true rfl) dX9_markOf_58 [1, 0, 2] [] rfl rfl rfl rfl (by decide) ⟨(Nat.le_of_ble_eq_true rfl), (Nat.le_of_ble_eq_true rfl)⟩ (fun r u H locs hp hw => ?_)
      have hw : Wd D A s [oM ad fu ft ff fs fa fb fn q5.2.1, ((ad 1), .inl (d 0, 1247, .inl Ww)), ((ad 11), .inl (d 0, 16, .inl q5.2.2))] H locs := hw
      subst r
      refine lv_sipush (v := 1000) hx hb dX9_markOf_61 (by decide) ?_
      refine lv_isub hx hb dX9_markOf_64 ?_
      have hf := sm_e hf
      subst hf
      exact x_retI cx hw rfl () rfl [0, 1, 2] rfl rfl (Nat.le_of_ble_eq_true rfl) (Nat.le_of_ble_eq_true rfl) dX9_markOf_65
    · have hf := if_f hf n3
      refine lv_lookup (off := 57) (tgt := 66) hx hb dX9_markOf_9 (by decide) ((lv_osw n2 (by decide)).trans ((lv_osw n3 (by decide)).trans rfl)) (by decide) ?_
      refine lv_aload_n hx hb dX9_markOf_66 rfl (lv_at hl 0 rfl) ?_
      refine lv_iload_n hx hb dX9_markOf_67 rfl (lv_at hl 1 rfl) ?_
      obtain ⟨q6, hcq6, hf⟩ := op_e hf
      refine x_VI (wr := []) (rest := []) [.int p1] hX cx hw hl.1 (mX9_mark21 l X hX D d ad fu ft ff fs fa fb fn fr Ww TR p1 q6 hcq6) (lw_V q1647 q1649 qs75 q94 q1650) hd_X9_mark21 ⟨Nat.le_of_ble_eq_true rfl, Nat.le_of_ble_eq_true rfl⟩ (va_recv hK hw.1 (ci := 0) (q0 := 0) rfl rfl) rfl rfl (Nat.le_of_ble_eq_true rfl) dX9_markOf_68 [0, 1, 2] [] rfl rfl rfl rfl (by decide) ⟨(Nat.le_of_ble_eq_true rfl), (Nat.le_of_ble_eq_true rfl)⟩ (fun r u H locs hp hw => ?_)
      have hw : Wd D A s [oM ad fu ft ff fs fa fb fn q6.2.1, ((ad 1), .inl (d 0, 1247, .inl Ww)), ((ad 11), .inl (d 0, 16, .inl q6.2.2))] H locs := hw
      subst r
      have hf := sm_e hf
      subst hf
      exact x_retI cx hw rfl () rfl [0, 1, 2] rfl rfl (Nat.le_of_ble_eq_true rfl) (Nat.le_of_ble_eq_true rfl) dX9_markOf_71
theorem hd_X9_size11 : yX9_size11.cls = "DishLiftModel" ∧ yX9_size11.cls ≠ "java/lang/invoke/MethodHandle" ∧ yX9_size11.cls ≠ "java/lang/invoke/VarHandle" ∧ (parseMethodDescriptor yX9_size11.desc).map (fun d => d.parameters.length) = some 1 := by decide +kernel
set_option maxHeartbeats 4000000 in
theorem mX9_size11 (l : Launch) (X : XT) (hX : XOK X) (D : va_G) (d : Nat → ClassId) (ad : Nat → Nat) (fu : Int32) (ft : Int32) (ff : Int32) (fs : Int32) (fa : Int32) (fb : Int32) (fn : Int32) (fr : Int32) (Ww : Nat → Int32) (TR : Nat → Int32) (p1 : Int32) (res : Int32 × Int32 × (Nat → Int32)) (hf : fX9_size11 Ww TR fr p1 = some res) : MetI l yX9_size11 (ws_ yX9_size11 cX9_size11 3 (some .int)) { frames := 4, cells := 0, slots := 0, locals := 84 } [.ref (ad 0), .int p1] X D d [oM ad fu ft ff fs fa fb fn fr, ((ad 1), .inl (d 0, 1247, .inl Ww)), ((ad 11), .inl (d 0, 16, .inl TR))] (fun r (_ : Unit) => r = res.1) (fun _ => [oM ad fu ft ff fs fa fb fn res.2.1, ((ad 1), .inl (d 0, 1247, .inl Ww)), ((ad 11), .inl (d 0, 16, .inl res.2.2))]) := by
  refine MetI.of (by decide +kernel) (Nat.le_of_ble_eq_true rfl) ?_
  intro p e s m below meth c A cx hw ls hl
  have cx : Cx p s m _ meth c X D d A "DishLiftModel" cX9_size11 3 (some .int) "size11" := cx
  have cx' := cx
  obtain ⟨hx, hb, hr, hlk, hml, hown, hts, hK, hA, hXs, hnm⟩ := cx'
  have hl : lv_has ls 3 [(0, .ref (ad 0)), (1, .int p1)] := hl
  unfold fX9_size11 at hf
  refine lv_aload_n hx hb dX9_size11_0 rfl (lv_at hl 0 rfl) ?_
  refine lv_bipush (v := 11) hx hb dX9_size11_1 (by decide) ?_
  obtain ⟨q1, hcq1, hf⟩ := op_e hf
  refine x_VV (wr := [((ad 1), .inl (d 0, 1247, .inl Ww))]) (rest := []) [.int 11] hX cx hw hl.1 (mX9_traces l X hX D d ad fu ft ff fs fa fb fn fr TR 11 q1 hcq1) (lw_V q1631 q1633 qs71 q94 q1634) hd_X9_traces ⟨Nat.le_of_ble_eq_true rfl, Nat.le_of_ble_eq_true rfl⟩ (va_recv hK hw.1 (ci := 0) (q0 := 0) rfl rfl) rfl rfl (Nat.le_of_ble_eq_true rfl) dX9_size11_3 [0, 2] [1] rfl rfl rfl rfl (by decide) ⟨(Nat.le_of_ble_eq_true rfl), (Nat.le_of_ble_eq_true rfl)⟩ (fun u H locs hp hw => ?_)
  have hw : Wd D A s [((ad 1), .inl (d 0, 1247, .inl Ww)), oM ad fu ft ff fs fa fb fn q1.1, ((ad 11), .inl (d 0, 16, .inl q1.2))] H locs := hw
  refine lv_aload_n hx hb dX9_size11_6 rfl (lv_at hl 0 rfl) ?_
  refine lv_iload_n hx hb dX9_size11_7 rfl (lv_at hl 1 rfl) ?_
  obtain ⟨q2, hcq2, hf⟩ := op_e hf
  refine x_VI (wr := []) (rest := []) [.int p1] hX cx hw hl.1 (mX9_size10 l X hX D d ad fu ft ff fs fa fb fn q1.1 Ww q1.2 p1 q2 hcq2) (lw_V q1639 q1641 qs73 q94 q1642) hd_X9_size10 ⟨Nat.le_of_ble_eq_true rfl, Nat.le_of_ble_eq_true rfl⟩ (va_recv hK hw.1 (ci := 0) (q0 := 1) rfl rfl) rfl rfl (Nat.le_of_ble_eq_true rfl) dX9_size11_8 [1, 0, 2] [] rfl rfl rfl rfl (by decide) ⟨(Nat.le_of_ble_eq_true rfl), (Nat.le_of_ble_eq_true rfl)⟩ (fun r u H locs hp hw => ?_)
  have hw : Wd D A s [oM ad fu ft ff fs fa fb fn q2.2.1, ((ad 1), .inl (d 0, 1247, .inl Ww)), ((ad 11), .inl (d 0, 16, .inl q2.2.2))] H locs := hw
  subst r
  refine lv_istore_n (lv' := [(2, .int q2.1), (0, .ref (ad 0)), (1, .int p1)]) hx hb dX9_size11_11 rfl hl (by decide) rfl (fun ls hl => ?_)
  refine lv_iload_n hx hb dX9_size11_12 rfl (lv_at hl 0 rfl) ?_
  refine lv_aload_n hx hb dX9_size11_13 rfl (lv_at hl 1 rfl) ?_
  refine lv_iload_n hx hb dX9_size11_14 rfl (lv_at hl 2 rfl) ?_
  obtain ⟨q3, hcq3, hf⟩ := op_e hf
  refine x_VI (wr := []) (rest := [.int q2.1]) [.int p1] hX cx hw hl.1 (mX9_markOf l X hX D d ad fu ft ff fs fa fb fn q2.2.1 Ww q2.2.2 p1 q3 hcq3) (lw_V q1643 q1645 qs74 q94 q1646) hd_X9_markOf ⟨Nat.le_of_ble_eq_true rfl, Nat.le_of_ble_eq_true rfl⟩ (va_recv hK hw.1 (ci := 0) (q0 := 0) rfl rfl) rfl rfl (Nat.le_of_ble_eq_true rfl) dX9_size11_15 [0, 1, 2] [] rfl rfl rfl rfl (by decide) ⟨(Nat.le_of_ble_eq_true rfl), (Nat.le_of_ble_eq_true rfl)⟩ (fun r u H locs hp hw => ?_)
  have hw : Wd D A s [oM ad fu ft ff fs fa fb fn q3.2.1, ((ad 1), .inl (d 0, 1247, .inl Ww)), ((ad 11), .inl (d 0, 16, .inl q3.2.2))] H locs := hw
  subst r
  refine lv_iadd hx hb dX9_size11_18 ?_
  have hf := sm_e hf
  subst hf
  exact x_retI cx hw rfl () rfl [0, 1, 2] rfl rfl (Nat.le_of_ble_eq_true rfl) (Nat.le_of_ble_eq_true rfl) dX9_size11_19
theorem hd_X9_size13 : yX9_size13.cls = "DishLiftModel" ∧ yX9_size13.cls ≠ "java/lang/invoke/MethodHandle" ∧ yX9_size13.cls ≠ "java/lang/invoke/VarHandle" ∧ (parseMethodDescriptor yX9_size13.desc).map (fun d => d.parameters.length) = some 1 := by decide +kernel
set_option maxHeartbeats 4000000 in
theorem mX9_size13 (l : Launch) (X : XT) (hX : XOK X) (D : va_G) (d : Nat → ClassId) (ad : Nat → Nat) (fu : Int32) (ft : Int32) (ff : Int32) (fs : Int32) (fa : Int32) (fb : Int32) (fn : Int32) (fr : Int32) (Ww : Nat → Int32) (TR : Nat → Int32) (p1 : Int32) (res : Int32 × Int32 × (Nat → Int32)) (hf : fX9_size13 Ww TR fr p1 = some res) : MetI l yX9_size13 (ws_ yX9_size13 cX9_size13 2 (some .int)) { frames := 2, cells := 0, slots := 0, locals := 42 } [.ref (ad 0), .int p1] X D d [oM ad fu ft ff fs fa fb fn fr, ((ad 1), .inl (d 0, 1247, .inl Ww)), ((ad 11), .inl (d 0, 16, .inl TR))] (fun r (_ : Unit) => r = res.1) (fun _ => [oM ad fu ft ff fs fa fb fn res.2.1, ((ad 1), .inl (d 0, 1247, .inl Ww)), ((ad 11), .inl (d 0, 16, .inl res.2.2))]) := by
  refine MetI.of (by decide +kernel) (Nat.le_of_ble_eq_true rfl) ?_
  intro p e s m below meth c A cx hw ls hl
  have cx : Cx p s m _ meth c X D d A "DishLiftModel" cX9_size13 2 (some .int) "size13" := cx
  have cx' := cx
  obtain ⟨hx, hb, hr, hlk, hml, hown, hts, hK, hA, hXs, hnm⟩ := cx'
  have hl : lv_has ls 2 [(0, .ref (ad 0)), (1, .int p1)] := hl
  unfold fX9_size13 at hf
  refine lv_aload_n hx hb dX9_size13_0 rfl (lv_at hl 0 rfl) ?_
  refine lv_bipush (v := 13) hx hb dX9_size13_1 (by decide) ?_
  obtain ⟨q1, hcq1, hf⟩ := op_e hf
  refine x_VV (wr := [((ad 1), .inl (d 0, 1247, .inl Ww))]) (rest := []) [.int 13] hX cx hw hl.1 (mX9_traces l X hX D d ad fu ft ff fs fa fb fn fr TR 13 q1 hcq1) (lw_V q1631 q1633 qs71 q94 q1634) hd_X9_traces ⟨Nat.le_of_ble_eq_true rfl, Nat.le_of_ble_eq_true rfl⟩ (va_recv hK hw.1 (ci := 0) (q0 := 0) rfl rfl) rfl rfl (Nat.le_of_ble_eq_true rfl) dX9_size13_3 [0, 2] [1] rfl rfl rfl rfl (by decide) ⟨(Nat.le_of_ble_eq_true rfl), (Nat.le_of_ble_eq_true rfl)⟩ (fun u H locs hp hw => ?_)
  have hw : Wd D A s [((ad 1), .inl (d 0, 1247, .inl Ww)), oM ad fu ft ff fs fa fb fn q1.1, ((ad 11), .inl (d 0, 16, .inl q1.2))] H locs := hw
  refine lv_aload_n hx hb dX9_size13_6 rfl (lv_at hl 0 rfl) ?_
  refine lv_iload_n hx hb dX9_size13_7 rfl (lv_at hl 1 rfl) ?_
  obtain ⟨q2, hcq2, hf⟩ := op_e hf
  refine x_VI (wr := []) (rest := []) [.int p1] hX cx hw hl.1 (mX9_size10 l X hX D d ad fu ft ff fs fa fb fn q1.1 Ww q1.2 p1 q2 hcq2) (lw_V q1639 q1641 qs73 q94 q1642) hd_X9_size10 ⟨Nat.le_of_ble_eq_true rfl, Nat.le_of_ble_eq_true rfl⟩ (va_recv hK hw.1 (ci := 0) (q0 := 1) rfl rfl) rfl rfl (Nat.le_of_ble_eq_true rfl) dX9_size13_8 [1, 0, 2] [] rfl rfl rfl rfl (by decide) ⟨(Nat.le_of_ble_eq_true rfl), (Nat.le_of_ble_eq_true rfl)⟩ (fun r u H locs hp hw => ?_)
  have hw : Wd D A s [oM ad fu ft ff fs fa fb fn q2.2.1, ((ad 1), .inl (d 0, 1247, .inl Ww)), ((ad 11), .inl (d 0, 16, .inl q2.2.2))] H locs := hw
  subst r
  refine lv_bipush (v := 100) hx hb dX9_size13_11 (by decide) ?_
  refine lv_isub hx hb dX9_size13_13 ?_
  have hf := sm_e hf
  subst hf
  exact x_retI cx hw rfl () rfl [0, 1, 2] rfl rfl (Nat.le_of_ble_eq_true rfl) (Nat.le_of_ble_eq_true rfl) dX9_size13_14
theorem hd_X9_sizeOf : yX9_sizeOf.cls = "DishLiftModel" ∧ yX9_sizeOf.cls ≠ "java/lang/invoke/MethodHandle" ∧ yX9_sizeOf.cls ≠ "java/lang/invoke/VarHandle" ∧ (parseMethodDescriptor yX9_sizeOf.desc).map (fun d => d.parameters.length) = some 1 := by decide +kernel
set_option maxHeartbeats 4000000 in
theorem mX9_sizeOf (l : Launch) (X : XT) (hX : XOK X) (D : va_G) (d : Nat → ClassId) (ad : Nat → Nat) (fu : Int32) (ft : Int32) (ff : Int32) (fs : Int32) (fa : Int32) (fb : Int32) (fn : Int32) (fr : Int32) (Ww : Nat → Int32) (TR : Nat → Int32) (p1 : Int32) (res : Int32 × Int32 × (Nat → Int32)) (hf : fX9_sizeOf Ww TR fr p1 = some res) : MetI l yX9_sizeOf (ws_ yX9_sizeOf cX9_sizeOf 2 (some .int)) { frames := 5, cells := 0, slots := 0, locals := 106 } [.ref (ad 0), .int p1] X D d [oM ad fu ft ff fs fa fb fn fr, ((ad 1), .inl (d 0, 1247, .inl Ww)), ((ad 11), .inl (d 0, 16, .inl TR))] (fun r (_ : Unit) => r = res.1) (fun _ => [oM ad fu ft ff fs fa fb fn res.2.1, ((ad 1), .inl (d 0, 1247, .inl Ww)), ((ad 11), .inl (d 0, 16, .inl res.2.2))]) := by
  refine MetI.of (by decide +kernel) (Nat.le_of_ble_eq_true rfl) ?_
  intro p e s m below meth c A cx hw ls hl
  have cx : Cx p s m _ meth c X D d A "DishLiftModel" cX9_sizeOf 2 (some .int) "sizeOf" := cx
  have cx' := cx
  obtain ⟨hx, hb, hr, hlk, hml, hown, hts, hK, hA, hXs, hnm⟩ := cx'
  have hl : lv_has ls 2 [(0, .ref (ad 0)), (1, .int p1)] := hl
  unfold fX9_sizeOf at hf
  refine lv_aload_n hx hb dX9_sizeOf_0 rfl (lv_at hl 0 rfl) ?_
  refine va_get (ci := 0) (C := RX9) (T := TX9) (N := 19) hx hb hts in_X9 hown hK hw.1 0 rfl rfl 0 (by decide) (hts _ q1248) (fun _ h9 => h9) rfl dX9_sizeOf_1 ?_
  refine lv_bipush (v := 7) hx hb dX9_sizeOf_4 (by decide) ?_
  refine lv_iload_n hx hb dX9_sizeOf_6 rfl (lv_at hl 1 rfl) ?_
  refine lv_iadd hx hb dX9_sizeOf_7 ?_
  obtain ⟨v1, hv, hf⟩ := op_e hf
  refine x_iald (q0 := 1) cx hw rfl hv dX9_sizeOf_8 ?_
  by_cases n2 : v1 = 2
  · have hf := if_t hf n2
    refine lv_tableIn (tgt := 40) hx hb dX9_sizeOf_9 (by rw [n2]; decide) (by rw [n2]; decide) (by rw [n2]; rfl) (by decide) ?_
    refine lv_aload_n hx hb dX9_sizeOf_40 rfl (lv_at hl 0 rfl) ?_
    refine lv_bipush (v := 12) hx hb dX9_sizeOf_41 (by decide) ?_
    obtain ⟨q2, hcq2, hf⟩ := op_e hf
    refine x_VV (wr := [((ad 1), .inl (d 0, 1247, .inl Ww))]) (rest := []) [.int 12] hX cx hw hl.1 (mX9_traces l X hX D d ad fu ft ff fs fa fb fn fr TR 12 q2 hcq2) (lw_V q1631 q1633 qs71 q94 q1634) hd_X9_traces ⟨Nat.le_of_ble_eq_true rfl, Nat.le_of_ble_eq_true rfl⟩ (va_recv hK hw.1 (ci := 0) (q0 := 0) rfl rfl) rfl rfl (Nat.le_of_ble_eq_true rfl) dX9_sizeOf_43 [0, 2] [1] rfl rfl rfl rfl (by decide) ⟨(Nat.le_of_ble_eq_true rfl), (Nat.le_of_ble_eq_true rfl)⟩ (fun u H locs hp hw => ?_)
    have hw : Wd D A s [((ad 1), .inl (d 0, 1247, .inl Ww)), oM ad fu ft ff fs fa fb fn q2.1, ((ad 11), .inl (d 0, 16, .inl q2.2))] H locs := hw
    refine lv_aload_n hx hb dX9_sizeOf_46 rfl (lv_at hl 0 rfl) ?_
    refine lv_iload_n hx hb dX9_sizeOf_47 rfl (lv_at hl 1 rfl) ?_
    obtain ⟨q3, hcq3, hf⟩ := op_e hf
    refine x_VI (wr := []) (rest := []) [.int p1] hX cx hw hl.1 (mX9_size11 l X hX D d ad fu ft ff fs fa fb fn q2.1 Ww q2.2 p1 q3 hcq3) (lw_V q1635 q1637 qs72 q94 q1638) hd_X9_size11 ⟨Nat.le_of_ble_eq_true rfl, Nat.le_of_ble_eq_true rfl⟩ (va_recv hK hw.1 (ci := 0) (q0 := 1) rfl rfl) rfl rfl (Nat.le_of_ble_eq_true rfl) dX9_sizeOf_48 [1, 0, 2] [] rfl rfl rfl rfl (by decide) ⟨(Nat.le_of_ble_eq_true rfl), (Nat.le_of_ble_eq_true rfl)⟩ (fun r u H locs hp hw => ?_)
    have hw : Wd D A s [oM ad fu ft ff fs fa fb fn q3.2.1, ((ad 1), .inl (d 0, 1247, .inl Ww)), ((ad 11), .inl (d 0, 16, .inl q3.2.2))] H locs := hw
    subst r
    refine lv_ineg hx hb dX9_sizeOf_51 ?_
    have hf := sm_e hf
    subst hf
    exact x_retI cx hw rfl () rfl [0, 1, 2] rfl rfl (Nat.le_of_ble_eq_true rfl) (Nat.le_of_ble_eq_true rfl) dX9_sizeOf_52
  · have hf := if_f hf n2
    by_cases n3 : v1 = 3
    · have hf := if_t hf n3
      refine lv_tableIn (tgt := 73) hx hb dX9_sizeOf_9 (by rw [n3]; decide) (by rw [n3]; decide) (by rw [n3]; rfl) (by decide) ?_
      refine lv_aload_n hx hb dX9_sizeOf_73 rfl (lv_at hl 0 rfl) ?_
      refine lv_iload_n hx hb dX9_sizeOf_74 rfl (lv_at hl 1 rfl) ?_
      obtain ⟨q4, hcq4, hf⟩ := op_e hf
      refine x_VI (wr := []) (rest := []) [.int p1] hX cx hw hl.1 (mX9_size11 l X hX D d ad fu ft ff fs fa fb fn fr Ww TR p1 q4 hcq4) (lw_V q1635 q1637 qs72 q94 q1638) hd_X9_size11 ⟨Nat.le_of_ble_eq_true rfl, Nat.le_of_ble_eq_true rfl⟩ (va_recv hK hw.1 (ci := 0) (q0 := 0) rfl rfl) rfl rfl (Nat.le_of_ble_eq_true rfl) dX9_sizeOf_75 [0, 1, 2] [] rfl rfl rfl rfl (by decide) ⟨(Nat.le_of_ble_eq_true rfl), (Nat.le_of_ble_eq_true rfl)⟩ (fun r u H locs hp hw => ?_)
      have hw : Wd D A s [oM ad fu ft ff fs fa fb fn q4.2.1, ((ad 1), .inl (d 0, 1247, .inl Ww)), ((ad 11), .inl (d 0, 16, .inl q4.2.2))] H locs := hw
      subst r
      have hf := sm_e hf
      subst hf
      exact x_retI cx hw rfl () rfl [0, 1, 2] rfl rfl (Nat.le_of_ble_eq_true rfl) (Nat.le_of_ble_eq_true rfl) dX9_sizeOf_78
    · have hf := if_f hf n3
      by_cases n4 : v1 = 4
      · have hf := if_t hf n4
        refine lv_tableIn (tgt := 53) hx hb dX9_sizeOf_9 (by rw [n4]; decide) (by rw [n4]; decide) (by rw [n4]; rfl) (by decide) ?_
        refine lv_aload_n hx hb dX9_sizeOf_53 rfl (lv_at hl 0 rfl) ?_
        refine lv_iload_n hx hb dX9_sizeOf_54 rfl (lv_at hl 1 rfl) ?_
        obtain ⟨q5, hcq5, hf⟩ := op_e hf
        refine x_VI (wr := []) (rest := []) [.int p1] hX cx hw hl.1 (mX9_size13 l X hX D d ad fu ft ff fs fa fb fn fr Ww TR p1 q5 hcq5) (lw_V q1655 q1657 qs77 q94 q1658) hd_X9_size13 ⟨Nat.le_of_ble_eq_true rfl, Nat.le_of_ble_eq_true rfl⟩ (va_recv hK hw.1 (ci := 0) (q0 := 0) rfl rfl) rfl rfl (Nat.le_of_ble_eq_true rfl) dX9_sizeOf_55 [0, 1, 2] [] rfl rfl rfl rfl (by decide) ⟨(Nat.le_of_ble_eq_true rfl), (Nat.le_of_ble_eq_true rfl)⟩ (fun r u H locs hp hw => ?_)
        have hw : Wd D A s [oM ad fu ft ff fs fa fb fn q5.2.1, ((ad 1), .inl (d 0, 1247, .inl Ww)), ((ad 11), .inl (d 0, 16, .inl q5.2.2))] H locs := hw
        subst r
        have hf := sm_e hf
        subst hf
        exact x_retI cx hw rfl () rfl [0, 1, 2] rfl rfl (Nat.le_of_ble_eq_true rfl) (Nat.le_of_ble_eq_true rfl) dX9_sizeOf_58
      · have hf := if_f hf n4
        by_cases n5 : v1 = 5
        · have hf := if_t hf n5
          refine lv_tableIn (tgt := 59) hx hb dX9_sizeOf_9 (by rw [n5]; decide) (by rw [n5]; decide) (by rw [n5]; rfl) (by decide) ?_
          refine lv_aload_n hx hb dX9_sizeOf_59 rfl (lv_at hl 0 rfl) ?_
          refine lv_bipush (v := 14) hx hb dX9_sizeOf_60 (by decide) ?_
          obtain ⟨q6, hcq6, hf⟩ := op_e hf
          refine x_VV (wr := [((ad 1), .inl (d 0, 1247, .inl Ww))]) (rest := []) [.int 14] hX cx hw hl.1 (mX9_traces l X hX D d ad fu ft ff fs fa fb fn fr TR 14 q6 hcq6) (lw_V q1631 q1633 qs71 q94 q1634) hd_X9_traces ⟨Nat.le_of_ble_eq_true rfl, Nat.le_of_ble_eq_true rfl⟩ (va_recv hK hw.1 (ci := 0) (q0 := 0) rfl rfl) rfl rfl (Nat.le_of_ble_eq_true rfl) dX9_sizeOf_62 [0, 2] [1] rfl rfl rfl rfl (by decide) ⟨(Nat.le_of_ble_eq_true rfl), (Nat.le_of_ble_eq_true rfl)⟩ (fun u H locs hp hw => ?_)
          have hw : Wd D A s [((ad 1), .inl (d 0, 1247, .inl Ww)), oM ad fu ft ff fs fa fb fn q6.1, ((ad 11), .inl (d 0, 16, .inl q6.2))] H locs := hw
          refine lv_iconst (v := 2) hx hb dX9_sizeOf_65 (by decide) ?_
          refine lv_aload_n hx hb dX9_sizeOf_66 rfl (lv_at hl 0 rfl) ?_
          refine lv_iload_n hx hb dX9_sizeOf_67 rfl (lv_at hl 1 rfl) ?_
          obtain ⟨q7, hcq7, hf⟩ := op_e hf
          refine x_VI (wr := []) (rest := [.int 2]) [.int p1] hX cx hw hl.1 (mX9_size13 l X hX D d ad fu ft ff fs fa fb fn q6.1 Ww q6.2 p1 q7 hcq7) (lw_V q1655 q1657 qs77 q94 q1658) hd_X9_size13 ⟨Nat.le_of_ble_eq_true rfl, Nat.le_of_ble_eq_true rfl⟩ (va_recv hK hw.1 (ci := 0) (q0 := 1) rfl rfl) rfl rfl (Nat.le_of_ble_eq_true rfl) dX9_sizeOf_68 [1, 0, 2] [] rfl rfl rfl rfl (by decide) ⟨(Nat.le_of_ble_eq_true rfl), (Nat.le_of_ble_eq_true rfl)⟩ (fun r u H locs hp hw => ?_)
          have hw : Wd D A s [oM ad fu ft ff fs fa fb fn q7.2.1, ((ad 1), .inl (d 0, 1247, .inl Ww)), ((ad 11), .inl (d 0, 16, .inl q7.2.2))] H locs := hw
          subst r
          refine lv_imul hx hb dX9_sizeOf_71 ?_
          have hf := sm_e hf
          subst hf
          exact x_retI cx hw rfl () rfl [0, 1, 2] rfl rfl (Nat.le_of_ble_eq_true rfl) (Nat.le_of_ble_eq_true rfl) dX9_sizeOf_72
        · have hf := if_f hf n5
          have t2 := lv_neT (a := 2) n2 (by decide)
          have t3 := lv_neT (a := 3) n3 (by decide)
          have t4 := lv_neT (a := 4) n4 (by decide)
          have t5 := lv_neT (a := 5) n5 (by decide)
          refine lv_tableOut (tgt := 73) hx hb dX9_sizeOf_9 (by omega) (by decide) ?_
          refine lv_aload_n hx hb dX9_sizeOf_73 rfl (lv_at hl 0 rfl) ?_
          refine lv_iload_n hx hb dX9_sizeOf_74 rfl (lv_at hl 1 rfl) ?_
          obtain ⟨q8, hcq8, hf⟩ := op_e hf
          refine x_VI (wr := []) (rest := []) [.int p1] hX cx hw hl.1 (mX9_size11 l X hX D d ad fu ft ff fs fa fb fn fr Ww TR p1 q8 hcq8) (lw_V q1635 q1637 qs72 q94 q1638) hd_X9_size11 ⟨Nat.le_of_ble_eq_true rfl, Nat.le_of_ble_eq_true rfl⟩ (va_recv hK hw.1 (ci := 0) (q0 := 0) rfl rfl) rfl rfl (Nat.le_of_ble_eq_true rfl) dX9_sizeOf_75 [0, 1, 2] [] rfl rfl rfl rfl (by decide) ⟨(Nat.le_of_ble_eq_true rfl), (Nat.le_of_ble_eq_true rfl)⟩ (fun r u H locs hp hw => ?_)
          have hw : Wd D A s [oM ad fu ft ff fs fa fb fn q8.2.1, ((ad 1), .inl (d 0, 1247, .inl Ww)), ((ad 11), .inl (d 0, 16, .inl q8.2.2))] H locs := hw
          subst r
          have hf := sm_e hf
          subst hf
          exact x_retI cx hw rfl () rfl [0, 1, 2] rfl rfl (Nat.le_of_ble_eq_true rfl) (Nat.le_of_ble_eq_true rfl) dX9_sizeOf_78
theorem hd_X9_mark23 : yX9_mark23.cls = "DishLiftModel" ∧ yX9_mark23.cls ≠ "java/lang/invoke/MethodHandle" ∧ yX9_mark23.cls ≠ "java/lang/invoke/VarHandle" ∧ (parseMethodDescriptor yX9_mark23.desc).map (fun d => d.parameters.length) = some 1 := by decide +kernel
set_option maxHeartbeats 4000000 in
theorem mX9_mark23 (l : Launch) (X : XT) (hX : XOK X) (D : va_G) (d : Nat → ClassId) (ad : Nat → Nat) (fu : Int32) (ft : Int32) (ff : Int32) (fs : Int32) (fa : Int32) (fb : Int32) (fn : Int32) (fr : Int32) (Ww : Nat → Int32) (TR : Nat → Int32) (p1 : Int32) (res : Int32 × Int32 × (Nat → Int32)) (hf : fX9_mark23 Ww TR fr p1 = some res) : MetI l yX9_mark23 (ws_ yX9_mark23 cX9_mark23 3 (some .int)) { frames := 6, cells := 0, slots := 0, locals := 127 } [.ref (ad 0), .int p1] X D d [oM ad fu ft ff fs fa fb fn fr, ((ad 1), .inl (d 0, 1247, .inl Ww)), ((ad 11), .inl (d 0, 16, .inl TR))] (fun r (_ : Unit) => r = res.1) (fun _ => [oM ad fu ft ff fs fa fb fn res.2.1, ((ad 1), .inl (d 0, 1247, .inl Ww)), ((ad 11), .inl (d 0, 16, .inl res.2.2))]) := by
  refine MetI.of (by decide +kernel) (Nat.le_of_ble_eq_true rfl) ?_
  intro p e s m below meth c A cx hw ls hl
  have cx : Cx p s m _ meth c X D d A "DishLiftModel" cX9_mark23 3 (some .int) "mark23" := cx
  have cx' := cx
  obtain ⟨hx, hb, hr, hlk, hml, hown, hts, hK, hA, hXs, hnm⟩ := cx'
  have hl : lv_has ls 3 [(0, .ref (ad 0)), (1, .int p1)] := hl
  unfold fX9_mark23 at hf
  refine lv_aload_n hx hb dX9_mark23_0 rfl (lv_at hl 0 rfl) ?_
  refine lv_bipush (v := 23) hx hb dX9_mark23_1 (by decide) ?_
  obtain ⟨q1, hcq1, hf⟩ := op_e hf
  refine x_VV (wr := [((ad 1), .inl (d 0, 1247, .inl Ww))]) (rest := []) [.int 23] hX cx hw hl.1 (mX9_traces l X hX D d ad fu ft ff fs fa fb fn fr TR 23 q1 hcq1) (lw_V q1631 q1633 qs71 q94 q1634) hd_X9_traces ⟨Nat.le_of_ble_eq_true rfl, Nat.le_of_ble_eq_true rfl⟩ (va_recv hK hw.1 (ci := 0) (q0 := 0) rfl rfl) rfl rfl (Nat.le_of_ble_eq_true rfl) dX9_mark23_3 [0, 2] [1] rfl rfl rfl rfl (by decide) ⟨(Nat.le_of_ble_eq_true rfl), (Nat.le_of_ble_eq_true rfl)⟩ (fun u H locs hp hw => ?_)
  have hw : Wd D A s [((ad 1), .inl (d 0, 1247, .inl Ww)), oM ad fu ft ff fs fa fb fn q1.1, ((ad 11), .inl (d 0, 16, .inl q1.2))] H locs := hw
  refine lv_aload_n hx hb dX9_mark23_6 rfl (lv_at hl 0 rfl) ?_
  refine lv_iload_n hx hb dX9_mark23_7 rfl (lv_at hl 1 rfl) ?_
  obtain ⟨q2, hcq2, hf⟩ := op_e hf
  refine x_VI (wr := [((ad 1), .inl (d 0, 1247, .inl Ww))]) (rest := []) [.int p1] hX cx hw hl.1 (mX9_mark20 l X hX D d ad fu ft ff fs fa fb fn q1.1 q1.2 p1 q2 hcq2) (lw_V q1651 q1653 qs76 q94 q1654) hd_X9_mark20 ⟨Nat.le_of_ble_eq_true rfl, Nat.le_of_ble_eq_true rfl⟩ (va_recv hK hw.1 (ci := 0) (q0 := 1) rfl rfl) rfl rfl (Nat.le_of_ble_eq_true rfl) dX9_mark23_8 [1, 2] [0] rfl rfl rfl rfl (by decide) ⟨(Nat.le_of_ble_eq_true rfl), (Nat.le_of_ble_eq_true rfl)⟩ (fun r u H locs hp hw => ?_)
  have hw : Wd D A s [((ad 1), .inl (d 0, 1247, .inl Ww)), oM ad fu ft ff fs fa fb fn q2.2.1, ((ad 11), .inl (d 0, 16, .inl q2.2.2))] H locs := hw
  subst r
  refine lv_istore_n (lv' := [(2, .int q2.1), (0, .ref (ad 0)), (1, .int p1)]) hx hb dX9_mark23_11 rfl hl (by decide) rfl (fun ls hl => ?_)
  refine lv_iload_n hx hb dX9_mark23_12 rfl (lv_at hl 0 rfl) ?_
  refine lv_aload_n hx hb dX9_mark23_13 rfl (lv_at hl 1 rfl) ?_
  refine lv_iload_n hx hb dX9_mark23_14 rfl (lv_at hl 2 rfl) ?_
  obtain ⟨q3, hcq3, hf⟩ := op_e hf
  refine x_VI (wr := []) (rest := [.int q2.1]) [.int p1] hX cx hw hl.1 (mX9_sizeOf l X hX D d ad fu ft ff fs fa fb fn q2.2.1 Ww q2.2.2 p1 q3 hcq3) (lw_V q1627 q1629 qs70 q94 q1630) hd_X9_sizeOf ⟨Nat.le_of_ble_eq_true rfl, Nat.le_of_ble_eq_true rfl⟩ (va_recv hK hw.1 (ci := 0) (q0 := 1) rfl rfl) rfl rfl (Nat.le_of_ble_eq_true rfl) dX9_mark23_15 [1, 0, 2] [] rfl rfl rfl rfl (by decide) ⟨(Nat.le_of_ble_eq_true rfl), (Nat.le_of_ble_eq_true rfl)⟩ (fun r u H locs hp hw => ?_)
  have hw : Wd D A s [oM ad fu ft ff fs fa fb fn q3.2.1, ((ad 1), .inl (d 0, 1247, .inl Ww)), ((ad 11), .inl (d 0, 16, .inl q3.2.2))] H locs := hw
  subst r
  refine lv_isub hx hb dX9_mark23_18 ?_
  have hf := sm_e hf
  subst hf
  exact x_retI cx hw rfl () rfl [0, 1, 2] rfl rfl (Nat.le_of_ble_eq_true rfl) (Nat.le_of_ble_eq_true rfl) dX9_mark23_19
theorem hd_X9_ask : yX9_ask.cls = "DishLiftModel" ∧ yX9_ask.cls ≠ "java/lang/invoke/MethodHandle" ∧ yX9_ask.cls ≠ "java/lang/invoke/VarHandle" ∧ (parseMethodDescriptor yX9_ask.desc).map (fun d => d.parameters.length) = some 2 := by decide +kernel
set_option maxHeartbeats 4000000 in
theorem mX9_ask (l : Launch) (X : XT) (hX : XOK X) (D : va_G) (d : Nat → ClassId) (ad : Nat → Nat) (fu : Int32) (ft : Int32) (ff : Int32) (fs : Int32) (fa : Int32) (fb : Int32) (fn : Int32) (fr : Int32) (Ww : Nat → Int32) (TR : Nat → Int32) (p1 : Int32) (p2 : Int32) (res : Int32 × Int32 × (Nat → Int32)) (hf : fX9_ask Ww TR fr p1 p2 = some res) : MetI l yX9_ask (ws_ yX9_ask cX9_ask 3 (some .int)) { frames := 7, cells := 0, slots := 0, locals := 149 } [.ref (ad 0), .int p1, .int p2] X D d [oM ad fu ft ff fs fa fb fn fr, ((ad 1), .inl (d 0, 1247, .inl Ww)), ((ad 11), .inl (d 0, 16, .inl TR))] (fun r (_ : Unit) => r = res.1) (fun _ => [oM ad fu ft ff fs fa fb fn res.2.1, ((ad 1), .inl (d 0, 1247, .inl Ww)), ((ad 11), .inl (d 0, 16, .inl res.2.2))]) := by
  refine MetI.of (by decide +kernel) (Nat.le_of_ble_eq_true rfl) ?_
  intro p e s m below meth c A cx hw ls hl
  have cx : Cx p s m _ meth c X D d A "DishLiftModel" cX9_ask 3 (some .int) "ask" := cx
  have cx' := cx
  obtain ⟨hx, hb, hr, hlk, hml, hown, hts, hK, hA, hXs, hnm⟩ := cx'
  have hl : lv_has ls 3 [(0, .ref (ad 0)), (1, .int p1), (2, .int p2)] := hl
  unfold fX9_ask at hf
  refine lv_aload_n hx hb dX9_ask_0 rfl (lv_at hl 0 rfl) ?_
  refine lv_iload_n hx hb dX9_ask_1 rfl (lv_at hl 1 rfl) ?_
  obtain ⟨q1, hcq1, hf⟩ := op_e hf
  refine x_VI (wr := [((ad 11), .inl (d 0, 16, .inl TR))]) (rest := []) [.int p1] hX cx hw hl.1 (mX9_isDish l X hX D d ad fu ft ff fs fa fb fn fr Ww p1 q1 hcq1) (lw_V q1475 q1477 qs58 q94 q1478) hd_X9_isDish ⟨Nat.le_of_ble_eq_true rfl, Nat.le_of_ble_eq_true rfl⟩ (va_recv hK hw.1 (ci := 0) (q0 := 0) rfl rfl) rfl rfl (Nat.le_of_ble_eq_true rfl) dX9_ask_2 [0, 1] [2] rfl rfl rfl rfl (by decide) ⟨(Nat.le_of_ble_eq_true rfl), (Nat.le_of_ble_eq_true rfl)⟩ (fun r u H locs hp hw => ?_)
  have hw : Wd D A s [((ad 11), .inl (d 0, 16, .inl TR)), oM ad fu ft ff fs fa fb fn fr, ((ad 1), .inl (d 0, 1247, .inl Ww))] H locs := hw
  subst r
  refine lv_if_eq (tgt := 18) hx hb dX9_ask_5 (by decide) (fun c5 => ?_) (fun c5 => ?_)
  · have hf := if_t hf c5
    refine lv_ldc (v := (-1000001)) hx hb hown (hts _ q1319) dX9_ask_18 ?_
    have hf := sm_e hf
    subst hf
    exact x_retI cx hw rfl () rfl [1, 2, 0] rfl rfl (Nat.le_of_ble_eq_true rfl) (Nat.le_of_ble_eq_true rfl) dX9_ask_20
  · have hf := if_f hf c5
    refine lv_iload_n hx hb dX9_ask_8 rfl (lv_at hl 2 rfl) ?_
    refine lv_i2l (v := p2.toInt64) hx hb dX9_ask_9 rfl ?_
    refine lv_lconst (v := 0) hx hb dX9_ask_10 (by decide) ?_
    refine lv_lconst (v := 1) hx hb dX9_ask_11 (by decide) ?_
    obtain ⟨q2, hcq2, hf⟩ := op_e hf
    refine x_SI (wr := [((ad 11), .inl (d 0, 16, .inl TR)), oM ad fu ft ff fs fa fb fn fr, ((ad 1), .inl (d 0, 1247, .inl Ww))]) (rest := []) [.long p2.toInt64, .long 0, .long 1] hX cx hw hl.1 (mX9_in l X hX D d p2.toInt64 0 1 q2 hcq2) (lw_S q1315 q1316 q94 q1317) hd_X9_in ⟨Nat.le_of_ble_eq_true rfl, Nat.le_of_ble_eq_true rfl⟩ rfl rfl (Nat.le_of_ble_eq_true rfl) dX9_ask_12 [] [0, 1, 2] rfl rfl rfl rfl (by decide) ⟨(Nat.le_of_ble_eq_true rfl), (Nat.le_of_ble_eq_true rfl)⟩ (fun r u H locs hp hw => ?_)
    have hw : Wd D A s [((ad 11), .inl (d 0, 16, .inl TR)), oM ad fu ft ff fs fa fb fn fr, ((ad 1), .inl (d 0, 1247, .inl Ww))] H locs := hw
    subst r
    refine lv_if_ne (tgt := 21) hx hb dX9_ask_15 (by decide) (fun c15 => ?_) (fun c15 => ?_)
    · have hf := if_f hf c15
      refine lv_aload_n hx hb dX9_ask_21 rfl (lv_at hl 0 rfl) ?_
      refine lv_iconst (v := 0) hx hb dX9_ask_22 (by decide) ?_
      refine va_put (ci := 0) (v := .int 0) (ty := .int) (C := RX9) (T := TX9) (N := 19) hx hb hts in_X9 tyX9 tyX9_ok nmX9 hown hK hw.1 hw.2.1 hw.2.2 1 rfl rfl 18 (by decide) (hts _ q1266) (fun _ h9 => h9) rfl (by decide +kernel) rfl rfl (Nat.le_of_ble_eq_true rfl) dX9_ask_23 (fun H locs hP hD hS => ?_)
      have hw : Wd D A s [((ad 11), .inl (d 0, 16, .inl TR)), oM ad fu ft ff fs fa fb fn 0, ((ad 1), .inl (d 0, 1247, .inl Ww))] H locs := ⟨hP, hD, hS⟩
      refine lv_iload_n hx hb dX9_ask_26 rfl (lv_at hl 2 rfl) ?_
      refine lv_if_ne (tgt := 38) hx hb dX9_ask_27 (by decide) (fun c27 => ?_) (fun c27 => ?_)
      · have hf := if_f hf c27
        refine lv_aload_n hx hb dX9_ask_38 rfl (lv_at hl 0 rfl) ?_
        refine va_get (ci := 0) (C := RX9) (T := TX9) (N := 19) hx hb hts in_X9 hown hK hw.1 1 rfl rfl 0 (by decide) (hts _ q1248) (fun _ h9 => h9) rfl dX9_ask_39 ?_
        refine lv_bipush (v := 7) hx hb dX9_ask_42 (by decide) ?_
        refine lv_iload_n hx hb dX9_ask_44 rfl (lv_at hl 1 rfl) ?_
        refine lv_iadd hx hb dX9_ask_45 ?_
        obtain ⟨v4, hv, hf⟩ := op_e hf
        refine x_iald (q0 := 2) cx hw rfl hv dX9_ask_46 ?_
        refine lv_iconst (v := 4) hx hb dX9_ask_47 (by decide) ?_
        refine lv_icmp_lt (tgt := 59) hx hb dX9_ask_48 (by decide) (fun c48 => ?_) (fun c48 => ?_)
        · have hf := if_t hf c48
          refine lv_aload_n hx hb dX9_ask_59 rfl (lv_at hl 0 rfl) ?_
          refine lv_iload_n hx hb dX9_ask_60 rfl (lv_at hl 1 rfl) ?_
          obtain ⟨q5, hcq5, hf⟩ := op_e hf
          refine x_VI (wr := []) (rest := []) [.int p1] hX cx hw hl.1 (mX9_markOf l X hX D d ad fu ft ff fs fa fb fn 0 Ww TR p1 q5 hcq5) (lw_V q1643 q1645 qs74 q94 q1646) hd_X9_markOf ⟨Nat.le_of_ble_eq_true rfl, Nat.le_of_ble_eq_true rfl⟩ (va_recv hK hw.1 (ci := 0) (q0 := 1) rfl rfl) rfl rfl (Nat.le_of_ble_eq_true rfl) dX9_ask_61 [1, 2, 0] [] rfl rfl rfl rfl (by decide) ⟨(Nat.le_of_ble_eq_true rfl), (Nat.le_of_ble_eq_true rfl)⟩ (fun r u H locs hp hw => ?_)
          have hw : Wd D A s [oM ad fu ft ff fs fa fb fn q5.2.1, ((ad 1), .inl (d 0, 1247, .inl Ww)), ((ad 11), .inl (d 0, 16, .inl q5.2.2))] H locs := hw
          subst r
          have hf := sm_e hf
          subst hf
          exact x_retI cx hw rfl () rfl [0, 1, 2] rfl rfl (Nat.le_of_ble_eq_true rfl) (Nat.le_of_ble_eq_true rfl) dX9_ask_64
        · have hf := if_f hf c48
          refine lv_aload_n hx hb dX9_ask_51 rfl (lv_at hl 0 rfl) ?_
          refine lv_iload_n hx hb dX9_ask_52 rfl (lv_at hl 1 rfl) ?_
          obtain ⟨q6, hcq6, hf⟩ := op_e hf
          refine x_VI (wr := []) (rest := []) [.int p1] hX cx hw hl.1 (mX9_mark23 l X hX D d ad fu ft ff fs fa fb fn 0 Ww TR p1 q6 hcq6) (lw_V q1659 q1661 qs78 q94 q1662) hd_X9_mark23 ⟨Nat.le_of_ble_eq_true rfl, Nat.le_of_ble_eq_true rfl⟩ (va_recv hK hw.1 (ci := 0) (q0 := 1) rfl rfl) rfl rfl (Nat.le_of_ble_eq_true rfl) dX9_ask_53 [1, 2, 0] [] rfl rfl rfl rfl (by decide) ⟨(Nat.le_of_ble_eq_true rfl), (Nat.le_of_ble_eq_true rfl)⟩ (fun r u H locs hp hw => ?_)
          have hw : Wd D A s [oM ad fu ft ff fs fa fb fn q6.2.1, ((ad 1), .inl (d 0, 1247, .inl Ww)), ((ad 11), .inl (d 0, 16, .inl q6.2.2))] H locs := hw
          subst r
          refine lv_goto (tgt := 64) hx hb dX9_ask_56 (by decide) ?_
          have hf := sm_e hf
          subst hf
          exact x_retI cx hw rfl () rfl [0, 1, 2] rfl rfl (Nat.le_of_ble_eq_true rfl) (Nat.le_of_ble_eq_true rfl) dX9_ask_64
      · have hf := if_t hf c27
        refine lv_aload_n hx hb dX9_ask_30 rfl (lv_at hl 0 rfl) ?_
        refine lv_iload_n hx hb dX9_ask_31 rfl (lv_at hl 1 rfl) ?_
        obtain ⟨q3, hcq3, hf⟩ := op_e hf
        refine x_VI (wr := []) (rest := []) [.int p1] hX cx hw hl.1 (mX9_sizeOf l X hX D d ad fu ft ff fs fa fb fn 0 Ww TR p1 q3 hcq3) (lw_V q1627 q1629 qs70 q94 q1630) hd_X9_sizeOf ⟨Nat.le_of_ble_eq_true rfl, Nat.le_of_ble_eq_true rfl⟩ (va_recv hK hw.1 (ci := 0) (q0 := 1) rfl rfl) rfl rfl (Nat.le_of_ble_eq_true rfl) dX9_ask_32 [1, 2, 0] [] rfl rfl rfl rfl (by decide) ⟨(Nat.le_of_ble_eq_true rfl), (Nat.le_of_ble_eq_true rfl)⟩ (fun r u H locs hp hw => ?_)
        have hw : Wd D A s [oM ad fu ft ff fs fa fb fn q3.2.1, ((ad 1), .inl (d 0, 1247, .inl Ww)), ((ad 11), .inl (d 0, 16, .inl q3.2.2))] H locs := hw
        subst r
        refine lv_goto (tgt := 64) hx hb dX9_ask_35 (by decide) ?_
        have hf := sm_e hf
        subst hf
        exact x_retI cx hw rfl () rfl [0, 1, 2] rfl rfl (Nat.le_of_ble_eq_true rfl) (Nat.le_of_ble_eq_true rfl) dX9_ask_64
    · have hf := if_t hf c15
      refine lv_ldc (v := (-1000001)) hx hb hown (hts _ q1319) dX9_ask_18 ?_
      have hf := sm_e hf
      subst hf
      exact x_retI cx hw rfl () rfl [1, 2, 0] rfl rfl (Nat.le_of_ble_eq_true rfl) (Nat.le_of_ble_eq_true rfl) dX9_ask_20
theorem hd_X9_trace : yX9_trace.cls = "DishLiftModel" ∧ yX9_trace.cls ≠ "java/lang/invoke/MethodHandle" ∧ yX9_trace.cls ≠ "java/lang/invoke/VarHandle" ∧ (parseMethodDescriptor yX9_trace.desc).map (fun d => d.parameters.length) = some 1 := by decide +kernel
set_option maxHeartbeats 4000000 in
theorem mX9_trace (l : Launch) (X : XT) (hX : XOK X) (D : va_G) (d : Nat → ClassId) (ad : Nat → Nat) (fu : Int32) (ft : Int32) (ff : Int32) (fs : Int32) (fa : Int32) (fb : Int32) (fn : Int32) (fr : Int32) (TR : Nat → Int32) (p1 : Int32) (res : Int32) (hf : fX9_trace TR fr p1 = some res) : MetI l yX9_trace (ws_ yX9_trace cX9_trace 2 (some .int)) { frames := 1, cells := 0, slots := 0, locals := 25 } [.ref (ad 0), .int p1] X D d [oM ad fu ft ff fs fa fb fn fr, ((ad 11), .inl (d 0, 16, .inl TR))] (fun r (_ : Unit) => r = res) (fun _ => [oM ad fu ft ff fs fa fb fn fr, ((ad 11), .inl (d 0, 16, .inl TR))]) := by
  refine MetI.of (by decide +kernel) (Nat.le_of_ble_eq_true rfl) ?_
  intro p e s m below meth c A cx hw ls hl
  have cx : Cx p s m _ meth c X D d A "DishLiftModel" cX9_trace 2 (some .int) "trace" := cx
  have cx' := cx
  obtain ⟨hx, hb, hr, hlk, hml, hown, hts, hK, hA, hXs, hnm⟩ := cx'
  have hl : lv_has ls 2 [(0, .ref (ad 0)), (1, .int p1)] := hl
  unfold fX9_trace at hf
  refine lv_iload_n hx hb dX9_trace_0 rfl (lv_at hl 1 rfl) ?_
  refine lv_i2l (v := p1.toInt64) hx hb dX9_trace_1 rfl ?_
  refine lv_lconst (v := 0) hx hb dX9_trace_2 (by decide) ?_
  refine lv_aload_n hx hb dX9_trace_3 rfl (lv_at hl 0 rfl) ?_
  refine va_get (ci := 0) (C := RX9) (T := TX9) (N := 19) hx hb hts in_X9 hown hK hw.1 0 rfl rfl 18 (by decide) (hts _ q1266) (fun _ h9 => h9) rfl dX9_trace_4 ?_
  refine lv_iconst (v := 1) hx hb dX9_trace_7 (by decide) ?_
  refine lv_isub hx hb dX9_trace_8 ?_
  refine lv_i2l (v := (fr - 1).toInt64) hx hb dX9_trace_9 rfl ?_
  obtain ⟨q1, hcq1, hf⟩ := op_e hf
  refine x_SI (wr := [oM ad fu ft ff fs fa fb fn fr, ((ad 11), .inl (d 0, 16, .inl TR))]) (rest := []) [.long p1.toInt64, .long 0, .long (fr - 1).toInt64] hX cx hw hl.1 (mX9_in l X hX D d p1.toInt64 0 ((fr - 1).toInt64) q1 hcq1) (lw_S q1315 q1316 q94 q1317) hd_X9_in ⟨Nat.le_of_ble_eq_true rfl, Nat.le_of_ble_eq_true rfl⟩ rfl rfl (Nat.le_of_ble_eq_true rfl) dX9_trace_10 [] [0, 1] rfl rfl rfl rfl (by decide) ⟨(Nat.le_of_ble_eq_true rfl), (Nat.le_of_ble_eq_true rfl)⟩ (fun r u H locs hp hw => ?_)
  have hw : Wd D A s [oM ad fu ft ff fs fa fb fn fr, ((ad 11), .inl (d 0, 16, .inl TR))] H locs := hw
  subst r
  refine lv_if_eq (tgt := 25) hx hb dX9_trace_13 (by decide) (fun c13 => ?_) (fun c13 => ?_)
  · have hf := if_t hf c13
    refine lv_ldc (v := (-1000000)) hx hb hown (hts _ q1519) dX9_trace_25 ?_
    have hf := sm_e hf
    subst hf
    exact x_retI cx hw rfl () rfl [0, 1] rfl rfl (Nat.le_of_ble_eq_true rfl) (Nat.le_of_ble_eq_true rfl) dX9_trace_27
  · have hf := if_f hf c13
    refine lv_aload_n hx hb dX9_trace_16 rfl (lv_at hl 0 rfl) ?_
    refine va_get (ci := 0) (C := RX9) (T := TX9) (N := 19) hx hb hts in_X9 hown hK hw.1 0 rfl rfl 17 (by decide) (hts _ q1265) (fun _ h9 => h9) rfl dX9_trace_17 ?_
    refine lv_iload_n hx hb dX9_trace_20 rfl (lv_at hl 1 rfl) ?_
    obtain ⟨v2, hv, hf⟩ := op_e hf
    refine x_iald (q0 := 1) cx hw rfl hv dX9_trace_21 ?_
    refine lv_goto (tgt := 27) hx hb dX9_trace_22 (by decide) ?_
    have hf := sm_e hf
    subst hf
    exact x_retI cx hw rfl () rfl [0, 1] rfl rfl (Nat.le_of_ble_eq_true rfl) (Nat.le_of_ble_eq_true rfl) dX9_trace_27
theorem hd_X9_rowsThere : yX9_rowsThere.cls = "DishLiftModel" ∧ yX9_rowsThere.cls ≠ "java/lang/invoke/MethodHandle" ∧ yX9_rowsThere.cls ≠ "java/lang/invoke/VarHandle" ∧ (parseMethodDescriptor yX9_rowsThere.desc).map (fun d => d.parameters.length) = some 0 := by decide +kernel
set_option maxHeartbeats 4000000 in
theorem mX9_rowsThere (l : Launch) (X : XT) (hX : XOK X) (D : va_G) (d : Nat → ClassId) (ad : Nat → Nat) (fu : Int32) (ft : Int32) (ff : Int32) (fs : Int32) (fa : Int32) (fb : Int32) (fn : Int32) (fr : Int32) (MA : Nat → Int32) (res : Int32) (hf : fX9_rowsThere MA = some res) : MetI l yX9_rowsThere (ws_ yX9_rowsThere cX9_rowsThere 3 (some .int)) { frames := 0, cells := 0, slots := 0, locals := 0 } [.ref (ad 0)] X D d [oM ad fu ft ff fs fa fb fn fr, ((ad 3), .inl (d 0, 8, .inl MA))] (fun r (_ : Unit) => r = res) (fun _ => [oM ad fu ft ff fs fa fb fn fr, ((ad 3), .inl (d 0, 8, .inl MA))]) := by
  refine MetI.of (by decide +kernel) (Nat.le_of_ble_eq_true rfl) ?_
  intro p e s m below meth c A cx hw ls hl
  have cx : Cx p s m _ meth c X D d A "DishLiftModel" cX9_rowsThere 3 (some .int) "rowsThere" := cx
  have cx' := cx
  obtain ⟨hx, hb, hr, hlk, hml, hown, hts, hK, hA, hXs, hnm⟩ := cx'
  have hl : lv_has ls 3 [(0, .ref (ad 0))] := hl
  unfold fX9_rowsThere at hf
  refine lv_iconst (v := 0) hx hb dX9_rowsThere_0 (by decide) ?_
  refine lv_istore_n (lv' := [(1, .int 0), (0, .ref (ad 0))]) hx hb dX9_rowsThere_1 rfl hl (by decide) rfl (fun ls hl => ?_)
  refine lv_iconst (v := 0) hx hb dX9_rowsThere_2 (by decide) ?_
  refine lv_istore_n (lv' := [(2, .int 0), (1, .int 0), (0, .ref (ad 0))]) hx hb dX9_rowsThere_3 rfl hl (by decide) rfl (fun ls hl => ?_)
  obtain ⟨r1, hlp4, hf⟩ := op_e hf
  refine x_join (A := A) (D := D) (J := 33) (nL := 3) (cells' := 0) (slots' := 0) (st := []) [oM ad fu ft ff fs fa fb fn fr, ((ad 3), .inl (d 0, 8, .inl MA))] [(1, .int r1)] (fun H locs ls hw hl => ?_) (fun hK4 => ?_)
  · refine lv_iload_n hx hb dX9_rowsThere_33 rfl (lv_at hl 0 rfl) ?_
    have hf := sm_e hf
    subst hf
    exact x_retI cx hw rfl () rfl [0, 1] rfl rfl (Nat.le_of_ble_eq_true rfl) (Nat.le_of_ble_eq_true rfl) dX9_rowsThere_34
  · refine x_lp hlp4 (fun x4 => [oM ad fu ft ff fs fa fb fn fr, ((ad 3), .inl (d 0, 8, .inl MA))]) (fun x4 => [(0, .ref (ad 0)), (1, .int x4.1), (2, .int x4.2)]) hw (lv_sub hl [2, 1, 0] rfl) (fun x4 y4 hf hin4 hout4 H locs ls hw hl => ?_)
    have hw : Wd D A s [oM ad fu ft ff fs fa fb fn fr, ((ad 3), .inl (d 0, 8, .inl MA))] H locs := hw
    have hl : lv_has ls 3 [(0, .ref (ad 0)), (1, .int x4.1), (2, .int x4.2)] := hl
    refine lv_iload_n hx hb dX9_rowsThere_4 rfl (lv_at hl 2 rfl) ?_
    refine lv_bipush (v := 8) hx hb dX9_rowsThere_5 (by decide) ?_
    refine lv_icmp_ge (tgt := 33) hx hb dX9_rowsThere_7 (by decide) (fun c7 => ?_) (fun c7 => ?_)
    · have hf := if_t hf c7
      have hf := sm_e hf
      subst hf
      have hz := hout4 _ rfl
      subst hz
      exact hK4 _ _ _ hw (lv_sub hl [1] rfl)
    · have hf := if_f hf c7
      refine lv_iload_n hx hb dX9_rowsThere_10 rfl (lv_at hl 1 rfl) ?_
      refine lv_aload_n hx hb dX9_rowsThere_11 rfl (lv_at hl 0 rfl) ?_
      refine va_get (ci := 0) (C := RX9) (T := TX9) (N := 19) hx hb hts in_X9 hown hK hw.1 0 rfl rfl 6 (by decide) (hts _ q1254) (fun _ h9 => h9) rfl dX9_rowsThere_12 ?_
      refine lv_iload_n hx hb dX9_rowsThere_15 rfl (lv_at hl 2 rfl) ?_
      obtain ⟨v2, hv, hf⟩ := op_e hf
      refine x_iald (q0 := 1) cx hw rfl hv dX9_rowsThere_16 ?_
      refine lv_if_lt (tgt := 24) hx hb dX9_rowsThere_17 (by decide) (fun c17 => ?_) (fun c17 => ?_)
      · have hf := if_t hf c17
        refine lv_iconst (v := 0) hx hb dX9_rowsThere_24 (by decide) ?_
        refine lv_iadd hx hb dX9_rowsThere_25 ?_
        refine lv_istore_n (lv' := [(1, .int (x4.1 + 0)), (0, .ref (ad 0)), (2, .int x4.2)]) hx hb dX9_rowsThere_26 rfl hl (by decide) rfl (fun ls hl => ?_)
        refine lv_iinc (v := (x4.2 + 1)) (lv' := [(2, .int (x4.2 + 1)), (1, .int (x4.1 + 0)), (0, .ref (ad 0))]) hx hb dX9_rowsThere_27 hl (k := 2) rfl (by first | rfl | decide) (by decide) rfl (fun ls hl => ?_)
        refine lv_goto (tgt := 4) hx hb dX9_rowsThere_30 (by decide) ?_
        have hf := sm_e hf
        subst hf
        exact hin4 _ rfl _ _ _ hw (lv_sub hl [2, 1, 0] rfl)
      · have hf := if_f hf c17
        refine lv_iconst (v := 1) hx hb dX9_rowsThere_20 (by decide) ?_
        refine lv_goto (tgt := 25) hx hb dX9_rowsThere_21 (by decide) ?_
        refine lv_iadd hx hb dX9_rowsThere_25 ?_
        refine lv_istore_n (lv' := [(1, .int (x4.1 + 1)), (0, .ref (ad 0)), (2, .int x4.2)]) hx hb dX9_rowsThere_26 rfl hl (by decide) rfl (fun ls hl => ?_)
        refine lv_iinc (v := (x4.2 + 1)) (lv' := [(2, .int (x4.2 + 1)), (1, .int (x4.1 + 1)), (0, .ref (ad 0))]) hx hb dX9_rowsThere_27 hl (k := 2) rfl (by first | rfl | decide) (by decide) rfl (fun ls hl => ?_)
        refine lv_goto (tgt := 4) hx hb dX9_rowsThere_30 (by decide) ?_
        have hf := sm_e hf
        subst hf
        exact hin4 _ rfl _ _ _ hw (lv_sub hl [2, 1, 0] rfl)
theorem hd_X9_waiting : yX9_waiting.cls = "DishLiftModel" ∧ yX9_waiting.cls ≠ "java/lang/invoke/MethodHandle" ∧ yX9_waiting.cls ≠ "java/lang/invoke/VarHandle" ∧ (parseMethodDescriptor yX9_waiting.desc).map (fun d => d.parameters.length) = some 0 := by decide +kernel
set_option maxHeartbeats 4000000 in
theorem mX9_waiting (l : Launch) (X : XT) (hX : XOK X) (D : va_G) (d : Nat → ClassId) (ad : Nat → Nat) (fu : Int32) (ft : Int32) (ff : Int32) (fs : Int32) (fa : Int32) (fb : Int32) (fn : Int32) (fr : Int32) (Ww : Nat → Int32) (res : Int32) (hf : fX9_waiting Ww = some res) : MetI l yX9_waiting (ws_ yX9_waiting cX9_waiting 3 (some .int)) { frames := 0, cells := 0, slots := 0, locals := 0 } [.ref (ad 0)] X D d [oM ad fu ft ff fs fa fb fn fr, ((ad 1), .inl (d 0, 1247, .inl Ww))] (fun r (_ : Unit) => r = res) (fun _ => [oM ad fu ft ff fs fa fb fn fr, ((ad 1), .inl (d 0, 1247, .inl Ww))]) := by
  refine MetI.of (by decide +kernel) (Nat.le_of_ble_eq_true rfl) ?_
  intro p e s m below meth c A cx hw ls hl
  have cx : Cx p s m _ meth c X D d A "DishLiftModel" cX9_waiting 3 (some .int) "waiting" := cx
  have cx' := cx
  obtain ⟨hx, hb, hr, hlk, hml, hown, hts, hK, hA, hXs, hnm⟩ := cx'
  have hl : lv_has ls 3 [(0, .ref (ad 0))] := hl
  unfold fX9_waiting at hf
  refine lv_iconst (v := 0) hx hb dX9_waiting_0 (by decide) ?_
  refine lv_istore_n (lv' := [(1, .int 0), (0, .ref (ad 0))]) hx hb dX9_waiting_1 rfl hl (by decide) rfl (fun ls hl => ?_)
  refine lv_iconst (v := 0) hx hb dX9_waiting_2 (by decide) ?_
  refine lv_istore_n (lv' := [(2, .int 0), (1, .int 0), (0, .ref (ad 0))]) hx hb dX9_waiting_3 rfl hl (by decide) rfl (fun ls hl => ?_)
  obtain ⟨r1, hlp4, hf⟩ := op_e hf
  refine x_join (A := A) (D := D) (J := 42) (nL := 3) (cells' := 0) (slots' := 0) (st := []) [oM ad fu ft ff fs fa fb fn fr, ((ad 1), .inl (d 0, 1247, .inl Ww))] [(1, .int r1)] (fun H locs ls hw hl => ?_) (fun hK4 => ?_)
  · refine lv_iload_n hx hb dX9_waiting_42 rfl (lv_at hl 0 rfl) ?_
    have hf := sm_e hf
    subst hf
    exact x_retI cx hw rfl () rfl [0, 1] rfl rfl (Nat.le_of_ble_eq_true rfl) (Nat.le_of_ble_eq_true rfl) dX9_waiting_43
  · refine x_lp hlp4 (fun x4 => [oM ad fu ft ff fs fa fb fn fr, ((ad 1), .inl (d 0, 1247, .inl Ww))]) (fun x4 => [(0, .ref (ad 0)), (1, .int x4.1), (2, .int x4.2)]) hw (lv_sub hl [2, 1, 0] rfl) (fun x4 y4 hf hin4 hout4 H locs ls hw hl => ?_)
    have hw : Wd D A s [oM ad fu ft ff fs fa fb fn fr, ((ad 1), .inl (d 0, 1247, .inl Ww))] H locs := hw
    have hl : lv_has ls 3 [(0, .ref (ad 0)), (1, .int x4.1), (2, .int x4.2)] := hl
    refine lv_iload_n hx hb dX9_waiting_4 rfl (lv_at hl 2 rfl) ?_
    refine lv_aload_n hx hb dX9_waiting_5 rfl (lv_at hl 0 rfl) ?_
    refine va_get (ci := 0) (C := RX9) (T := TX9) (N := 19) hx hb hts in_X9 hown hK hw.1 0 rfl rfl 0 (by decide) (hts _ q1248) (fun _ h9 => h9) rfl dX9_waiting_6 ?_
    refine lv_iconst (v := 0) hx hb dX9_waiting_9 (by decide) ?_
    obtain ⟨v2, hv, hf⟩ := op_e hf
    refine x_iald (q0 := 1) cx hw rfl hv dX9_waiting_10 ?_
    refine lv_icmp_ge (tgt := 42) hx hb dX9_waiting_11 (by decide) (fun c11 => ?_) (fun c11 => ?_)
    · have hf := if_t hf c11
      have hf := sm_e hf
      subst hf
      have hz := hout4 _ rfl
      subst hz
      exact hK4 _ _ _ hw (lv_sub hl [1] rfl)
    · have hf := if_f hf c11
      refine lv_iload_n hx hb dX9_waiting_14 rfl (lv_at hl 1 rfl) ?_
      refine lv_aload_n hx hb dX9_waiting_15 rfl (lv_at hl 0 rfl) ?_
      refine va_get (ci := 0) (C := RX9) (T := TX9) (N := 19) hx hb hts in_X9 hown hK hw.1 0 rfl rfl 0 (by decide) (hts _ q1248) (fun _ h9 => h9) rfl dX9_waiting_16 ?_
      refine lv_bipush (v := 13) hx hb dX9_waiting_19 (by decide) ?_
      refine lv_iload_n hx hb dX9_waiting_21 rfl (lv_at hl 2 rfl) ?_
      refine lv_iadd hx hb dX9_waiting_22 ?_
      obtain ⟨v3, hv, hf⟩ := op_e hf
      refine x_iald (q0 := 1) cx hw rfl hv dX9_waiting_23 ?_
      refine lv_bipush (v := 10) hx hb dX9_waiting_24 (by decide) ?_
      refine lv_icmp_ge (tgt := 33) hx hb dX9_waiting_26 (by decide) (fun c26 => ?_) (fun c26 => ?_)
      · have hf := if_t hf c26
        refine lv_iconst (v := 0) hx hb dX9_waiting_33 (by decide) ?_
        refine lv_iadd hx hb dX9_waiting_34 ?_
        refine lv_istore_n (lv' := [(1, .int (x4.1 + 0)), (0, .ref (ad 0)), (2, .int x4.2)]) hx hb dX9_waiting_35 rfl hl (by decide) rfl (fun ls hl => ?_)
        refine lv_iinc (v := (x4.2 + 1)) (lv' := [(2, .int (x4.2 + 1)), (1, .int (x4.1 + 0)), (0, .ref (ad 0))]) hx hb dX9_waiting_36 hl (k := 2) rfl (by first | rfl | decide) (by decide) rfl (fun ls hl => ?_)
        refine lv_goto (tgt := 4) hx hb dX9_waiting_39 (by decide) ?_
        have hf := sm_e hf
        subst hf
        exact hin4 _ rfl _ _ _ hw (lv_sub hl [2, 1, 0] rfl)
      · have hf := if_f hf c26
        refine lv_iconst (v := 1) hx hb dX9_waiting_29 (by decide) ?_
        refine lv_goto (tgt := 34) hx hb dX9_waiting_30 (by decide) ?_
        refine lv_iadd hx hb dX9_waiting_34 ?_
        refine lv_istore_n (lv' := [(1, .int (x4.1 + 1)), (0, .ref (ad 0)), (2, .int x4.2)]) hx hb dX9_waiting_35 rfl hl (by decide) rfl (fun ls hl => ?_)
        refine lv_iinc (v := (x4.2 + 1)) (lv' := [(2, .int (x4.2 + 1)), (1, .int (x4.1 + 1)), (0, .ref (ad 0))]) hx hb dX9_waiting_36 hl (k := 2) rfl (by first | rfl | decide) (by decide) rfl (fun ls hl => ?_)
        refine lv_goto (tgt := 4) hx hb dX9_waiting_39 (by decide) ?_
        have hf := sm_e hf
        subst hf
        exact hin4 _ rfl _ _ _ hw (lv_sub hl [2, 1, 0] rfl)
theorem hd_X9_count : yX9_count.cls = "DishLiftModel" ∧ yX9_count.cls ≠ "java/lang/invoke/MethodHandle" ∧ yX9_count.cls ≠ "java/lang/invoke/VarHandle" ∧ (parseMethodDescriptor yX9_count.desc).map (fun d => d.parameters.length) = some 1 := by decide +kernel
set_option maxHeartbeats 4000000 in
theorem mX9_count (l : Launch) (X : XT) (hX : XOK X) (D : va_G) (d : Nat → ClassId) (ad : Nat → Nat) (fu : Int32) (ft : Int32) (ff : Int32) (fs : Int32) (fa : Int32) (fb : Int32) (fn : Int32) (fr : Int32) (Ww : Nat → Int32) (MA : Nat → Int32) (p1 : Int32) (res : Int32) (hf : fX9_count Ww MA fu ft p1 = some res) : MetI l yX9_count (ws_ yX9_count cX9_count 2 (some .int)) { frames := 1, cells := 0, slots := 0, locals := 23 } [.ref (ad 0), .int p1] X D d [oM ad fu ft ff fs fa fb fn fr, ((ad 1), .inl (d 0, 1247, .inl Ww)), ((ad 3), .inl (d 0, 8, .inl MA))] (fun r (_ : Unit) => r = res) (fun _ => [oM ad fu ft ff fs fa fb fn fr, ((ad 1), .inl (d 0, 1247, .inl Ww)), ((ad 3), .inl (d 0, 8, .inl MA))]) := by
  refine MetI.of (by decide +kernel) (Nat.le_of_ble_eq_true rfl) ?_
  intro p e s m below meth c A cx hw ls hl
  have cx : Cx p s m _ meth c X D d A "DishLiftModel" cX9_count 2 (some .int) "count" := cx
  have cx' := cx
  obtain ⟨hx, hb, hr, hlk, hml, hown, hts, hK, hA, hXs, hnm⟩ := cx'
  have hl : lv_has ls 2 [(0, .ref (ad 0)), (1, .int p1)] := hl
  unfold fX9_count at hf
  refine lv_iload_n hx hb dX9_count_0 rfl (lv_at hl 1 rfl) ?_
  by_cases n0 : p1 = 0
  · have hf := if_t hf n0
    refine lv_tableIn (tgt := 52) hx hb dX9_count_1 (by rw [n0]; decide) (by rw [n0]; decide) (by rw [n0]; rfl) (by decide) ?_
    refine lv_aload_n hx hb dX9_count_52 rfl (lv_at hl 0 rfl) ?_
    obtain ⟨q1, hcq1, hf⟩ := op_e hf
    refine x_VI (wr := [((ad 1), .inl (d 0, 1247, .inl Ww))]) (rest := []) [] hX cx hw hl.1 (mX9_rowsThere l X hX D d ad fu ft ff fs fa fb fn fr MA q1 hcq1) (lw_V q1671 q1673 qs79 q94 q1674) hd_X9_rowsThere ⟨Nat.le_of_ble_eq_true rfl, Nat.le_of_ble_eq_true rfl⟩ (va_recv hK hw.1 (ci := 0) (q0 := 0) rfl rfl) rfl rfl (Nat.le_of_ble_eq_true rfl) dX9_count_53 [0, 2] [1] rfl rfl rfl rfl (by decide) ⟨(Nat.le_of_ble_eq_true rfl), (Nat.le_of_ble_eq_true rfl)⟩ (fun r u H locs hp hw => ?_)
    have hw : Wd D A s [((ad 1), .inl (d 0, 1247, .inl Ww)), oM ad fu ft ff fs fa fb fn fr, ((ad 3), .inl (d 0, 8, .inl MA))] H locs := hw
    subst r
    have hf := sm_e hf
    subst hf
    exact x_retI cx hw rfl () rfl [1, 0, 2] rfl rfl (Nat.le_of_ble_eq_true rfl) (Nat.le_of_ble_eq_true rfl) dX9_count_56
  · have hf := if_f hf n0
    by_cases n1 : p1 = 1
    · have hf := if_t hf n1
      refine lv_tableIn (tgt := 57) hx hb dX9_count_1 (by rw [n1]; decide) (by rw [n1]; decide) (by rw [n1]; rfl) (by decide) ?_
      refine lv_aload_n hx hb dX9_count_57 rfl (lv_at hl 0 rfl) ?_
      refine va_get (ci := 0) (C := RX9) (T := TX9) (N := 19) hx hb hts in_X9 hown hK hw.1 0 rfl rfl 0 (by decide) (hts _ q1248) (fun _ h9 => h9) rfl dX9_count_58 ?_
      refine lv_iconst (v := 0) hx hb dX9_count_61 (by decide) ?_
      obtain ⟨v2, hv, hf⟩ := op_e hf
      refine x_iald (q0 := 1) cx hw rfl hv dX9_count_62 ?_
      have hf := sm_e hf
      subst hf
      exact x_retI cx hw rfl () rfl [0, 1, 2] rfl rfl (Nat.le_of_ble_eq_true rfl) (Nat.le_of_ble_eq_true rfl) dX9_count_63
    · have hf := if_f hf n1
      by_cases n2 : p1 = 2
      · have hf := if_t hf n2
        refine lv_tableIn (tgt := 64) hx hb dX9_count_1 (by rw [n2]; decide) (by rw [n2]; decide) (by rw [n2]; rfl) (by decide) ?_
        refine lv_aload_n hx hb dX9_count_64 rfl (lv_at hl 0 rfl) ?_
        refine va_get (ci := 0) (C := RX9) (T := TX9) (N := 19) hx hb hts in_X9 hown hK hw.1 0 rfl rfl 0 (by decide) (hts _ q1248) (fun _ h9 => h9) rfl dX9_count_65 ?_
        refine lv_iconst (v := 1) hx hb dX9_count_68 (by decide) ?_
        obtain ⟨v3, hv, hf⟩ := op_e hf
        refine x_iald (q0 := 1) cx hw rfl hv dX9_count_69 ?_
        have hf := sm_e hf
        subst hf
        exact x_retI cx hw rfl () rfl [0, 1, 2] rfl rfl (Nat.le_of_ble_eq_true rfl) (Nat.le_of_ble_eq_true rfl) dX9_count_70
      · have hf := if_f hf n2
        by_cases n3 : p1 = 3
        · have hf := if_t hf n3
          refine lv_tableIn (tgt := 71) hx hb dX9_count_1 (by rw [n3]; decide) (by rw [n3]; decide) (by rw [n3]; rfl) (by decide) ?_
          refine lv_aload_n hx hb dX9_count_71 rfl (lv_at hl 0 rfl) ?_
          refine va_get (ci := 0) (C := RX9) (T := TX9) (N := 19) hx hb hts in_X9 hown hK hw.1 0 rfl rfl 0 (by decide) (hts _ q1248) (fun _ h9 => h9) rfl dX9_count_72 ?_
          refine lv_bipush (v := 6) hx hb dX9_count_75 (by decide) ?_
          obtain ⟨v4, hv, hf⟩ := op_e hf
          refine x_iald (q0 := 1) cx hw rfl hv dX9_count_77 ?_
          have hf := sm_e hf
          subst hf
          exact x_retI cx hw rfl () rfl [0, 1, 2] rfl rfl (Nat.le_of_ble_eq_true rfl) (Nat.le_of_ble_eq_true rfl) dX9_count_78
        · have hf := if_f hf n3
          by_cases n4 : p1 = 4
          · have hf := if_t hf n4
            refine lv_tableIn (tgt := 79) hx hb dX9_count_1 (by rw [n4]; decide) (by rw [n4]; decide) (by rw [n4]; rfl) (by decide) ?_
            refine lv_aload_n hx hb dX9_count_79 rfl (lv_at hl 0 rfl) ?_
            obtain ⟨q5, hcq5, hf⟩ := op_e hf
            refine x_VI (wr := [((ad 3), .inl (d 0, 8, .inl MA))]) (rest := []) [] hX cx hw hl.1 (mX9_waiting l X hX D d ad fu ft ff fs fa fb fn fr Ww q5 hcq5) (lw_V q1675 q1677 qs80 q94 q1678) hd_X9_waiting ⟨Nat.le_of_ble_eq_true rfl, Nat.le_of_ble_eq_true rfl⟩ (va_recv hK hw.1 (ci := 0) (q0 := 0) rfl rfl) rfl rfl (Nat.le_of_ble_eq_true rfl) dX9_count_80 [0, 1] [2] rfl rfl rfl rfl (by decide) ⟨(Nat.le_of_ble_eq_true rfl), (Nat.le_of_ble_eq_true rfl)⟩ (fun r u H locs hp hw => ?_)
            have hw : Wd D A s [((ad 3), .inl (d 0, 8, .inl MA)), oM ad fu ft ff fs fa fb fn fr, ((ad 1), .inl (d 0, 1247, .inl Ww))] H locs := hw
            subst r
            have hf := sm_e hf
            subst hf
            exact x_retI cx hw rfl () rfl [1, 2, 0] rfl rfl (Nat.le_of_ble_eq_true rfl) (Nat.le_of_ble_eq_true rfl) dX9_count_83
          · have hf := if_f hf n4
            by_cases n5 : p1 = 5
            · have hf := if_t hf n5
              refine lv_tableIn (tgt := 84) hx hb dX9_count_1 (by rw [n5]; decide) (by rw [n5]; decide) (by rw [n5]; rfl) (by decide) ?_
              refine lv_aload_n hx hb dX9_count_84 rfl (lv_at hl 0 rfl) ?_
              refine lv_iconst (v := 0) hx hb dX9_count_85 (by decide) ?_
              obtain ⟨q6, hcq6, hf⟩ := op_e hf
              refine x_VI (wr := [((ad 3), .inl (d 0, 8, .inl MA))]) (rest := []) [.int 0] hX cx hw hl.1 (mX9_servedOf l X hX D d ad fu ft ff fs fa fb fn fr Ww 0 q6 hcq6) (lw_V q1449 q1451 qs56 q94 q1452) hd_X9_servedOf ⟨Nat.le_of_ble_eq_true rfl, Nat.le_of_ble_eq_true rfl⟩ (va_recv hK hw.1 (ci := 0) (q0 := 0) rfl rfl) rfl rfl (Nat.le_of_ble_eq_true rfl) dX9_count_86 [0, 1] [2] rfl rfl rfl rfl (by decide) ⟨(Nat.le_of_ble_eq_true rfl), (Nat.le_of_ble_eq_true rfl)⟩ (fun r u H locs hp hw => ?_)
              have hw : Wd D A s [((ad 3), .inl (d 0, 8, .inl MA)), oM ad fu ft ff fs fa fb fn fr, ((ad 1), .inl (d 0, 1247, .inl Ww))] H locs := hw
              subst r
              obtain ⟨q7, hcq7, hf⟩ := op_e hf
              refine x_SI (wr := [((ad 3), .inl (d 0, 8, .inl MA)), oM ad fu ft ff fs fa fb fn fr, ((ad 1), .inl (d 0, 1247, .inl Ww))]) (rest := []) [.int q6] hX cx hw hl.1 (mX9_ones l X hX D d q6 q7 hcq7) (lw_S q1423 q1424 q94 q1425) hd_X9_ones ⟨Nat.le_of_ble_eq_true rfl, Nat.le_of_ble_eq_true rfl⟩ rfl rfl (Nat.le_of_ble_eq_true rfl) dX9_count_89 [] [0, 1, 2] rfl rfl rfl rfl (by decide) ⟨(Nat.le_of_ble_eq_true rfl), (Nat.le_of_ble_eq_true rfl)⟩ (fun r u H locs hp hw => ?_)
              have hw : Wd D A s [((ad 3), .inl (d 0, 8, .inl MA)), oM ad fu ft ff fs fa fb fn fr, ((ad 1), .inl (d 0, 1247, .inl Ww))] H locs := hw
              subst r
              have hf := sm_e hf
              subst hf
              exact x_retI cx hw rfl () rfl [1, 2, 0] rfl rfl (Nat.le_of_ble_eq_true rfl) (Nat.le_of_ble_eq_true rfl) dX9_count_92
            · have hf := if_f hf n5
              by_cases n6 : p1 = 6
              · have hf := if_t hf n6
                refine lv_tableIn (tgt := 93) hx hb dX9_count_1 (by rw [n6]; decide) (by rw [n6]; decide) (by rw [n6]; rfl) (by decide) ?_
                refine lv_aload_n hx hb dX9_count_93 rfl (lv_at hl 0 rfl) ?_
                refine lv_iconst (v := 0) hx hb dX9_count_94 (by decide) ?_
                obtain ⟨q8, hcq8, hf⟩ := op_e hf
                refine x_VI (wr := [((ad 3), .inl (d 0, 8, .inl MA))]) (rest := []) [.int 0] hX cx hw hl.1 (mX9_heatOf l X hX D d ad fu ft ff fs fa fb fn fr Ww 0 q8 hcq8) (lw_V q1562 q1564 qs66 q94 q1565) hd_X9_heatOf ⟨Nat.le_of_ble_eq_true rfl, Nat.le_of_ble_eq_true rfl⟩ (va_recv hK hw.1 (ci := 0) (q0 := 0) rfl rfl) rfl rfl (Nat.le_of_ble_eq_true rfl) dX9_count_95 [0, 1] [2] rfl rfl rfl rfl (by decide) ⟨(Nat.le_of_ble_eq_true rfl), (Nat.le_of_ble_eq_true rfl)⟩ (fun r u H locs hp hw => ?_)
                have hw : Wd D A s [((ad 3), .inl (d 0, 8, .inl MA)), oM ad fu ft ff fs fa fb fn fr, ((ad 1), .inl (d 0, 1247, .inl Ww))] H locs := hw
                subst r
                have hf := sm_e hf
                subst hf
                exact x_retI cx hw rfl () rfl [1, 2, 0] rfl rfl (Nat.le_of_ble_eq_true rfl) (Nat.le_of_ble_eq_true rfl) dX9_count_98
              · have hf := if_f hf n6
                by_cases n7 : p1 = 7
                · have hf := if_t hf n7
                  refine lv_tableIn (tgt := 99) hx hb dX9_count_1 (by rw [n7]; decide) (by rw [n7]; decide) (by rw [n7]; rfl) (by decide) ?_
                  refine lv_aload_n hx hb dX9_count_99 rfl (lv_at hl 0 rfl) ?_
                  refine va_get (ci := 0) (C := RX9) (T := TX9) (N := 19) hx hb hts in_X9 hown hK hw.1 0 rfl rfl 1 (by decide) (hts _ q1249) (fun _ h9 => h9) rfl dX9_count_100 ?_
                  have hf := sm_e hf
                  subst hf
                  exact x_retI cx hw rfl () rfl [0, 1, 2] rfl rfl (Nat.le_of_ble_eq_true rfl) (Nat.le_of_ble_eq_true rfl) dX9_count_103
                · have hf := if_f hf n7
                  by_cases n8 : p1 = 8
                  · have hf := if_t hf n8
                    refine lv_tableIn (tgt := 104) hx hb dX9_count_1 (by rw [n8]; decide) (by rw [n8]; decide) (by rw [n8]; rfl) (by decide) ?_
                    refine lv_aload_n hx hb dX9_count_104 rfl (lv_at hl 0 rfl) ?_
                    refine va_get (ci := 0) (C := RX9) (T := TX9) (N := 19) hx hb hts in_X9 hown hK hw.1 0 rfl rfl 3 (by decide) (hts _ q1251) (fun _ h9 => h9) rfl dX9_count_105 ?_
                    have hf := sm_e hf
                    subst hf
                    exact x_retI cx hw rfl () rfl [0, 1, 2] rfl rfl (Nat.le_of_ble_eq_true rfl) (Nat.le_of_ble_eq_true rfl) dX9_count_108
                  · have hf := if_f hf n8
                    have t0 := lv_neT (a := 0) n0 (by decide)
                    have t1 := lv_neT (a := 1) n1 (by decide)
                    have t2 := lv_neT (a := 2) n2 (by decide)
                    have t3 := lv_neT (a := 3) n3 (by decide)
                    have t4 := lv_neT (a := 4) n4 (by decide)
                    have t5 := lv_neT (a := 5) n5 (by decide)
                    have t6 := lv_neT (a := 6) n6 (by decide)
                    have t7 := lv_neT (a := 7) n7 (by decide)
                    have t8 := lv_neT (a := 8) n8 (by decide)
                    refine lv_tableOut (tgt := 109) hx hb dX9_count_1 (by omega) (by decide) ?_
                    refine lv_ldc (v := (-1000001)) hx hb hown (hts _ q1319) dX9_count_109 ?_
                    have hf := sm_e hf
                    subst hf
                    exact x_retI cx hw rfl () rfl [0, 1, 2] rfl rfl (Nat.le_of_ble_eq_true rfl) (Nat.le_of_ble_eq_true rfl) dX9_count_111
theorem hd_X9_status : yX9_status.cls = "DishLiftModel" ∧ yX9_status.cls ≠ "java/lang/invoke/MethodHandle" ∧ yX9_status.cls ≠ "java/lang/invoke/VarHandle" ∧ (parseMethodDescriptor yX9_status.desc).map (fun d => d.parameters.length) = some 0 := by decide +kernel
set_option maxHeartbeats 4000000 in
theorem mX9_status (l : Launch) (X : XT) (hX : XOK X) (D : va_G) (d : Nat → ClassId) (ad : Nat → Nat) (fu : Int32) (ft : Int32) (ff : Int32) (fs : Int32) (fa : Int32) (fb : Int32) (fn : Int32) (fr : Int32) (res : Int32) (hf : fX9_status fs = some res) : MetI l yX9_status (ws_ yX9_status cX9_status 1 (some .int)) { frames := 0, cells := 0, slots := 0, locals := 0 } [.ref (ad 0)] X D d [oM ad fu ft ff fs fa fb fn fr] (fun r (_ : Unit) => r = res) (fun _ => [oM ad fu ft ff fs fa fb fn fr]) := by
  refine MetI.of (by decide +kernel) (Nat.le_of_ble_eq_true rfl) ?_
  intro p e s m below meth c A cx hw ls hl
  have cx : Cx p s m _ meth c X D d A "DishLiftModel" cX9_status 1 (some .int) "status" := cx
  have cx' := cx
  obtain ⟨hx, hb, hr, hlk, hml, hown, hts, hK, hA, hXs, hnm⟩ := cx'
  have hl : lv_has ls 1 [(0, .ref (ad 0))] := hl
  unfold fX9_status at hf
  refine lv_aload_n hx hb dX9_status_0 rfl (lv_at hl 0 rfl) ?_
  refine va_get (ci := 0) (C := RX9) (T := TX9) (N := 19) hx hb hts in_X9 hown hK hw.1 0 rfl rfl 5 (by decide) (hts _ q1253) (fun _ h9 => h9) rfl dX9_status_1 ?_
  have hf := sm_e hf
  subst hf
  exact x_retI cx hw rfl () rfl [0] rfl rfl (Nat.le_of_ble_eq_true rfl) (Nat.le_of_ble_eq_true rfl) dX9_status_4
