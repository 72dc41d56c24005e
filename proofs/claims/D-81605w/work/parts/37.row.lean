set_option maxRecDepth 100000
/-! A METHOD THAT MAKES CELLS -/
def gix (n : Nat) (i : Int32) : Option Unit := if i < 0 ∨ n ≤ i.toNatClampNeg then none else some ()
theorem gix_spec {n : Nat} {i : Int32} {u : Unit} (h : gix n i = some u) : vp_in i n := by
  unfold gix at h
  split at h
  · cases h
  · assumption

def fX0_row (gs : Int32) (p1 : Int32) (p2 : Int32) (p3 : Int32) : Option (Int32 × Bool × Int32) :=
  (fX0_isRow p1).bind fun q1 =>
  if q1 = 0 then
    some ((-1000001), false, gs)
  else
    (fX0_isIn p2.toInt64 0 2).bind fun q2 =>
    if q2 = 0 then
      some ((-1000001), false, gs)
    else
      if p3 ≤ 40 then
        (if p3 < 0 then
          some 0
        else
          some 1 : Option (Int32)).bind fun j3 =>
        (fX0_must j3 4).bind fun r5 =>
        match r5 with
        | .inr e7 => (fX0_found e7).bind fun q8 =>
        some (q8.1, false, q8.2)
        | .inl q6 =>
          (fX11_init p3).bind fun q11 =>
          (gix 8 p1).bind fun g12 =>
          (fX0_well p3).bind fun q13 =>
          some (q13.1, true, q13.2)
      else
        some ((-1000001), false, gs)
theorem hd_X0_row : yX0_row.cls = "DishLift" ∧ yX0_row.cls ≠ "java/lang/invoke/MethodHandle" ∧ yX0_row.cls ≠ "java/lang/invoke/VarHandle" ∧ (parseMethodDescriptor yX0_row.desc).map (fun d => d.parameters.length) = some 3 := by decide +kernel
set_option maxHeartbeats 4000000 in
theorem mX0_row (l : Launch) (D : va_G) (d : Nat → ClassId) (cs : Nat → Nat) (wi : va_W) (ln : Nat → Option Int32) (lf : Nat → Nat → Option Nat) (dk : Nat → Option Nat) (dn : Nat → Int32) (him : ImF d wi ln lf dk dn) (sa : Nat → Nat) (ha : Nat → Nat) (ta : Nat → Nat) (gt : Int32) (gf : Int32) (gc : Int32) (tra : Nat) (gs : Int32) (RW : Nat → Option Nat) (p1 : Int32) (p2 : Int32) (p3 : Int32)  (res : Int32 × Bool × Int32) (hf : fX0_row gs p1 p2 p3 = some res) : MetI l yX0_row (wsW_ yX0_row cX0_row 5 (some .int) [(28, 61, 62, 74)]) { frames := 5, cells := 2, slots := 42, locals := 130 } [.ref (sa 0), .int p1, .int p2, .int p3] (XI D cs wi) D d [oS sa ha ta gt gf gc tra gs, ((sa 1), .inl (d 3, 8, .inr (.inr (.inr (.inr RW)))))] (fun r (_ : Nat × Nat) => r = res.1) (fun (u : Nat × Nat) => match res.2.1 with | true => [oS sa ha ta gt gf gc tra res.2.2, ((sa 1), .inl (d 3, 8, .inr (.inr (.inr (.inr (va_up RW p1.toNatClampNeg (some u.1))))))), (u.1, .inr (10, [.int p2, .ref u.2])), (u.2, .inl (d 0, p3.toNatClampNeg, .inl (fun _ => 0)))] | false => [oS sa ha ta gt gf gc tra res.2.2, ((sa 1), .inl (d 3, 8, .inr (.inr (.inr (.inr RW)))))]) := by
  have hX := XI.ok (D := D) (cs := cs) (wi := wi)
  refine MetI.ofH (by decide +kernel) (Nat.le_of_ble_eq_true rfl) ?_
  intro p e s m below meth c A cx hET hw ls hl
  have cx : Cx p s m _ meth c (XI D cs wi) D d A "DishLift" cX0_row 5 (some .int) "row" := cx
  have cx' := cx
  obtain ⟨hx, hb, hr, hlk, hml, hown, hts, hK, hA, hXs, hnm⟩ := cx'
  have hl : lv_has ls 5 [(0, .ref (sa 0)), (1, .int p1), (2, .int p2), (3, .int p3)] := hl
  generalize hlo : ([] : List Loc) = locs at hw ⊢
  unfold fX0_row at hf
  refine lv_iload_n hx hb dX0_row_0 rfl (lv_at hl 1 rfl) ?_
  obtain ⟨q1, hcq1, hf⟩ := op_e hf
  refine x_SI (wr := [oS sa ha ta gt gf gc tra gs, ((sa 1), .inl (d 3, 8, .inr (.inr (.inr (.inr RW)))))]) (rest := []) [.int p1] hX cx hw hl.1 (mX0_isRow l (XI D cs wi) hX D d  p1  q1 hcq1) (lw_S q342 q343 q82 q344) hd_X0_isRow ⟨(Nat.le_of_ble_eq_true rfl), (Nat.le_of_ble_eq_true rfl)⟩ rfl rfl (Nat.le_of_ble_eq_true rfl) dX0_row_1 [] [0, 1] rfl rfl rfl rfl (by decide) ⟨(Nat.le_of_ble_eq_true rfl), (Nat.le_of_ble_eq_true rfl)⟩ (fun r u H locs hp hw => ?_)
  have hw : Wd D A s [oS sa ha ta gt gf gc tra gs, ((sa 1), .inl (d 3, 8, .inr (.inr (.inr (.inr RW)))))] H locs := hw
  subst r
  refine lv_if_eq (tgt := 25) hx hb dX0_row_4 (by decide) (fun c4 => ?_) (fun c4 => ?_)
  · have hf := if_t hf c4
    refine lv_ldc (v := (-1000001)) hx hb hown (hts _ q350) dX0_row_25 ?_
    have hf := sm_e hf
    subst hf
    exact x_retI cx hw rfl (0, 0) rfl [0, 1] rfl rfl (Nat.le_of_ble_eq_true rfl) (Nat.le_of_ble_eq_true rfl) dX0_row_27
  · have hf := if_f hf c4
    refine lv_iload_n hx hb dX0_row_7 rfl (lv_at hl 2 rfl) ?_
    refine lv_i2l (v := p2.toInt64) hx hb dX0_row_8 rfl ?_
    refine lv_lconst (v := 0) hx hb dX0_row_9 (by decide) ?_
    refine lv_ldc2 (v := 2) hx hb hown (hts _ q349) dX0_row_10 ?_
    obtain ⟨q2, hcq2, hf⟩ := op_e hf
    refine x_SI (wr := [oS sa ha ta gt gf gc tra gs, ((sa 1), .inl (d 3, 8, .inr (.inr (.inr (.inr RW)))))]) (rest := []) [.long p2.toInt64, .long 0, .long 2] hX cx hw hl.1 (mX0_isIn l (XI D cs wi) hX D d  p2.toInt64 0 2  q2 hcq2) (lw_S q346 q347 q82 q348) hd_X0_isIn ⟨(Nat.le_of_ble_eq_true rfl), (Nat.le_of_ble_eq_true rfl)⟩ rfl rfl (Nat.le_of_ble_eq_true rfl) dX0_row_13 [] [0, 1] rfl rfl rfl rfl (by decide) ⟨(Nat.le_of_ble_eq_true rfl), (Nat.le_of_ble_eq_true rfl)⟩ (fun r u H locs hp hw => ?_)
    have hw : Wd D A s [oS sa ha ta gt gf gc tra gs, ((sa 1), .inl (d 3, 8, .inr (.inr (.inr (.inr RW)))))] H locs := hw
    subst r
    refine lv_if_eq (tgt := 25) hx hb dX0_row_16 (by decide) (fun c16 => ?_) (fun c16 => ?_)
    · have hf := if_t hf c16
      refine lv_ldc (v := (-1000001)) hx hb hown (hts _ q350) dX0_row_25 ?_
      have hf := sm_e hf
      subst hf
      exact x_retI cx hw rfl (0, 0) rfl [0, 1] rfl rfl (Nat.le_of_ble_eq_true rfl) (Nat.le_of_ble_eq_true rfl) dX0_row_27
    · have hf := if_f hf c16
      refine lv_iload_n hx hb dX0_row_19 rfl (lv_at hl 3 rfl) ?_
      refine lv_bipush (v := 40) hx hb dX0_row_20 (by decide) ?_
      refine lv_icmp_le (tgt := 28) hx hb dX0_row_22 (by decide) (fun c22 => ?_) (fun c22 => ?_)
      · have hf := if_t hf c22
        refine lv_iload_n hx hb dX0_row_28 rfl (lv_at hl 3 rfl) ?_
        obtain ⟨j3, hjA, hjR⟩ := op_e hf
        refine x_join (A := A) (D := D) (J := 37) (nL := 5) (cells' := 0) (slots' := 0) (st := [.int j3]) [oS sa ha ta gt gf gc tra gs, ((sa 1), .inl (d 3, 8, .inr (.inr (.inr (.inr RW)))))] [(0, .ref (sa 0)), (1, .int p1), (2, .int p2), (3, .int p3)] (fun H locs ls hw hl => ?_) (fun hKj37_j3 => ?_)
        · have hf := hjR
          refine lv_iconst (v := 4) hx hb dX0_row_37 (by decide) ?_
          obtain ⟨r5, hcr5, hf⟩ := op_e hf
          rcases r5 with q6 | e7
          · refine x_SV (wr := [oS sa ha ta gt gf gc tra gs, ((sa 1), .inl (d 3, 8, .inr (.inr (.inr (.inr RW)))))]) (rest := []) [.int j3, .int 4] hX cx hw hl.1 (mX0_must l D d cs wi ln lf dk dn him j3 4  q6 hcr5) (lw_S q351 q352 q82 q353) hd_X0_must ⟨(Nat.le_of_ble_eq_true rfl), (Nat.le_of_ble_eq_true rfl)⟩ rfl rfl (Nat.le_of_ble_eq_true rfl) dX0_row_38 [] [0, 1] rfl rfl rfl rfl (by decide) ⟨(Nat.le_of_ble_eq_true rfl), (Nat.le_of_ble_eq_true rfl)⟩ (fun u H locs hp hw => ?_)
            have hw : Wd D A s [oS sa ha ta gt gf gc tra gs, ((sa 1), .inl (d 3, 8, .inr (.inr (.inr (.inr RW)))))] H locs := hw
            refine lv_aload_n hx hb dX0_row_41 rfl (lv_at hl 0 rfl) ?_
            refine va_get (ci := 1) (C := RX0) (T := TX0) (N := 14) hx hb hts in_X0 hown hK hw.1 0 rfl rfl 0 (by decide) (hts _ q294) (fun _ h9 => h9) rfl dX0_row_42 ?_
            refine lv_iload_n hx hb dX0_row_45 rfl (lv_at hl 1 rfl) ?_
            refine va_new (ci := 10) (fs := [.int 0, .null]) (C := RX11) (T := TX11) (N := 2) hx hb hts in_X11 tyX11 tyX11_ok hown (hts _ q123) (hts _ q419) (hts _ q98) hK hw.1 hw.2.1 hw.2.2 hA rfl (fun j hj => match j, hj with | 0, _ => rfl | 1, _ => rfl | j + 2, hj => absurd hj (by omega)) (Nat.le_of_ble_eq_true rfl) (Nat.le_of_ble_eq_true rfl) dX0_row_46 (fun a9 H hP hD hS => ?_)
            have hw : Wd D A s [oS sa ha ta gt gf gc tra gs, ((sa 1), .inl (d 3, 8, .inr (.inr (.inr (.inr RW))))), (a9, .inr (10, [.int 0, .null]))] H locs := ⟨hP, hD, hS⟩
            refine W.widen (k := 1) (n := 2) (Nat.le_of_ble_eq_true rfl) (Nat.le_of_ble_eq_true rfl) ?_
            refine lv_dup hx hb dX0_row_49 rfl ?_
            refine lv_iload_n hx hb dX0_row_50 rfl (lv_at hl 2 rfl) ?_
            refine lv_iload_n hx hb dX0_row_51 rfl (lv_at hl 3 rfl) ?_
            obtain ⟨q11, hcq11, hf⟩ := op_e hf
            refine x_NV (wr := [oS sa ha ta gt gf gc tra gs, ((sa 1), .inl (d 3, 8, .inr (.inr (.inr (.inr RW)))))]) (rest := [.ref a9, .int p1, .ref (sa 1)]) [.int p2, .int p3] hX cx hw hl.1 (mX11_init l cs wi D d a9 p2 p3 q11 hcq11) q422 q98 q420 q421 rfl hd_X11_init ⟨(Nat.le_of_ble_eq_true rfl), (Nat.le_of_ble_eq_true rfl)⟩ rfl rfl (Nat.le_of_ble_eq_true rfl) dX0_row_52 [2] [0, 1] rfl rfl rfl rfl (by decide) ⟨(Nat.le_of_ble_eq_true rfl), (Nat.le_of_ble_eq_true rfl)⟩ (fun u H locs hp hw => ?_)
            obtain ⟨a10, rfl⟩ : ∃ z, z = u := ⟨_, rfl⟩
            have hw : Wd D A s [oS sa ha ta gt gf gc tra gs, ((sa 1), .inl (d 3, 8, .inr (.inr (.inr (.inr RW))))), (a9, .inr (10, [.int p2, .ref a10])), (a10, .inl (d 0, p3.toNatClampNeg, .inl (fun _ => 0)))] H locs := hw
            refine W.widen (k := 2) (n := 42) (Nat.le_of_ble_eq_true rfl) (Nat.le_of_ble_eq_true rfl) ?_
            obtain ⟨g12, hgi, hf⟩ := op_e hf
            refine va_astq hx hb hK hw.1 hw.2.1 hw.2.2 1 3 2 10 rfl rfl rfl rfl (gix_spec hgi) dX0_row_55 (fun H locs hP hD hS => ?_)
            have hw : Wd D A s [oS sa ha ta gt gf gc tra gs, ((sa 1), .inl (d 3, 8, .inr (.inr (.inr (.inr (va_up RW p1.toNatClampNeg (some a9))))))), (a9, .inr (10, [.int p2, .ref a10])), (a10, .inl (d 0, p3.toNatClampNeg, .inl (fun _ => 0)))] H locs := ⟨hP, hD, hS⟩
            refine lv_aload_n hx hb dX0_row_56 rfl (lv_at hl 0 rfl) ?_
            refine lv_iload_n hx hb dX0_row_57 rfl (lv_at hl 3 rfl) ?_
            obtain ⟨q13, hcq13, hf⟩ := op_e hf
            refine x_VI (wr := [((sa 1), .inl (d 3, 8, .inr (.inr (.inr (.inr (va_up RW p1.toNatClampNeg (some a9))))))), (a9, .inr (10, [.int p2, .ref a10])), (a10, .inl (d 0, p3.toNatClampNeg, .inl (fun _ => 0)))]) (rest := []) [.int p3] hX cx hw hl.1 (mX0_well l  D d cs wi ln lf dk dn him sa ha ta gt gf gc tra gs p3  q13 hcq13) (lw_V q433 q435 qs1 q82 q436) hd_X0_well ⟨(Nat.le_of_ble_eq_true rfl), (Nat.le_of_ble_eq_true rfl)⟩ (va_recv hK hw.1 (ci := 1) (q0 := 0) rfl rfl) rfl rfl (Nat.le_of_ble_eq_true rfl) dX0_row_58 [0] [1, 2, 3] rfl rfl rfl rfl (by decide) ⟨(Nat.le_of_ble_eq_true rfl), (Nat.le_of_ble_eq_true rfl)⟩ (fun r u H locs hp hw => ?_)
            have hw : Wd D A s [((sa 1), .inl (d 3, 8, .inr (.inr (.inr (.inr (va_up RW p1.toNatClampNeg (some a9))))))), (a9, .inr (10, [.int p2, .ref a10])), (a10, .inl (d 0, p3.toNatClampNeg, .inl (fun _ => 0))), oS sa ha ta gt gf gc tra q13.2] H locs := hw
            subst r
            have hf := sm_e hf
            subst hf
            exact x_retI cx hw rfl (a9, a10) rfl [3, 0, 1, 2] rfl rfl (Nat.le_of_ble_eq_true rfl) (Nat.le_of_ble_eq_true rfl) dX0_row_61
          · refine x_TS (wr := [oS sa ha ta gt gf gc tra gs, ((sa 1), .inl (d 3, 8, .inr (.inr (.inr (.inr RW)))))]) (rest := []) [.int j3, .int 4] hX cx hw hl.1 (tX0_must l D d cs wi ln lf dk dn him j3 4  e7 hcr5) (lw_S q351 q352 q82 q353) hd_X0_must ⟨(Nat.le_of_ble_eq_true rfl), (Nat.le_of_ble_eq_true rfl)⟩ rfl rfl (Nat.le_of_ble_eq_true rfl) dX0_row_38 [] [0, 1] rfl rfl rfl rfl (by decide) ⟨(Nat.le_of_ble_eq_true rfl), (Nat.le_of_ble_eq_true rfl)⟩ (fun a4 ce u H locs hw g1 g2 g3 => ?_)
            have hw : Wd D A s [oS sa ha ta gt gf gc tra gs, ((sa 1), .inl (d 3, 8, .inr (.inr (.inr (.inr RW))))), (a4, .inr (12, [.null, .null, .null, .null, .null, .int 0, .int e7]))] H locs := hw
            refine vx_catch (E := "DishLift$Finding") (ce := ce) hown [] ⟨28, 61, 62, 74⟩ [] hET (fun z hz => absurd hz List.not_mem_nil) rfl (by decide) (hts _ q341) (va_tabs rfl rfl (Tb.cast q355 hXs.1)) g1 g2 g3 ?_
            refine W.eq (g2 := F0 m 62 ls [.ref a4]) rfl ?_
            refine W.widen (k := 1) (n := 7) (Nat.le_of_ble_eq_true rfl) (Nat.le_of_ble_eq_true rfl) ?_
            refine lv_astore (lv' := [(4, .ref a4), (0, .ref (sa 0)), (1, .int p1), (2, .int p2), (3, .int p3)]) hx hb dX0_row_62 hl (by decide) rfl (fun ls hl => ?_)
            refine lv_aload_n hx hb dX0_row_64 rfl (lv_at hl 1 rfl) ?_
            refine lv_aload hx hb dX0_row_65 (lv_at hl 0 rfl) ?_
            obtain ⟨q8, hcq8, hf⟩ := op_e hf
            refine x_VI (wr := [((sa 1), .inl (d 3, 8, .inr (.inr (.inr (.inr RW)))))]) (rest := []) [.ref a4] hX cx hw hl.1 (mX0_found l  D d cs wi ln lf dk dn him sa ha ta a4 gt gf gc tra gs e7  q8 hcq8) (lw_V q437 q439 qs2 q82 q440) hd_X0_found ⟨(Nat.le_of_ble_eq_true rfl), (Nat.le_of_ble_eq_true rfl)⟩ (va_recv hK hw.1 (ci := 1) (q0 := 0) rfl rfl) rfl rfl (Nat.le_of_ble_eq_true rfl) dX0_row_67 [2, 0] [1] rfl rfl rfl rfl (by decide) ⟨(Nat.le_of_ble_eq_true rfl), (Nat.le_of_ble_eq_true rfl)⟩ (fun r u H locs hp hw => ?_)
            have hw : Wd D A s [((sa 1), .inl (d 3, 8, .inr (.inr (.inr (.inr RW))))), (a4, .inr (12, [.null, .null, .null, .null, .null, .int 0, .int e7])), oS sa ha ta gt gf gc tra q8.2] H locs := hw
            subst r
            have hf := sm_e hf
            subst hf
            exact x_retI cx hw rfl (0, 0) rfl [2, 0] rfl rfl (Nat.le_of_ble_eq_true rfl) (Nat.le_of_ble_eq_true rfl) dX0_row_70
        · have hf := hjA
          refine lv_if_lt (tgt := 36) hx hb dX0_row_29 (by decide) (fun c29 => ?_) (fun c29 => ?_)
          · have hf := if_t hf c29
            refine lv_iconst (v := 0) hx hb dX0_row_36 (by decide) ?_
            have hf := sm_e hf
            subst hf
            exact hKj37_j3 _ _ _ hw hl
          · have hf := if_f hf c29
            refine lv_iconst (v := 1) hx hb dX0_row_32 (by decide) ?_
            refine lv_goto (tgt := 37) hx hb dX0_row_33 (by decide) ?_
            have hf := sm_e hf
            subst hf
            exact hKj37_j3 _ _ _ hw hl
      · have hf := if_f hf c22
        refine lv_ldc (v := (-1000001)) hx hb hown (hts _ q350) dX0_row_25 ?_
        have hf := sm_e hf
        subst hf
        exact x_retI cx hw rfl (0, 0) rfl [0, 1] rfl rfl (Nat.le_of_ble_eq_true rfl) (Nat.le_of_ble_eq_true rfl) dX0_row_27
