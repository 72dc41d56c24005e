set_option maxRecDepth 100000
theorem hd_X0_numberOf : yX0_numberOf.cls = "DishLift" ∧ yX0_numberOf.cls ≠ "java/lang/invoke/MethodHandle" ∧ yX0_numberOf.cls ≠ "java/lang/invoke/VarHandle" ∧ (parseMethodDescriptor yX0_numberOf.desc).map (fun d => d.parameters.length) = some 3 := by decide +kernel
set_option maxHeartbeats 4000000 in
theorem mX0_numberOf (l : Launch)  (D : va_G) (d : Nat → ClassId) (cs : Nat → Nat) (wi : va_W) (ln : Nat → Option Int32) (lf : Nat → Nat → Option Nat) (dk : Nat → Option Nat) (dn : Nat → Int32) (him : ImF d wi ln lf dk dn) (ha : Nat → Nat) (ta : Nat → Nat) (sa : Nat → Nat) (rad : Nat) (rn : Nat) (hv : HV) (tv : HV) (gt : Int32) (gf : Int32) (gc : Int32) (tra : Nat) (gs : Int32) (TK : Nat → Option Nat) (RC : Nat → Int32) (p1 : Int32) (p2 : Int32)  (res : Int32 × HV) (hf : fX0_numberOf ln lf dk rn hv tv TK RC p1 p2 = some res) : MetI l yX0_numberOf (ws_ yX0_numberOf cX0_numberOf 8 (some .int)) { frames := 7, cells := 0, slots := 0, locals := 207 } [.ref (sa 0), .int p1, .int p2, .ref rad] (XI D cs wi) D d [oH ha (Hfl hv) (Hro hv) (Hrp hv) (Hca hv) (Hwy hv) (Hla hv) (Hmi hv) (Htf hv) (Htk hv), aV d ha 1 (HHO hv), aV d ha 2 (HAT hv), aV d ha 3 (HTO hv), aV d ha 4 (HWE hv), aV d ha 5 (HHE hv), aV d ha 6 (HRA hv), (rad, .inl (d 0, rn, .inl RC)), oS sa ha ta gt gf gc tra gs, ((sa 7), .inl (d 5, 5, .inr (.inr (.inr (.inr TK))))), oH ta (Hfl tv) (Hro tv) (Hrp tv) (Hca tv) (Hwy tv) (Hla tv) (Hmi tv) (Htf tv) (Htk tv), aV d ta 1 (HHO tv), aV d ta 2 (HAT tv), aV d ta 3 (HTO tv), aV d ta 4 (HWE tv), aV d ta 5 (HHE tv), aV d ta 6 (HRA tv)] (fun r (_ : Unit) => r = res.1) (fun _ => [oH ha (Hfl hv) (Hro hv) (Hrp hv) (Hca hv) (Hwy hv) (Hla hv) (Hmi hv) (Htf hv) (Htk hv), aV d ha 1 (HHO hv), aV d ha 2 (HAT hv), aV d ha 3 (HTO hv), aV d ha 4 (HWE hv), aV d ha 5 (HHE hv), aV d ha 6 (HRA hv), (rad, .inl (d 0, rn, .inl RC)), oS sa ha ta gt gf gc tra gs, ((sa 7), .inl (d 5, 5, .inr (.inr (.inr (.inr TK))))), oH ta (Hfl res.2) (Hro res.2) (Hrp res.2) (Hca res.2) (Hwy res.2) (Hla res.2) (Hmi res.2) (Htf res.2) (Htk res.2), aV d ta 1 (HHO res.2), aV d ta 2 (HAT res.2), aV d ta 3 (HTO res.2), aV d ta 4 (HWE res.2), aV d ta 5 (HHE res.2), aV d ta 6 (HRA res.2)]) := by
  have hX := XI.ok (D := D) (cs := cs) (wi := wi)
  refine MetI.of (by decide +kernel) (Nat.le_of_ble_eq_true rfl) ?_
  intro p e s m below meth c A cx hw ls hl
  have cx : Cx p s m _ meth c (XI D cs wi) D d A "DishLift" cX0_numberOf 8 (some .int) "numberOf" := cx
  have cx' := cx
  obtain ⟨hx, hb, hr, hlk, hml, hown, hts, hK, hA, hXs, hnm⟩ := cx'
  have hl : lv_has ls 8 [(0, .ref (sa 0)), (1, .int p1), (2, .int p2), (3, .ref rad)] := hl
  unfold fX0_numberOf at hf
  refine lv_iconst (v := 0) hx hb dX0_numberOf_0 (by decide) ?_
  refine lv_istore (lv' := [(4, .int 0), (0, .ref (sa 0)), (1, .int p1), (2, .int p2), (3, .ref rad)]) hx hb dX0_numberOf_1 hl (by decide) rfl (fun ls hl => ?_)
  refine lv_ldcw (v := (-1000000)) hx hb hown (hts _ q948) dX0_numberOf_3 ?_
  refine lv_istore (lv' := [(5, .int (-1000000)), (4, .int 0), (0, .ref (sa 0)), (1, .int p1), (2, .int p2), (3, .ref rad)]) hx hb dX0_numberOf_6 hl (by decide) rfl (fun ls hl => ?_)
  refine lv_iload_n hx hb dX0_numberOf_8 rfl (lv_at hl 4 rfl) ?_
  refine lv_iconst (v := 4) hx hb dX0_numberOf_9 (by decide) ?_
  obtain ⟨j1, hjA, hjR⟩ := op_e hf
  refine x_join (A := A) (D := D) (J := 18) (nL := 8) (cells' := 0) (slots' := 0) (st := [.int j1]) [oH ha (Hfl hv) (Hro hv) (Hrp hv) (Hca hv) (Hwy hv) (Hla hv) (Hmi hv) (Htf hv) (Htk hv), aV d ha 1 (HHO hv), aV d ha 2 (HAT hv), aV d ha 3 (HTO hv), aV d ha 4 (HWE hv), aV d ha 5 (HHE hv), aV d ha 6 (HRA hv), (rad, .inl (d 0, rn, .inl RC)), oS sa ha ta gt gf gc tra gs, ((sa 7), .inl (d 5, 5, .inr (.inr (.inr (.inr TK))))), oH ta (Hfl tv) (Hro tv) (Hrp tv) (Hca tv) (Hwy tv) (Hla tv) (Hmi tv) (Htf tv) (Htk tv), aV d ta 1 (HHO tv), aV d ta 2 (HAT tv), aV d ta 3 (HTO tv), aV d ta 4 (HWE tv), aV d ta 5 (HHE tv), aV d ta 6 (HRA tv)] [(0, .ref (sa 0)), (1, .int p1), (2, .int p2), (3, .ref rad), (4, .int 0), (5, .int (-1000000))] (fun H locs ls hw hl => ?_) (fun hKj18_j1 => ?_)
  · have hf := hjR
    refine lv_istore (lv' := [(6, .int j1), (0, .ref (sa 0)), (1, .int p1), (2, .int p2), (3, .ref rad), (4, .int 0), (5, .int (-1000000))]) hx hb dX0_numberOf_18 hl (by decide) rfl (fun ls hl => ?_)
    refine lv_iload hx hb dX0_numberOf_20 (lv_at hl 0 rfl) ?_
    obtain ⟨j2, hjA, hjR⟩ := op_e hf
    refine x_join (A := A) (D := D) (J := 32) (nL := 8) (cells' := 0) (slots' := 0) (st := [.int j2]) [oH ha (Hfl hv) (Hro hv) (Hrp hv) (Hca hv) (Hwy hv) (Hla hv) (Hmi hv) (Htf hv) (Htk hv), aV d ha 1 (HHO hv), aV d ha 2 (HAT hv), aV d ha 3 (HTO hv), aV d ha 4 (HWE hv), aV d ha 5 (HHE hv), aV d ha 6 (HRA hv), (rad, .inl (d 0, rn, .inl RC)), oS sa ha ta gt gf gc tra gs, ((sa 7), .inl (d 5, 5, .inr (.inr (.inr (.inr TK))))), oH ta (Hfl tv) (Hro tv) (Hrp tv) (Hca tv) (Hwy tv) (Hla tv) (Hmi tv) (Htf tv) (Htk tv), aV d ta 1 (HHO tv), aV d ta 2 (HAT tv), aV d ta 3 (HTO tv), aV d ta 4 (HWE tv), aV d ta 5 (HHE tv), aV d ta 6 (HRA tv)] [(0, .ref (sa 0)), (1, .int p1), (2, .int p2), (3, .ref rad), (4, .int 0), (5, .int (-1000000)), (6, .int j1)] (fun H locs ls hw hl => ?_) (fun hKj32_j2 => ?_)
    · have hf := hjR
      refine lv_istore (lv' := [(7, .int j2), (0, .ref (sa 0)), (1, .int p1), (2, .int p2), (3, .ref rad), (4, .int 0), (5, .int (-1000000)), (6, .int j1)]) hx hb dX0_numberOf_32 hl (by decide) rfl (fun ls hl => ?_)
      obtain ⟨r3, hlp34, hf⟩ := op_e hf
      refine x_join (A := A) (D := D) (J := 91) (nL := 8) (cells' := 0) (slots' := 0) (st := []) [oH ha (Hfl hv) (Hro hv) (Hrp hv) (Hca hv) (Hwy hv) (Hla hv) (Hmi hv) (Htf hv) (Htk hv), aV d ha 1 (HHO hv), aV d ha 2 (HAT hv), aV d ha 3 (HTO hv), aV d ha 4 (HWE hv), aV d ha 5 (HHE hv), aV d ha 6 (HRA hv), (rad, .inl (d 0, rn, .inl RC)), oS sa ha ta gt gf gc tra gs, ((sa 7), .inl (d 5, 5, .inr (.inr (.inr (.inr TK))))), oH ta (Hfl r3.2.2) (Hro r3.2.2) (Hrp r3.2.2) (Hca r3.2.2) (Hwy r3.2.2) (Hla r3.2.2) (Hmi r3.2.2) (Htf r3.2.2) (Htk r3.2.2), aV d ta 1 (HHO r3.2.2), aV d ta 2 (HAT r3.2.2), aV d ta 3 (HTO r3.2.2), aV d ta 4 (HWE r3.2.2), aV d ta 5 (HHE r3.2.2), aV d ta 6 (HRA r3.2.2)] [(2, .int p2), (4, .int r3.1), (5, .int r3.2.1)] (fun H locs ls hw hl => ?_) (fun hK34 => ?_)
      · refine lv_iload_n hx hb dX0_numberOf_91 rfl (lv_at hl 0 rfl) ?_
        refine lv_iconst (v := 2) hx hb dX0_numberOf_92 (by decide) ?_
        refine lv_irem hx hb dX0_numberOf_93 (by decide) ?_
        refine lv_if_ne (tgt := 102) hx hb dX0_numberOf_94 (by decide) (fun c94 => ?_) (fun c94 => ?_)
        · have hf := if_f hf c94
          refine lv_iload hx hb dX0_numberOf_102 (lv_at hl 2 rfl) ?_
          have hf := sm_e hf
          subst hf
          exact x_retI cx hw rfl () rfl [0, 1, 2, 3, 4, 5, 6, 7, 8, 9, 10, 11, 12, 13, 14, 15, 16] rfl rfl (Nat.le_of_ble_eq_true rfl) (Nat.le_of_ble_eq_true rfl) dX0_numberOf_104
        · have hf := if_t hf c94
          refine lv_iload hx hb dX0_numberOf_97 (lv_at hl 1 rfl) ?_
          refine lv_goto (tgt := 104) hx hb dX0_numberOf_99 (by decide) ?_
          have hf := sm_e hf
          subst hf
          exact x_retI cx hw rfl () rfl [0, 1, 2, 3, 4, 5, 6, 7, 8, 9, 10, 11, 12, 13, 14, 15, 16] rfl rfl (Nat.le_of_ble_eq_true rfl) (Nat.le_of_ble_eq_true rfl) dX0_numberOf_104
      · refine x_lp hlp34 (fun x34 => [oH ha (Hfl hv) (Hro hv) (Hrp hv) (Hca hv) (Hwy hv) (Hla hv) (Hmi hv) (Htf hv) (Htk hv), aV d ha 1 (HHO hv), aV d ha 2 (HAT hv), aV d ha 3 (HTO hv), aV d ha 4 (HWE hv), aV d ha 5 (HHE hv), aV d ha 6 (HRA hv), (rad, .inl (d 0, rn, .inl RC)), oS sa ha ta gt gf gc tra gs, ((sa 7), .inl (d 5, 5, .inr (.inr (.inr (.inr TK))))), oH ta (Hfl x34.2.2.2) (Hro x34.2.2.2) (Hrp x34.2.2.2) (Hca x34.2.2.2) (Hwy x34.2.2.2) (Hla x34.2.2.2) (Hmi x34.2.2.2) (Htf x34.2.2.2) (Htk x34.2.2.2), aV d ta 1 (HHO x34.2.2.2), aV d ta 2 (HAT x34.2.2.2), aV d ta 3 (HTO x34.2.2.2), aV d ta 4 (HWE x34.2.2.2), aV d ta 5 (HHE x34.2.2.2), aV d ta 6 (HRA x34.2.2.2)]) (fun x34 => [(0, .ref (sa 0)), (1, .int p1), (2, .int p2), (3, .ref rad), (4, .int x34.1), (5, .int x34.2.1), (6, .int j1), (7, .int x34.2.2.1)]) hw (lv_sub hl [1, 2, 3, 4, 5, 6, 7, 0] rfl) (fun x34 y34 hf hin34 hout34 H locs ls hw hl => ?_)
        have hw : Wd D A s [oH ha (Hfl hv) (Hro hv) (Hrp hv) (Hca hv) (Hwy hv) (Hla hv) (Hmi hv) (Htf hv) (Htk hv), aV d ha 1 (HHO hv), aV d ha 2 (HAT hv), aV d ha 3 (HTO hv), aV d ha 4 (HWE hv), aV d ha 5 (HHE hv), aV d ha 6 (HRA hv), (rad, .inl (d 0, rn, .inl RC)), oS sa ha ta gt gf gc tra gs, ((sa 7), .inl (d 5, 5, .inr (.inr (.inr (.inr TK))))), oH ta (Hfl x34.2.2.2) (Hro x34.2.2.2) (Hrp x34.2.2.2) (Hca x34.2.2.2) (Hwy x34.2.2.2) (Hla x34.2.2.2) (Hmi x34.2.2.2) (Htf x34.2.2.2) (Htk x34.2.2.2), aV d ta 1 (HHO x34.2.2.2), aV d ta 2 (HAT x34.2.2.2), aV d ta 3 (HTO x34.2.2.2), aV d ta 4 (HWE x34.2.2.2), aV d ta 5 (HHE x34.2.2.2), aV d ta 6 (HRA x34.2.2.2)] H locs := hw
        have hl : lv_has ls 8 [(0, .ref (sa 0)), (1, .int p1), (2, .int p2), (3, .ref rad), (4, .int x34.1), (5, .int x34.2.1), (6, .int j1), (7, .int x34.2.2.1)] := hl
        refine lv_iload hx hb dX0_numberOf_34 (lv_at hl 7 rfl) ?_
        refine lv_iload hx hb dX0_numberOf_36 (lv_at hl 6 rfl) ?_
        obtain ⟨j4, hjA, hjR⟩ := op_e hf
        refine x_join (A := A) (D := D) (J := 46) (nL := 8) (cells' := 0) (slots' := 0) (st := [.int j4, .int x34.2.2.1]) [oH ha (Hfl hv) (Hro hv) (Hrp hv) (Hca hv) (Hwy hv) (Hla hv) (Hmi hv) (Htf hv) (Htk hv), aV d ha 1 (HHO hv), aV d ha 2 (HAT hv), aV d ha 3 (HTO hv), aV d ha 4 (HWE hv), aV d ha 5 (HHE hv), aV d ha 6 (HRA hv), (rad, .inl (d 0, rn, .inl RC)), oS sa ha ta gt gf gc tra gs, ((sa 7), .inl (d 5, 5, .inr (.inr (.inr (.inr TK))))), oH ta (Hfl x34.2.2.2) (Hro x34.2.2.2) (Hrp x34.2.2.2) (Hca x34.2.2.2) (Hwy x34.2.2.2) (Hla x34.2.2.2) (Hmi x34.2.2.2) (Htf x34.2.2.2) (Htk x34.2.2.2), aV d ta 1 (HHO x34.2.2.2), aV d ta 2 (HAT x34.2.2.2), aV d ta 3 (HTO x34.2.2.2), aV d ta 4 (HWE x34.2.2.2), aV d ta 5 (HHE x34.2.2.2), aV d ta 6 (HRA x34.2.2.2)] [(0, .ref (sa 0)), (1, .int p1), (2, .int p2), (3, .ref rad), (4, .int x34.1), (5, .int x34.2.1), (6, .int j1), (7, .int x34.2.2.1)] (fun H locs ls hw hl => ?_) (fun hKj46_j4 => ?_)
        · have hf := hjR
          refine lv_icmp_lt (tgt := 91) hx hb dX0_numberOf_46 (by decide) (fun c46 => ?_) (fun c46 => ?_)
          · have hf := if_t hf c46
            have hf := sm_e hf
            subst hf
            have hz := hout34 _ rfl
            subst hz
            exact hK34 _ _ _ hw (lv_sub hl [2, 4, 5] rfl)
          · have hf := if_f hf c46
            refine lv_aload_n hx hb dX0_numberOf_49 rfl (lv_at hl 0 rfl) ?_
            refine lv_iload_n hx hb dX0_numberOf_50 rfl (lv_at hl 1 rfl) ?_
            refine lv_iload hx hb dX0_numberOf_51 (lv_at hl 6 rfl) ?_
            obtain ⟨j5, hjA, hjR⟩ := op_e hf
            refine x_join (A := A) (D := D) (J := 61) (nL := 8) (cells' := 0) (slots' := 0) (st := [.int j5, .int p1, .ref (sa 0)]) [oH ha (Hfl hv) (Hro hv) (Hrp hv) (Hca hv) (Hwy hv) (Hla hv) (Hmi hv) (Htf hv) (Htk hv), aV d ha 1 (HHO hv), aV d ha 2 (HAT hv), aV d ha 3 (HTO hv), aV d ha 4 (HWE hv), aV d ha 5 (HHE hv), aV d ha 6 (HRA hv), (rad, .inl (d 0, rn, .inl RC)), oS sa ha ta gt gf gc tra gs, ((sa 7), .inl (d 5, 5, .inr (.inr (.inr (.inr TK))))), oH ta (Hfl x34.2.2.2) (Hro x34.2.2.2) (Hrp x34.2.2.2) (Hca x34.2.2.2) (Hwy x34.2.2.2) (Hla x34.2.2.2) (Hmi x34.2.2.2) (Htf x34.2.2.2) (Htk x34.2.2.2), aV d ta 1 (HHO x34.2.2.2), aV d ta 2 (HAT x34.2.2.2), aV d ta 3 (HTO x34.2.2.2), aV d ta 4 (HWE x34.2.2.2), aV d ta 5 (HHE x34.2.2.2), aV d ta 6 (HRA x34.2.2.2)] [(0, .ref (sa 0)), (1, .int p1), (2, .int p2), (3, .ref rad), (4, .int x34.1), (5, .int x34.2.1), (6, .int j1), (7, .int x34.2.2.1)] (fun H locs ls hw hl => ?_) (fun hKj61_j5 => ?_)
            · have hf := hjR
              refine lv_iload hx hb dX0_numberOf_61 (lv_at hl 7 rfl) ?_
              obtain ⟨q6, hcq6, hf⟩ := op_e hf
              refine x_VV (wr := [(rad, .inl (d 0, rn, .inl RC))]) (rest := []) [.int p1, .int j5, .int x34.2.2.1] hX cx hw hl.1 (mX0_alters l  D d cs wi ln lf dk dn him ha ta sa hv x34.2.2.2 gt gf gc tra gs TK p1 j5 x34.2.2.1 q6 hcq6) (lw_V q1051 q1053 qs33 q82 q1054) hd_X0_alters ⟨(Nat.le_of_ble_eq_true rfl), (Nat.le_of_ble_eq_true rfl)⟩ (va_recv hK hw.1 (ci := 1) (q0 := 8) rfl rfl) rfl rfl (Nat.le_of_ble_eq_true rfl) dX0_numberOf_63 [0, 1, 2, 3, 4, 5, 6, 8, 9, 10, 11, 12, 13, 14, 15, 16] [7] rfl rfl rfl rfl (by decide) ⟨(Nat.le_of_ble_eq_true rfl), (Nat.le_of_ble_eq_true rfl)⟩ (fun u H locs hp hw => ?_)
              have hw : Wd D A s [(rad, .inl (d 0, rn, .inl RC)), oH ha (Hfl hv) (Hro hv) (Hrp hv) (Hca hv) (Hwy hv) (Hla hv) (Hmi hv) (Htf hv) (Htk hv), aV d ha 1 (HHO hv), aV d ha 2 (HAT hv), aV d ha 3 (HTO hv), aV d ha 4 (HWE hv), aV d ha 5 (HHE hv), aV d ha 6 (HRA hv), oS sa ha ta gt gf gc tra gs, ((sa 7), .inl (d 5, 5, .inr (.inr (.inr (.inr TK))))), oH ta (Hfl q6) (Hro q6) (Hrp q6) (Hca q6) (Hwy q6) (Hla q6) (Hmi q6) (Htf q6) (Htk q6), aV d ta 1 (HHO q6), aV d ta 2 (HAT q6), aV d ta 3 (HTO q6), aV d ta 4 (HWE q6), aV d ta 5 (HHE q6), aV d ta 6 (HRA q6)] H locs := hw
              refine lv_aload_n hx hb dX0_numberOf_66 rfl (lv_at hl 0 rfl) ?_
              refine lv_iload_n hx hb dX0_numberOf_67 rfl (lv_at hl 1 rfl) ?_
              refine lv_aload_n hx hb dX0_numberOf_68 rfl (lv_at hl 3 rfl) ?_
              obtain ⟨q7, hcq7, hf⟩ := op_e hf
              refine x_VI (wr := [oH ha (Hfl hv) (Hro hv) (Hrp hv) (Hca hv) (Hwy hv) (Hla hv) (Hmi hv) (Htf hv) (Htk hv), aV d ha 1 (HHO hv), aV d ha 2 (HAT hv), aV d ha 3 (HTO hv), aV d ha 4 (HWE hv), aV d ha 5 (HHE hv), aV d ha 6 (HRA hv), ((sa 7), .inl (d 5, 5, .inr (.inr (.inr (.inr TK)))))]) (rest := []) [.int p1, .ref rad] hX cx hw hl.1 (mX0_isSo l  D d cs wi ln lf dk dn him ta sa ha rad rn q6 gt gf gc tra gs RC p1 q7 hcq7) (lw_V q1055 q1057 qs34 q82 q1058) hd_X0_isSo ⟨(Nat.le_of_ble_eq_true rfl), (Nat.le_of_ble_eq_true rfl)⟩ (va_recv hK hw.1 (ci := 1) (q0 := 8) rfl rfl) rfl rfl (Nat.le_of_ble_eq_true rfl) dX0_numberOf_69 [0, 8, 10, 11, 12, 13, 14, 15, 16] [1, 2, 3, 4, 5, 6, 7, 9] rfl rfl rfl rfl (by decide) ⟨(Nat.le_of_ble_eq_true rfl), (Nat.le_of_ble_eq_true rfl)⟩ (fun r u H locs hp hw => ?_)
              have hw : Wd D A s [oH ha (Hfl hv) (Hro hv) (Hrp hv) (Hca hv) (Hwy hv) (Hla hv) (Hmi hv) (Htf hv) (Htk hv), aV d ha 1 (HHO hv), aV d ha 2 (HAT hv), aV d ha 3 (HTO hv), aV d ha 4 (HWE hv), aV d ha 5 (HHE hv), aV d ha 6 (HRA hv), ((sa 7), .inl (d 5, 5, .inr (.inr (.inr (.inr TK))))), (rad, .inl (d 0, rn, .inl RC)), oS sa ha ta gt gf gc tra gs, oH ta (Hfl q7.2) (Hro q7.2) (Hrp q7.2) (Hca q7.2) (Hwy q7.2) (Hla q7.2) (Hmi q7.2) (Htf q7.2) (Htk q7.2), aV d ta 1 (HHO q7.2), aV d ta 2 (HAT q7.2), aV d ta 3 (HTO q7.2), aV d ta 4 (HWE q7.2), aV d ta 5 (HHE q7.2), aV d ta 6 (HRA q7.2)] H locs := hw
              subst r
              refine lv_if_ne (tgt := 78) hx hb dX0_numberOf_72 (by decide) (fun c72 => ?_) (fun c72 => ?_)
              · have hf := if_f hf c72
                refine lv_iload hx hb dX0_numberOf_78 (lv_at hl 7 rfl) ?_
                refine lv_istore (lv' := [(5, .int x34.2.2.1), (0, .ref (sa 0)), (1, .int p1), (2, .int p2), (3, .ref rad), (4, .int x34.1), (6, .int j1), (7, .int x34.2.2.1)]) hx hb dX0_numberOf_80 hl (by decide) rfl (fun ls hl => ?_)
                refine lv_iinc (v := (x34.1 + 1)) (lv' := [(4, .int (x34.1 + 1)), (5, .int x34.2.2.1), (0, .ref (sa 0)), (1, .int p1), (2, .int p2), (3, .ref rad), (6, .int j1), (7, .int x34.2.2.1)]) hx hb dX0_numberOf_82 hl (k := 5) rfl (by first | rfl | decide) (by decide) rfl (fun ls hl => ?_)
                obtain ⟨z9, hz0, hf⟩ := op_e hf
                have ez := sm_e hz0
                refine lv_iinc (v := z9) (lv' := [(7, .int z9), (4, .int (x34.1 + 1)), (5, .int x34.2.2.1), (0, .ref (sa 0)), (1, .int p1), (2, .int p2), (3, .ref rad), (6, .int j1)]) hx hb dX0_numberOf_85 hl (k := 7) rfl ((iinc_m1 _).trans ez) (by decide) rfl (fun ls hl => ?_)
                refine lv_goto (tgt := 34) hx hb dX0_numberOf_88 (by decide) ?_
                have hf := sm_e hf
                subst hf
                exact hin34 _ rfl _ _ _ (hw.sub [0, 1, 2, 3, 4, 5, 6, 8, 9, 7, 10, 11, 12, 13, 14, 15, 16] rfl rfl) (lv_sub hl [3, 4, 5, 6, 1, 2, 7, 0] rfl)
              · have hf := if_t hf c72
                refine lv_goto (tgt := 85) hx hb dX0_numberOf_75 (by decide) ?_
                obtain ⟨z8, hz0, hf⟩ := op_e hf
                have ez := sm_e hz0
                refine lv_iinc (v := z8) (lv' := [(7, .int z8), (0, .ref (sa 0)), (1, .int p1), (2, .int p2), (3, .ref rad), (4, .int x34.1), (5, .int x34.2.1), (6, .int j1)]) hx hb dX0_numberOf_85 hl (k := 7) rfl ((iinc_m1 _).trans ez) (by decide) rfl (fun ls hl => ?_)
                refine lv_goto (tgt := 34) hx hb dX0_numberOf_88 (by decide) ?_
                have hf := sm_e hf
                subst hf
                exact hin34 _ rfl _ _ _ (hw.sub [0, 1, 2, 3, 4, 5, 6, 8, 9, 7, 10, 11, 12, 13, 14, 15, 16] rfl rfl) (lv_sub hl [1, 2, 3, 4, 5, 6, 7, 0] rfl)
            · have hf := hjA
              refine lv_if_eq (tgt := 60) hx hb dX0_numberOf_53 (by decide) (fun c53 => ?_) (fun c53 => ?_)
              · have hf := if_t hf c53
                refine lv_iconst (v := 4) hx hb dX0_numberOf_60 (by decide) ?_
                have hf := sm_e hf
                subst hf
                exact hKj61_j5 _ _ _ hw hl
              · have hf := if_f hf c53
                refine lv_iconst (v := 2) hx hb dX0_numberOf_56 (by decide) ?_
                refine lv_goto (tgt := 61) hx hb dX0_numberOf_57 (by decide) ?_
                have hf := sm_e hf
                subst hf
                exact hKj61_j5 _ _ _ hw hl
        · have hf := hjA
          refine lv_if_eq (tgt := 45) hx hb dX0_numberOf_38 (by decide) (fun c38 => ?_) (fun c38 => ?_)
          · have hf := if_t hf c38
            refine lv_iconst (v := 1) hx hb dX0_numberOf_45 (by decide) ?_
            have hf := sm_e hf
            subst hf
            exact hKj46_j4 _ _ _ hw hl
          · have hf := if_f hf c38
            refine lv_iconst (v := 0) hx hb dX0_numberOf_41 (by decide) ?_
            refine lv_goto (tgt := 46) hx hb dX0_numberOf_42 (by decide) ?_
            have hf := sm_e hf
            subst hf
            exact hKj46_j4 _ _ _ hw hl
    · have hf := hjA
      refine lv_if_eq (tgt := 30) hx hb dX0_numberOf_22 (by decide) (fun c22 => ?_) (fun c22 => ?_)
      · have hf := if_t hf c22
        refine lv_bipush (v := 40) hx hb dX0_numberOf_30 (by decide) ?_
        have hf := sm_e hf
        subst hf
        exact hKj32_j2 _ _ _ hw (lv_sub hl [1, 2, 3, 4, 5, 6, 0] rfl)
      · have hf := if_f hf c22
        refine lv_bipush (v := 60) hx hb dX0_numberOf_25 (by decide) ?_
        refine lv_goto (tgt := 32) hx hb dX0_numberOf_27 (by decide) ?_
        have hf := sm_e hf
        subst hf
        exact hKj32_j2 _ _ _ hw (lv_sub hl [1, 2, 3, 4, 5, 6, 0] rfl)
  · have hf := hjA
    refine lv_icmp_ge (tgt := 17) hx hb dX0_numberOf_10 (by decide) (fun c10 => ?_) (fun c10 => ?_)
    · have hf := if_t hf c10
      refine lv_iconst (v := 0) hx hb dX0_numberOf_17 (by decide) ?_
      have hf := sm_e hf
      subst hf
      exact hKj18_j1 _ _ _ hw (lv_sub hl [2, 3, 4, 5, 1, 0] rfl)
    · have hf := if_f hf c10
      refine lv_iconst (v := 1) hx hb dX0_numberOf_13 (by decide) ?_
      refine lv_goto (tgt := 18) hx hb dX0_numberOf_14 (by decide) ?_
      have hf := sm_e hf
      subst hf
      exact hKj18_j1 _ _ _ hw (lv_sub hl [2, 3, 4, 5, 1, 0] rfl)
theorem hd_X0_stuck : yX0_stuck.cls = "DishLift" ∧ yX0_stuck.cls ≠ "java/lang/invoke/MethodHandle" ∧ yX0_stuck.cls ≠ "java/lang/invoke/VarHandle" ∧ (parseMethodDescriptor yX0_stuck.desc).map (fun d => d.parameters.length) = some 4 := by decide +kernel
set_option maxHeartbeats 4000000 in
theorem mX0_stuck (l : Launch)  (D : va_G) (d : Nat → ClassId) (cs : Nat → Nat) (wi : va_W) (ln : Nat → Option Int32) (lf : Nat → Nat → Option Nat) (dk : Nat → Option Nat) (dn : Nat → Int32) (him : ImF d wi ln lf dk dn) (ha : Nat → Nat) (ta : Nat → Nat) (sa : Nat → Nat) (hv : HV) (tv : HV) (gt : Int32) (gf : Int32) (gc : Int32) (tra : Nat) (gs : Int32) (p1 : Int32) (p2 : Int32) (p3 : Int32) (p4 : Int32)  (res : Int64 × HV) (hf : fX0_stuck ln lf dk hv tv p1 p2 p3 p4 = some res) : MetL l yX0_stuck (ws_ yX0_stuck cX0_stuck 13 (some .long)) { frames := 6, cells := 0, slots := 0, locals := 183 } [.ref (sa 0), .int p1, .int p2, .int p3, .int p4] (XI D cs wi) D d [oH ha (Hfl hv) (Hro hv) (Hrp hv) (Hca hv) (Hwy hv) (Hla hv) (Hmi hv) (Htf hv) (Htk hv), aV d ha 1 (HHO hv), aV d ha 2 (HAT hv), aV d ha 3 (HTO hv), aV d ha 4 (HWE hv), aV d ha 5 (HHE hv), aV d ha 6 (HRA hv), oS sa ha ta gt gf gc tra gs, oH ta (Hfl tv) (Hro tv) (Hrp tv) (Hca tv) (Hwy tv) (Hla tv) (Hmi tv) (Htf tv) (Htk tv), aV d ta 1 (HHO tv), aV d ta 2 (HAT tv), aV d ta 3 (HTO tv), aV d ta 4 (HWE tv), aV d ta 5 (HHE tv), aV d ta 6 (HRA tv)] (fun r (_ : Unit) => r = res.1) (fun _ => [oH ha (Hfl hv) (Hro hv) (Hrp hv) (Hca hv) (Hwy hv) (Hla hv) (Hmi hv) (Htf hv) (Htk hv), aV d ha 1 (HHO hv), aV d ha 2 (HAT hv), aV d ha 3 (HTO hv), aV d ha 4 (HWE hv), aV d ha 5 (HHE hv), aV d ha 6 (HRA hv), oS sa ha ta gt gf gc tra gs, oH ta (Hfl res.2) (Hro res.2) (Hrp res.2) (Hca res.2) (Hwy res.2) (Hla res.2) (Hmi res.2) (Htf res.2) (Htk res.2), aV d ta 1 (HHO res.2), aV d ta 2 (HAT res.2), aV d ta 3 (HTO res.2), aV d ta 4 (HWE res.2), aV d ta 5 (HHE res.2), aV d ta 6 (HRA res.2)]) := by
  have hX := XI.ok (D := D) (cs := cs) (wi := wi)
  refine MetL.of (by decide +kernel) (Nat.le_of_ble_eq_true rfl) ?_
  intro p e s m below meth c A cx hw ls hl
  have cx : Cx p s m _ meth c (XI D cs wi) D d A "DishLift" cX0_stuck 13 (some .long) "stuck" := cx
  have cx' := cx
  obtain ⟨hx, hb, hr, hlk, hml, hown, hts, hK, hA, hXs, hnm⟩ := cx'
  have hl : lv_has ls 13 [(0, .ref (sa 0)), (1, .int p1), (2, .int p2), (3, .int p3), (4, .int p4)] := hl
  unfold fX0_stuck at hf
  refine lv_aload_n hx hb dX0_stuck_0 rfl (lv_at hl 0 rfl) ?_
  refine lv_iload_n hx hb dX0_stuck_1 rfl (lv_at hl 1 rfl) ?_
  obtain ⟨q1, hcq1, hf⟩ := op_e hf
  refine x_VI (wr := [oH ta (Hfl tv) (Hro tv) (Hrp tv) (Hca tv) (Hwy tv) (Hla tv) (Hmi tv) (Htf tv) (Htk tv), aV d ta 1 (HHO tv), aV d ta 2 (HAT tv), aV d ta 3 (HTO tv), aV d ta 4 (HWE tv), aV d ta 5 (HHE tv), aV d ta 6 (HRA tv)]) (rest := []) [.int p1] hX cx hw hl.1 (mX0_isDish l  D d cs wi ln lf dk dn him ha sa ta hv gt gf gc tra gs p1 q1 hcq1) (lw_V q890 q892 qs23 q82 q893) hd_X0_isDish ⟨(Nat.le_of_ble_eq_true rfl), (Nat.le_of_ble_eq_true rfl)⟩ (va_recv hK hw.1 (ci := 1) (q0 := 7) rfl rfl) rfl rfl (Nat.le_of_ble_eq_true rfl) dX0_stuck_2 [0, 1, 2, 3, 4, 5, 6, 7] [8, 9, 10, 11, 12, 13, 14] rfl rfl rfl rfl (by decide) ⟨(Nat.le_of_ble_eq_true rfl), (Nat.le_of_ble_eq_true rfl)⟩ (fun r u H locs hp hw => ?_)
  have hw : Wd D A s [oH ta (Hfl tv) (Hro tv) (Hrp tv) (Hca tv) (Hwy tv) (Hla tv) (Hmi tv) (Htf tv) (Htk tv), aV d ta 1 (HHO tv), aV d ta 2 (HAT tv), aV d ta 3 (HTO tv), aV d ta 4 (HWE tv), aV d ta 5 (HHE tv), aV d ta 6 (HRA tv), oH ha (Hfl hv) (Hro hv) (Hrp hv) (Hca hv) (Hwy hv) (Hla hv) (Hmi hv) (Htf hv) (Htk hv), aV d ha 1 (HHO hv), aV d ha 2 (HAT hv), aV d ha 3 (HTO hv), aV d ha 4 (HWE hv), aV d ha 5 (HHE hv), aV d ha 6 (HRA hv), oS sa ha ta gt gf gc tra gs] H locs := hw
  subst r
  refine lv_if_eq (tgt := 40) hx hb dX0_stuck_5 (by decide) (fun c5 => ?_) (fun c5 => ?_)
  · have hf := if_t hf c5
    refine lv_ldc2 (v := (-1000001)) hx hb hown (hts _ q1069) dX0_stuck_40 ?_
    have hf := sm_e hf
    subst hf
    exact x_retL cx hw () rfl [7, 8, 9, 10, 11, 12, 13, 14, 0, 1, 2, 3, 4, 5, 6] rfl rfl (Nat.le_of_ble_eq_true rfl) (Nat.le_of_ble_eq_true rfl) dX0_stuck_43
  · have hf := if_f hf c5
    refine lv_iload_n hx hb dX0_stuck_8 rfl (lv_at hl 2 rfl) ?_
    refine lv_i2l (v := p2.toInt64) hx hb dX0_stuck_9 rfl ?_
    refine lv_lconst (v := 0) hx hb dX0_stuck_10 (by decide) ?_
    refine lv_ldc2 (v := 8) hx hb hown (hts _ q1067) dX0_stuck_11 ?_
    obtain ⟨q2, hcq2, hf⟩ := op_e hf
    refine x_SI (wr := [oH ta (Hfl tv) (Hro tv) (Hrp tv) (Hca tv) (Hwy tv) (Hla tv) (Hmi tv) (Htf tv) (Htk tv), aV d ta 1 (HHO tv), aV d ta 2 (HAT tv), aV d ta 3 (HTO tv), aV d ta 4 (HWE tv), aV d ta 5 (HHE tv), aV d ta 6 (HRA tv), oH ha (Hfl hv) (Hro hv) (Hrp hv) (Hca hv) (Hwy hv) (Hla hv) (Hmi hv) (Htf hv) (Htk hv), aV d ha 1 (HHO hv), aV d ha 2 (HAT hv), aV d ha 3 (HTO hv), aV d ha 4 (HWE hv), aV d ha 5 (HHE hv), aV d ha 6 (HRA hv), oS sa ha ta gt gf gc tra gs]) (rest := []) [.long p2.toInt64, .long 0, .long 8] hX cx hw hl.1 (mX0_isIn l (XI D cs wi) hX D d  p2.toInt64 0 8 q2 hcq2) (lw_S q346 q347 q82 q348) hd_X0_isIn ⟨(Nat.le_of_ble_eq_true rfl), (Nat.le_of_ble_eq_true rfl)⟩ rfl rfl (Nat.le_of_ble_eq_true rfl) dX0_stuck_14 [] [0, 1, 2, 3, 4, 5, 6, 7, 8, 9, 10, 11, 12, 13, 14] rfl rfl rfl rfl (by decide) ⟨(Nat.le_of_ble_eq_true rfl), (Nat.le_of_ble_eq_true rfl)⟩ (fun r u H locs hp hw => ?_)
    have hw : Wd D A s [oH ta (Hfl tv) (Hro tv) (Hrp tv) (Hca tv) (Hwy tv) (Hla tv) (Hmi tv) (Htf tv) (Htk tv), aV d ta 1 (HHO tv), aV d ta 2 (HAT tv), aV d ta 3 (HTO tv), aV d ta 4 (HWE tv), aV d ta 5 (HHE tv), aV d ta 6 (HRA tv), oH ha (Hfl hv) (Hro hv) (Hrp hv) (Hca hv) (Hwy hv) (Hla hv) (Hmi hv) (Htf hv) (Htk hv), aV d ha 1 (HHO hv), aV d ha 2 (HAT hv), aV d ha 3 (HTO hv), aV d ha 4 (HWE hv), aV d ha 5 (HHE hv), aV d ha 6 (HRA hv), oS sa ha ta gt gf gc tra gs] H locs := hw
    subst r
    refine lv_if_eq (tgt := 40) hx hb dX0_stuck_17 (by decide) (fun c17 => ?_) (fun c17 => ?_)
    · have hf := if_t hf c17
      refine lv_ldc2 (v := (-1000001)) hx hb hown (hts _ q1069) dX0_stuck_40 ?_
      have hf := sm_e hf
      subst hf
      exact x_retL cx hw () rfl [7, 8, 9, 10, 11, 12, 13, 14, 0, 1, 2, 3, 4, 5, 6] rfl rfl (Nat.le_of_ble_eq_true rfl) (Nat.le_of_ble_eq_true rfl) dX0_stuck_43
    · have hf := if_f hf c17
      refine lv_iload_n hx hb dX0_stuck_20 rfl (lv_at hl 3 rfl) ?_
      refine lv_i2l (v := p3.toInt64) hx hb dX0_stuck_21 rfl ?_
      refine lv_lconst (v := 0) hx hb dX0_stuck_22 (by decide) ?_
      refine lv_ldc2 (v := 10) hx hb hown (hts _ q1068) dX0_stuck_23 ?_
      obtain ⟨q3, hcq3, hf⟩ := op_e hf
      refine x_SI (wr := [oH ta (Hfl tv) (Hro tv) (Hrp tv) (Hca tv) (Hwy tv) (Hla tv) (Hmi tv) (Htf tv) (Htk tv), aV d ta 1 (HHO tv), aV d ta 2 (HAT tv), aV d ta 3 (HTO tv), aV d ta 4 (HWE tv), aV d ta 5 (HHE tv), aV d ta 6 (HRA tv), oH ha (Hfl hv) (Hro hv) (Hrp hv) (Hca hv) (Hwy hv) (Hla hv) (Hmi hv) (Htf hv) (Htk hv), aV d ha 1 (HHO hv), aV d ha 2 (HAT hv), aV d ha 3 (HTO hv), aV d ha 4 (HWE hv), aV d ha 5 (HHE hv), aV d ha 6 (HRA hv), oS sa ha ta gt gf gc tra gs]) (rest := []) [.long p3.toInt64, .long 0, .long 10] hX cx hw hl.1 (mX0_isIn l (XI D cs wi) hX D d  p3.toInt64 0 10 q3 hcq3) (lw_S q346 q347 q82 q348) hd_X0_isIn ⟨(Nat.le_of_ble_eq_true rfl), (Nat.le_of_ble_eq_true rfl)⟩ rfl rfl (Nat.le_of_ble_eq_true rfl) dX0_stuck_26 [] [0, 1, 2, 3, 4, 5, 6, 7, 8, 9, 10, 11, 12, 13, 14] rfl rfl rfl rfl (by decide) ⟨(Nat.le_of_ble_eq_true rfl), (Nat.le_of_ble_eq_true rfl)⟩ (fun r u H locs hp hw => ?_)
      have hw : Wd D A s [oH ta (Hfl tv) (Hro tv) (Hrp tv) (Hca tv) (Hwy tv) (Hla tv) (Hmi tv) (Htf tv) (Htk tv), aV d ta 1 (HHO tv), aV d ta 2 (HAT tv), aV d ta 3 (HTO tv), aV d ta 4 (HWE tv), aV d ta 5 (HHE tv), aV d ta 6 (HRA tv), oH ha (Hfl hv) (Hro hv) (Hrp hv) (Hca hv) (Hwy hv) (Hla hv) (Hmi hv) (Htf hv) (Htk hv), aV d ha 1 (HHO hv), aV d ha 2 (HAT hv), aV d ha 3 (HTO hv), aV d ha 4 (HWE hv), aV d ha 5 (HHE hv), aV d ha 6 (HRA hv), oS sa ha ta gt gf gc tra gs] H locs := hw
      subst r
      refine lv_if_eq (tgt := 40) hx hb dX0_stuck_29 (by decide) (fun c29 => ?_) (fun c29 => ?_)
      · have hf := if_t hf c29
        refine lv_ldc2 (v := (-1000001)) hx hb hown (hts _ q1069) dX0_stuck_40 ?_
        have hf := sm_e hf
        subst hf
        exact x_retL cx hw () rfl [7, 8, 9, 10, 11, 12, 13, 14, 0, 1, 2, 3, 4, 5, 6] rfl rfl (Nat.le_of_ble_eq_true rfl) (Nat.le_of_ble_eq_true rfl) dX0_stuck_43
      · have hf := if_f hf c29
        refine lv_iload hx hb dX0_stuck_32 (lv_at hl 4 rfl) ?_
        obtain ⟨q4, hcq4, hf⟩ := op_e hf
        refine x_SI (wr := [oH ta (Hfl tv) (Hro tv) (Hrp tv) (Hca tv) (Hwy tv) (Hla tv) (Hmi tv) (Htf tv) (Htk tv), aV d ta 1 (HHO tv), aV d ta 2 (HAT tv), aV d ta 3 (HTO tv), aV d ta 4 (HWE tv), aV d ta 5 (HHE tv), aV d ta 6 (HRA tv), oH ha (Hfl hv) (Hro hv) (Hrp hv) (Hca hv) (Hwy hv) (Hla hv) (Hmi hv) (Htf hv) (Htk hv), aV d ha 1 (HHO hv), aV d ha 2 (HAT hv), aV d ha 3 (HTO hv), aV d ha 4 (HWE hv), aV d ha 5 (HHE hv), aV d ha 6 (HRA hv), oS sa ha ta gt gf gc tra gs]) (rest := []) [.int p4] hX cx hw hl.1 (mX0_isHalf l (XI D cs wi) hX D d  p4 q4 hcq4) (lw_S q973 q974 q82 q975) hd_X0_isHalf ⟨(Nat.le_of_ble_eq_true rfl), (Nat.le_of_ble_eq_true rfl)⟩ rfl rfl (Nat.le_of_ble_eq_true rfl) dX0_stuck_34 [] [0, 1, 2, 3, 4, 5, 6, 7, 8, 9, 10, 11, 12, 13, 14] rfl rfl rfl rfl (by decide) ⟨(Nat.le_of_ble_eq_true rfl), (Nat.le_of_ble_eq_true rfl)⟩ (fun r u H locs hp hw => ?_)
        have hw : Wd D A s [oH ta (Hfl tv) (Hro tv) (Hrp tv) (Hca tv) (Hwy tv) (Hla tv) (Hmi tv) (Htf tv) (Htk tv), aV d ta 1 (HHO tv), aV d ta 2 (HAT tv), aV d ta 3 (HTO tv), aV d ta 4 (HWE tv), aV d ta 5 (HHE tv), aV d ta 6 (HRA tv), oH ha (Hfl hv) (Hro hv) (Hrp hv) (Hca hv) (Hwy hv) (Hla hv) (Hmi hv) (Htf hv) (Htk hv), aV d ha 1 (HHO hv), aV d ha 2 (HAT hv), aV d ha 3 (HTO hv), aV d ha 4 (HWE hv), aV d ha 5 (HHE hv), aV d ha 6 (HRA hv), oS sa ha ta gt gf gc tra gs] H locs := hw
        subst r
        refine lv_if_ne (tgt := 44) hx hb dX0_stuck_37 (by decide) (fun c37 => ?_) (fun c37 => ?_)
        · have hf := if_f hf c37
          refine lv_lconst (v := 0) hx hb dX0_stuck_44 (by decide) ?_
          refine lv_lstore (lv' := [(5, .long 0), (0, .ref (sa 0)), (1, .int p1), (2, .int p2), (3, .int p3), (4, .int p4)]) hx hb dX0_stuck_45 hl (by decide) rfl (fun ls hl => ?_)
          refine lv_lconst (v := 1) hx hb dX0_stuck_47 (by decide) ?_
          refine lv_lstore (lv' := [(7, .long 1), (5, .long 0), (0, .ref (sa 0)), (1, .int p1), (2, .int p2), (3, .int p3), (4, .int p4)]) hx hb dX0_stuck_48 hl (by decide) rfl (fun ls hl => ?_)
          refine lv_iconst (v := 0) hx hb dX0_stuck_50 (by decide) ?_
          refine lv_istore (lv' := [(9, .int 0), (7, .long 1), (5, .long 0), (0, .ref (sa 0)), (1, .int p1), (2, .int p2), (3, .int p3), (4, .int p4)]) hx hb dX0_stuck_51 hl (by decide) rfl (fun ls hl => ?_)
          obtain ⟨r5, hlp53, hf⟩ := op_e hf
          refine x_join (A := A) (D := D) (J := 73) (nL := 13) (cells' := 0) (slots' := 0) (st := []) [oH ha (Hfl hv) (Hro hv) (Hrp hv) (Hca hv) (Hwy hv) (Hla hv) (Hmi hv) (Htf hv) (Htk hv), aV d ha 1 (HHO hv), aV d ha 2 (HAT hv), aV d ha 3 (HTO hv), aV d ha 4 (HWE hv), aV d ha 5 (HHE hv), aV d ha 6 (HRA hv), oS sa ha ta gt gf gc tra gs, oH ta (Hfl tv) (Hro tv) (Hrp tv) (Hca tv) (Hwy tv) (Hla tv) (Hmi tv) (Htf tv) (Htk tv), aV d ta 1 (HHO tv), aV d ta 2 (HAT tv), aV d ta 3 (HTO tv), aV d ta 4 (HWE tv), aV d ta 5 (HHE tv), aV d ta 6 (HRA tv)] [(0, .ref (sa 0)), (1, .int p1), (2, .int p2), (3, .int p3), (4, .int p4), (5, .long 0), (7, .long r5)] (fun H locs ls hw hl => ?_) (fun hK53 => ?_)
          · refine lv_iconst (v := 0) hx hb dX0_stuck_73 (by decide) ?_
            refine lv_istore (lv' := [(9, .int 0), (0, .ref (sa 0)), (1, .int p1), (2, .int p2), (3, .int p3), (4, .int p4), (5, .long 0), (7, .long r5)]) hx hb dX0_stuck_74 hl (by decide) rfl (fun ls hl => ?_)
            obtain ⟨r6, hlp76, hf⟩ := op_e hf
            refine x_join (A := A) (D := D) (J := 191) (nL := 13) (cells' := 0) (slots' := 0) (st := []) [oH ha (Hfl hv) (Hro hv) (Hrp hv) (Hca hv) (Hwy hv) (Hla hv) (Hmi hv) (Htf hv) (Htk hv), aV d ha 1 (HHO hv), aV d ha 2 (HAT hv), aV d ha 3 (HTO hv), aV d ha 4 (HWE hv), aV d ha 5 (HHE hv), aV d ha 6 (HRA hv), oS sa ha ta gt gf gc tra gs, oH ta (Hfl r6.2) (Hro r6.2) (Hrp r6.2) (Hca r6.2) (Hwy r6.2) (Hla r6.2) (Hmi r6.2) (Htf r6.2) (Htk r6.2), aV d ta 1 (HHO r6.2), aV d ta 2 (HAT r6.2), aV d ta 3 (HTO r6.2), aV d ta 4 (HWE r6.2), aV d ta 5 (HHE r6.2), aV d ta 6 (HRA r6.2)] [(4, .int p4), (5, .long r6.1), (7, .long r5)] (fun H locs ls hw hl => ?_) (fun hK76 => ?_)
            · refine lv_iload hx hb dX0_stuck_191 (lv_at hl 0 rfl) ?_
              obtain ⟨j7, hjA, hjR⟩ := op_e hf
              refine x_join (A := A) (D := D) (J := 203) (nL := 13) (cells' := 0) (slots' := 0) (st := [.long j7]) [oH ha (Hfl hv) (Hro hv) (Hrp hv) (Hca hv) (Hwy hv) (Hla hv) (Hmi hv) (Htf hv) (Htk hv), aV d ha 1 (HHO hv), aV d ha 2 (HAT hv), aV d ha 3 (HTO hv), aV d ha 4 (HWE hv), aV d ha 5 (HHE hv), aV d ha 6 (HRA hv), oS sa ha ta gt gf gc tra gs, oH ta (Hfl r6.2) (Hro r6.2) (Hrp r6.2) (Hca r6.2) (Hwy r6.2) (Hla r6.2) (Hmi r6.2) (Htf r6.2) (Htk r6.2), aV d ta 1 (HHO r6.2), aV d ta 2 (HAT r6.2), aV d ta 3 (HTO r6.2), aV d ta 4 (HWE r6.2), aV d ta 5 (HHE r6.2), aV d ta 6 (HRA r6.2)] [(5, .long r6.1), (7, .long r5)] (fun H locs ls hw hl => ?_) (fun hKj203_j7 => ?_)
              · have hf := hjR
                refine lv_lload hx hb dX0_stuck_203 (lv_at hl 0 rfl) ?_
                refine lv_lload hx hb dX0_stuck_205 (lv_at hl 1 rfl) ?_
                obtain ⟨q8, hcq8, hf⟩ := op_e hf
                refine x_SL (wr := [oH ha (Hfl hv) (Hro hv) (Hrp hv) (Hca hv) (Hwy hv) (Hla hv) (Hmi hv) (Htf hv) (Htk hv), aV d ha 1 (HHO hv), aV d ha 2 (HAT hv), aV d ha 3 (HTO hv), aV d ha 4 (HWE hv), aV d ha 5 (HHE hv), aV d ha 6 (HRA hv), oS sa ha ta gt gf gc tra gs, oH ta (Hfl r6.2) (Hro r6.2) (Hrp r6.2) (Hca r6.2) (Hwy r6.2) (Hla r6.2) (Hmi r6.2) (Htf r6.2) (Htk r6.2), aV d ta 1 (HHO r6.2), aV d ta 2 (HAT r6.2), aV d ta 3 (HTO r6.2), aV d ta 4 (HWE r6.2), aV d ta 5 (HHE r6.2), aV d ta 6 (HRA r6.2)]) (rest := [.long j7]) [.long r6.1, .long r5] hX cx hw hl.1 (mX0_common l (XI D cs wi) hX D d  r6.1 r5 q8 hcq8) (lw_S q1074 q1075 q82 q1076) hd_X0_common ⟨(Nat.le_of_ble_eq_true rfl), (Nat.le_of_ble_eq_true rfl)⟩ rfl rfl (Nat.le_of_ble_eq_true rfl) dX0_stuck_207 [] [0, 1, 2, 3, 4, 5, 6, 7, 8, 9, 10, 11, 12, 13, 14] rfl rfl rfl rfl (by decide) ⟨(Nat.le_of_ble_eq_true rfl), (Nat.le_of_ble_eq_true rfl)⟩ (fun r u H locs hp hw => ?_)
                have hw : Wd D A s [oH ha (Hfl hv) (Hro hv) (Hrp hv) (Hca hv) (Hwy hv) (Hla hv) (Hmi hv) (Htf hv) (Htk hv), aV d ha 1 (HHO hv), aV d ha 2 (HAT hv), aV d ha 3 (HTO hv), aV d ha 4 (HWE hv), aV d ha 5 (HHE hv), aV d ha 6 (HRA hv), oS sa ha ta gt gf gc tra gs, oH ta (Hfl r6.2) (Hro r6.2) (Hrp r6.2) (Hca r6.2) (Hwy r6.2) (Hla r6.2) (Hmi r6.2) (Htf r6.2) (Htk r6.2), aV d ta 1 (HHO r6.2), aV d ta 2 (HAT r6.2), aV d ta 3 (HTO r6.2), aV d ta 4 (HWE r6.2), aV d ta 5 (HHE r6.2), aV d ta 6 (HRA r6.2)] H locs := hw
                subst r
                obtain ⟨g9, hrd, hf⟩ := op_e hf
                refine x_ldiv cx hrd dX0_stuck_210 ?_
                have hf := sm_e hf
                subst hf
                exact x_retL cx hw () rfl [0, 1, 2, 3, 4, 5, 6, 7, 8, 9, 10, 11, 12, 13, 14] rfl rfl (Nat.le_of_ble_eq_true rfl) (Nat.le_of_ble_eq_true rfl) dX0_stuck_211
              · have hf := hjA
                refine lv_if_ne (tgt := 201) hx hb dX0_stuck_193 (by decide) (fun c193 => ?_) (fun c193 => ?_)
                · have hf := if_f hf c193
                  refine lv_lload hx hb dX0_stuck_201 (lv_at hl 2 rfl) ?_
                  have hf := sm_e hf
                  subst hf
                  exact hKj203_j7 _ _ _ hw (lv_sub hl [1, 2] rfl)
                · have hf := if_t hf c193
                  refine lv_lload hx hb dX0_stuck_196 (lv_at hl 1 rfl) ?_
                  refine lv_goto (tgt := 203) hx hb dX0_stuck_198 (by decide) ?_
                  have hf := sm_e hf
                  subst hf
                  exact hKj203_j7 _ _ _ hw (lv_sub hl [1, 2] rfl)
            · refine x_lp hlp76 (fun x76 => [oH ha (Hfl hv) (Hro hv) (Hrp hv) (Hca hv) (Hwy hv) (Hla hv) (Hmi hv) (Htf hv) (Htk hv), aV d ha 1 (HHO hv), aV d ha 2 (HAT hv), aV d ha 3 (HTO hv), aV d ha 4 (HWE hv), aV d ha 5 (HHE hv), aV d ha 6 (HRA hv), oS sa ha ta gt gf gc tra gs, oH ta (Hfl x76.2.2) (Hro x76.2.2) (Hrp x76.2.2) (Hca x76.2.2) (Hwy x76.2.2) (Hla x76.2.2) (Hmi x76.2.2) (Htf x76.2.2) (Htk x76.2.2), aV d ta 1 (HHO x76.2.2), aV d ta 2 (HAT x76.2.2), aV d ta 3 (HTO x76.2.2), aV d ta 4 (HWE x76.2.2), aV d ta 5 (HHE x76.2.2), aV d ta 6 (HRA x76.2.2)]) (fun x76 => [(0, .ref (sa 0)), (1, .int p1), (2, .int p2), (3, .int p3), (4, .int p4), (5, .long x76.1), (7, .long r5), (9, .int x76.2.1)]) hw (lv_sub hl [1, 2, 3, 4, 5, 6, 7, 0] rfl) (fun x76 y76 hf hin76 hout76 H locs ls hw hl => ?_)
              have hw : Wd D A s [oH ha (Hfl hv) (Hro hv) (Hrp hv) (Hca hv) (Hwy hv) (Hla hv) (Hmi hv) (Htf hv) (Htk hv), aV d ha 1 (HHO hv), aV d ha 2 (HAT hv), aV d ha 3 (HTO hv), aV d ha 4 (HWE hv), aV d ha 5 (HHE hv), aV d ha 6 (HRA hv), oS sa ha ta gt gf gc tra gs, oH ta (Hfl x76.2.2) (Hro x76.2.2) (Hrp x76.2.2) (Hca x76.2.2) (Hwy x76.2.2) (Hla x76.2.2) (Hmi x76.2.2) (Htf x76.2.2) (Htk x76.2.2), aV d ta 1 (HHO x76.2.2), aV d ta 2 (HAT x76.2.2), aV d ta 3 (HTO x76.2.2), aV d ta 4 (HWE x76.2.2), aV d ta 5 (HHE x76.2.2), aV d ta 6 (HRA x76.2.2)] H locs := hw
              have hl : lv_has ls 13 [(0, .ref (sa 0)), (1, .int p1), (2, .int p2), (3, .int p3), (4, .int p4), (5, .long x76.1), (7, .long r5), (9, .int x76.2.1)] := hl
              refine lv_iload hx hb dX0_stuck_76 (lv_at hl 7 rfl) ?_
              refine lv_iconst (v := 1) hx hb dX0_stuck_78 (by decide) ?_
              refine lv_iload_n hx hb dX0_stuck_79 rfl (lv_at hl 2 rfl) ?_
              refine lv_ishl hx hb dX0_stuck_80 ?_
              refine lv_icmp_ge (tgt := 191) hx hb dX0_stuck_81 (by decide) (fun c81 => ?_) (fun c81 => ?_)
              · have hf := if_t hf c81
                have hf := sm_e hf
                subst hf
                have hz := hout76 _ rfl
                subst hz
                exact hK76 _ _ _ hw (lv_sub hl [4, 5, 6] rfl)
              · have hf := if_f hf c81
                refine lv_lconst (v := 1) hx hb dX0_stuck_84 (by decide) ?_
                refine lv_lstore (lv' := [(10, .long 1), (0, .ref (sa 0)), (1, .int p1), (2, .int p2), (3, .int p3), (4, .int p4), (5, .long x76.1), (7, .long r5), (9, .int x76.2.1)]) hx hb dX0_stuck_85 hl (by decide) rfl (fun ls hl => ?_)
                refine lv_aload_n hx hb dX0_stuck_87 rfl (lv_at hl 1 rfl) ?_
                obtain ⟨q10, hcq10, hf⟩ := op_e hf
                refine x_VA (wr := []) (rest := []) [] hX cx hw hl.1 (mX0_tried l  D d cs wi ln lf dk dn him ha ta sa hv x76.2.2 gt gf gc tra gs q10 hcq10) (lw_V q932 q934 qs24 q82 q935) hd_X0_tried ⟨(Nat.le_of_ble_eq_true rfl), (Nat.le_of_ble_eq_true rfl)⟩ (va_recv hK hw.1 (ci := 1) (q0 := 7) rfl rfl) rfl rfl (Nat.le_of_ble_eq_true rfl) dX0_stuck_88 [0, 1, 2, 3, 4, 5, 6, 7, 8, 9, 10, 11, 12, 13, 14] [] rfl rfl rfl rfl (by decide) ⟨(Nat.le_of_ble_eq_true rfl), (Nat.le_of_ble_eq_true rfl)⟩ (fun u H locs hp hw => ?_)
                have hw : Wd D A s [oH ha (Hfl hv) (Hro hv) (Hrp hv) (Hca hv) (Hwy hv) (Hla hv) (Hmi hv) (Htf hv) (Htk hv), aV d ha 1 (HHO hv), aV d ha 2 (HAT hv), aV d ha 3 (HTO hv), aV d ha 4 (HWE hv), aV d ha 5 (HHE hv), aV d ha 6 (HRA hv), oS sa ha ta gt gf gc tra gs, oH ta (Hfl q10) (Hro q10) (Hrp q10) (Hca q10) (Hwy q10) (Hla q10) (Hmi q10) (Htf q10) (Htk q10), aV d ta 1 (HHO q10), aV d ta 2 (HAT q10), aV d ta 3 (HTO q10), aV d ta 4 (HWE q10), aV d ta 5 (HHE q10), aV d ta 6 (HRA q10)] H locs := hw
                refine lv_pop hx hb dX0_stuck_91 rfl ?_
                refine lv_iconst (v := 0) hx hb dX0_stuck_92 (by decide) ?_
                refine lv_istore (lv' := [(12, .int 0), (10, .long 1), (0, .ref (sa 0)), (1, .int p1), (2, .int p2), (3, .int p3), (4, .int p4), (5, .long x76.1), (7, .long r5), (9, .int x76.2.1)]) hx hb dX0_stuck_93 hl (by decide) rfl (fun ls hl => ?_)
                obtain ⟨r11, hlp95, hf⟩ := op_e hf
                refine x_join (A := A) (D := D) (J := 161) (nL := 13) (cells' := 0) (slots' := 0) (st := []) [oH ha (Hfl hv) (Hro hv) (Hrp hv) (Hca hv) (Hwy hv) (Hla hv) (Hmi hv) (Htf hv) (Htk hv), aV d ha 1 (HHO hv), aV d ha 2 (HAT hv), aV d ha 3 (HTO hv), aV d ha 4 (HWE hv), aV d ha 5 (HHE hv), aV d ha 6 (HRA hv), oS sa ha ta gt gf gc tra gs, oH ta (Hfl r11.2) (Hro r11.2) (Hrp r11.2) (Hca r11.2) (Hwy r11.2) (Hla r11.2) (Hmi r11.2) (Htf r11.2) (Htk r11.2), aV d ta 1 (HHO r11.2), aV d ta 2 (HAT r11.2), aV d ta 3 (HTO r11.2), aV d ta 4 (HWE r11.2), aV d ta 5 (HHE r11.2), aV d ta 6 (HRA r11.2)] [(0, .ref (sa 0)), (1, .int p1), (2, .int p2), (3, .int p3), (4, .int p4), (5, .long x76.1), (7, .long r5), (9, .int x76.2.1), (10, .long r11.1)] (fun H locs ls hw hl => ?_) (fun hK95 => ?_)
                · refine lv_lload hx hb dX0_stuck_161 (lv_at hl 5 rfl) ?_
                  refine lv_aload_n hx hb dX0_stuck_163 rfl (lv_at hl 0 rfl) ?_
                  refine va_get (ci := 1) (C := RX0) (T := TX0) (N := 14) hx hb hts in_X0 hown hK hw.1 7 rfl rfl 5 (by decide) (hts _ q299) (fun _ h9 => h9) rfl dX0_stuck_164 ?_
                  refine va_get (ci := 2) (C := RX1) (T := TX1) (N := 15) hx hb hts in_X1 hown hK hw.1 8 rfl rfl 6 (by decide) (hts _ q176) (fun _ h9 => h9) rfl dX0_stuck_167 ?_
                  refine lv_iload_n hx hb dX0_stuck_170 rfl (lv_at hl 1 rfl) ?_
                  obtain ⟨v12, hrd, hf⟩ := op_e hf
                  refine x_iald (q0 := 9) cx hw rfl hrd dX0_stuck_171 ?_
                  refine lv_iconst (v := 2) hx hb dX0_stuck_172 (by decide) ?_
                  refine lv_icmp_ne (tgt := 181) hx hb dX0_stuck_173 (by decide) (fun c173 => ?_) (fun c173 => ?_)
                  · have hf := if_f hf c173
                    refine lv_lconst (v := 0) hx hb dX0_stuck_181 (by decide) ?_
                    refine lv_ladd hx hb dX0_stuck_182 ?_
                    refine lv_lstore (lv' := [(5, .long (x76.1 + 0)), (0, .ref (sa 0)), (1, .int p1), (2, .int p2), (3, .int p3), (4, .int p4), (7, .long r5), (9, .int x76.2.1), (10, .long r11.1)]) hx hb dX0_stuck_183 hl (by decide) rfl (fun ls hl => ?_)
                    refine lv_iinc (v := (x76.2.1 + 1)) (lv' := [(9, .int (x76.2.1 + 1)), (5, .long (x76.1 + 0)), (0, .ref (sa 0)), (1, .int p1), (2, .int p2), (3, .int p3), (4, .int p4), (7, .long r5), (10, .long r11.1)]) hx hb dX0_stuck_185 hl (k := 7) rfl (by first | rfl | decide) (by decide) rfl (fun ls hl => ?_)
                    refine lv_goto (tgt := 76) hx hb dX0_stuck_188 (by decide) ?_
                    have hf := sm_e hf
                    subst hf
                    exact hin76 _ rfl _ _ _ hw (lv_sub hl [2, 3, 4, 5, 6, 1, 7, 0] rfl)
                  · have hf := if_t hf c173
                    refine lv_lload hx hb dX0_stuck_176 (lv_at hl 8 rfl) ?_
                    refine lv_goto (tgt := 182) hx hb dX0_stuck_178 (by decide) ?_
                    refine lv_ladd hx hb dX0_stuck_182 ?_
                    refine lv_lstore (lv' := [(5, .long (x76.1 + r11.1)), (0, .ref (sa 0)), (1, .int p1), (2, .int p2), (3, .int p3), (4, .int p4), (7, .long r5), (9, .int x76.2.1), (10, .long r11.1)]) hx hb dX0_stuck_183 hl (by decide) rfl (fun ls hl => ?_)
                    refine lv_iinc (v := (x76.2.1 + 1)) (lv' := [(9, .int (x76.2.1 + 1)), (5, .long (x76.1 + r11.1)), (0, .ref (sa 0)), (1, .int p1), (2, .int p2), (3, .int p3), (4, .int p4), (7, .long r5), (10, .long r11.1)]) hx hb dX0_stuck_185 hl (k := 7) rfl (by first | rfl | decide) (by decide) rfl (fun ls hl => ?_)
                    refine lv_goto (tgt := 76) hx hb dX0_stuck_188 (by decide) ?_
                    have hf := sm_e hf
                    subst hf
                    exact hin76 _ rfl _ _ _ hw (lv_sub hl [2, 3, 4, 5, 6, 1, 7, 0] rfl)
                · refine x_lp hlp95 (fun x95 => [oH ha (Hfl hv) (Hro hv) (Hrp hv) (Hca hv) (Hwy hv) (Hla hv) (Hmi hv) (Htf hv) (Htk hv), aV d ha 1 (HHO hv), aV d ha 2 (HAT hv), aV d ha 3 (HTO hv), aV d ha 4 (HWE hv), aV d ha 5 (HHE hv), aV d ha 6 (HRA hv), oS sa ha ta gt gf gc tra gs, oH ta (Hfl x95.2.2) (Hro x95.2.2) (Hrp x95.2.2) (Hca x95.2.2) (Hwy x95.2.2) (Hla x95.2.2) (Hmi x95.2.2) (Htf x95.2.2) (Htk x95.2.2), aV d ta 1 (HHO x95.2.2), aV d ta 2 (HAT x95.2.2), aV d ta 3 (HTO x95.2.2), aV d ta 4 (HWE x95.2.2), aV d ta 5 (HHE x95.2.2), aV d ta 6 (HRA x95.2.2)]) (fun x95 => [(0, .ref (sa 0)), (1, .int p1), (2, .int p2), (3, .int p3), (4, .int p4), (5, .long x76.1), (7, .long r5), (9, .int x76.2.1), (10, .long x95.1), (12, .int x95.2.1)]) hw (lv_sub hl [2, 3, 4, 5, 6, 7, 8, 9, 1, 0] rfl) (fun x95 y95 hf hin95 hout95 H locs ls hw hl => ?_)
                  have hw : Wd D A s [oH ha (Hfl hv) (Hro hv) (Hrp hv) (Hca hv) (Hwy hv) (Hla hv) (Hmi hv) (Htf hv) (Htk hv), aV d ha 1 (HHO hv), aV d ha 2 (HAT hv), aV d ha 3 (HTO hv), aV d ha 4 (HWE hv), aV d ha 5 (HHE hv), aV d ha 6 (HRA hv), oS sa ha ta gt gf gc tra gs, oH ta (Hfl x95.2.2) (Hro x95.2.2) (Hrp x95.2.2) (Hca x95.2.2) (Hwy x95.2.2) (Hla x95.2.2) (Hmi x95.2.2) (Htf x95.2.2) (Htk x95.2.2), aV d ta 1 (HHO x95.2.2), aV d ta 2 (HAT x95.2.2), aV d ta 3 (HTO x95.2.2), aV d ta 4 (HWE x95.2.2), aV d ta 5 (HHE x95.2.2), aV d ta 6 (HRA x95.2.2)] H locs := hw
                  have hl : lv_has ls 13 [(0, .ref (sa 0)), (1, .int p1), (2, .int p2), (3, .int p3), (4, .int p4), (5, .long x76.1), (7, .long r5), (9, .int x76.2.1), (10, .long x95.1), (12, .int x95.2.1)] := hl
                  refine lv_iload hx hb dX0_stuck_95 (lv_at hl 9 rfl) ?_
                  refine lv_iload_n hx hb dX0_stuck_97 rfl (lv_at hl 2 rfl) ?_
                  refine lv_icmp_ge (tgt := 161) hx hb dX0_stuck_98 (by decide) (fun c98 => ?_) (fun c98 => ?_)
                  · have hf := if_t hf c98
                    have hf := sm_e hf
                    subst hf
                    have hz := hout95 _ rfl
                    subst hz
                    exact hK95 _ _ _ hw (lv_sub hl [0, 1, 2, 3, 4, 5, 6, 7, 8] rfl)
                  · have hf := if_f hf c98
                    refine lv_lload hx hb dX0_stuck_101 (lv_at hl 8 rfl) ?_
                    refine lv_iload hx hb dX0_stuck_103 (lv_at hl 7 rfl) ?_
                    refine lv_iload hx hb dX0_stuck_105 (lv_at hl 9 rfl) ?_
                    obtain ⟨q13, hcq13, hf⟩ := op_e hf
                    refine x_SI (wr := [oH ha (Hfl hv) (Hro hv) (Hrp hv) (Hca hv) (Hwy hv) (Hla hv) (Hmi hv) (Htf hv) (Htk hv), aV d ha 1 (HHO hv), aV d ha 2 (HAT hv), aV d ha 3 (HTO hv), aV d ha 4 (HWE hv), aV d ha 5 (HHE hv), aV d ha 6 (HRA hv), oS sa ha ta gt gf gc tra gs, oH ta (Hfl x95.2.2) (Hro x95.2.2) (Hrp x95.2.2) (Hca x95.2.2) (Hwy x95.2.2) (Hla x95.2.2) (Hmi x95.2.2) (Htf x95.2.2) (Htk x95.2.2), aV d ta 1 (HHO x95.2.2), aV d ta 2 (HAT x95.2.2), aV d ta 3 (HTO x95.2.2), aV d ta 4 (HWE x95.2.2), aV d ta 5 (HHE x95.2.2), aV d ta 6 (HRA x95.2.2)]) (rest := [.long x95.1]) [.int x76.2.1, .int x95.2.1] hX cx hw hl.1 (mX0_has l (XI D cs wi) hX D d  x76.2.1 x95.2.1 q13 hcq13) (lw_S q1006 q1007 q82 q1008) hd_X0_has ⟨(Nat.le_of_ble_eq_true rfl), (Nat.le_of_ble_eq_true rfl)⟩ rfl rfl (Nat.le_of_ble_eq_true rfl) dX0_stuck_107 [] [0, 1, 2, 3, 4, 5, 6, 7, 8, 9, 10, 11, 12, 13, 14] rfl rfl rfl rfl (by decide) ⟨(Nat.le_of_ble_eq_true rfl), (Nat.le_of_ble_eq_true rfl)⟩ (fun r u H locs hp hw => ?_)
                    have hw : Wd D A s [oH ha (Hfl hv) (Hro hv) (Hrp hv) (Hca hv) (Hwy hv) (Hla hv) (Hmi hv) (Htf hv) (Htk hv), aV d ha 1 (HHO hv), aV d ha 2 (HAT hv), aV d ha 3 (HTO hv), aV d ha 4 (HWE hv), aV d ha 5 (HHE hv), aV d ha 6 (HRA hv), oS sa ha ta gt gf gc tra gs, oH ta (Hfl x95.2.2) (Hro x95.2.2) (Hrp x95.2.2) (Hca x95.2.2) (Hwy x95.2.2) (Hla x95.2.2) (Hmi x95.2.2) (Htf x95.2.2) (Htk x95.2.2), aV d ta 1 (HHO x95.2.2), aV d ta 2 (HAT x95.2.2), aV d ta 3 (HTO x95.2.2), aV d ta 4 (HWE x95.2.2), aV d ta 5 (HHE x95.2.2), aV d ta 6 (HRA x95.2.2)] H locs := hw
                    subst r
                    obtain ⟨j14, hjA, hjR⟩ := op_e hf
                    refine x_join (A := A) (D := D) (J := 123) (nL := 13) (cells' := 0) (slots' := 0) (st := [.long j14, .long x95.1]) [oH ha (Hfl hv) (Hro hv) (Hrp hv) (Hca hv) (Hwy hv) (Hla hv) (Hmi hv) (Htf hv) (Htk hv), aV d ha 1 (HHO hv), aV d ha 2 (HAT hv), aV d ha 3 (HTO hv), aV d ha 4 (HWE hv), aV d ha 5 (HHE hv), aV d ha 6 (HRA hv), oS sa ha ta gt gf gc tra gs, oH ta (Hfl x95.2.2) (Hro x95.2.2) (Hrp x95.2.2) (Hca x95.2.2) (Hwy x95.2.2) (Hla x95.2.2) (Hmi x95.2.2) (Htf x95.2.2) (Htk x95.2.2), aV d ta 1 (HHO x95.2.2), aV d ta 2 (HAT x95.2.2), aV d ta 3 (HTO x95.2.2), aV d ta 4 (HWE x95.2.2), aV d ta 5 (HHE x95.2.2), aV d ta 6 (HRA x95.2.2)] [(0, .ref (sa 0)), (1, .int p1), (2, .int p2), (3, .int p3), (4, .int p4), (5, .long x76.1), (7, .long r5), (9, .int x76.2.1), (12, .int x95.2.1)] (fun H locs ls hw hl => ?_) (fun hKj123_j14 => ?_)
                    · have hf := hjR
                      refine lv_lmul hx hb dX0_stuck_123 ?_
                      refine lv_lstore (lv' := [(10, .long (x95.1 * j14)), (0, .ref (sa 0)), (1, .int p1), (2, .int p2), (3, .int p3), (4, .int p4), (5, .long x76.1), (7, .long r5), (9, .int x76.2.1), (12, .int x95.2.1)]) hx hb dX0_stuck_124 hl (by decide) rfl (fun ls hl => ?_)
                      refine lv_iload hx hb dX0_stuck_126 (lv_at hl 8 rfl) ?_
                      refine lv_iload hx hb dX0_stuck_128 (lv_at hl 9 rfl) ?_
                      obtain ⟨q15, hcq15, hf⟩ := op_e hf
                      refine x_SI (wr := [oH ha (Hfl hv) (Hro hv) (Hrp hv) (Hca hv) (Hwy hv) (Hla hv) (Hmi hv) (Htf hv) (Htk hv), aV d ha 1 (HHO hv), aV d ha 2 (HAT hv), aV d ha 3 (HTO hv), aV d ha 4 (HWE hv), aV d ha 5 (HHE hv), aV d ha 6 (HRA hv), oS sa ha ta gt gf gc tra gs, oH ta (Hfl x95.2.2) (Hro x95.2.2) (Hrp x95.2.2) (Hca x95.2.2) (Hwy x95.2.2) (Hla x95.2.2) (Hmi x95.2.2) (Htf x95.2.2) (Htk x95.2.2), aV d ta 1 (HHO x95.2.2), aV d ta 2 (HAT x95.2.2), aV d ta 3 (HTO x95.2.2), aV d ta 4 (HWE x95.2.2), aV d ta 5 (HHE x95.2.2), aV d ta 6 (HRA x95.2.2)]) (rest := []) [.int x76.2.1, .int x95.2.1] hX cx hw hl.1 (mX0_has l (XI D cs wi) hX D d  x76.2.1 x95.2.1 q15 hcq15) (lw_S q1006 q1007 q82 q1008) hd_X0_has ⟨(Nat.le_of_ble_eq_true rfl), (Nat.le_of_ble_eq_true rfl)⟩ rfl rfl (Nat.le_of_ble_eq_true rfl) dX0_stuck_130 [] [0, 1, 2, 3, 4, 5, 6, 7, 8, 9, 10, 11, 12, 13, 14] rfl rfl rfl rfl (by decide) ⟨(Nat.le_of_ble_eq_true rfl), (Nat.le_of_ble_eq_true rfl)⟩ (fun r u H locs hp hw => ?_)
                      have hw : Wd D A s [oH ha (Hfl hv) (Hro hv) (Hrp hv) (Hca hv) (Hwy hv) (Hla hv) (Hmi hv) (Htf hv) (Htk hv), aV d ha 1 (HHO hv), aV d ha 2 (HAT hv), aV d ha 3 (HTO hv), aV d ha 4 (HWE hv), aV d ha 5 (HHE hv), aV d ha 6 (HRA hv), oS sa ha ta gt gf gc tra gs, oH ta (Hfl x95.2.2) (Hro x95.2.2) (Hrp x95.2.2) (Hca x95.2.2) (Hwy x95.2.2) (Hla x95.2.2) (Hmi x95.2.2) (Htf x95.2.2) (Htk x95.2.2), aV d ta 1 (HHO x95.2.2), aV d ta 2 (HAT x95.2.2), aV d ta 3 (HTO x95.2.2), aV d ta 4 (HWE x95.2.2), aV d ta 5 (HHE x95.2.2), aV d ta 6 (HRA x95.2.2)] H locs := hw
                      subst r
                      refine lv_if_eq (tgt := 147) hx hb dX0_stuck_133 (by decide) (fun c133 => ?_) (fun c133 => ?_)
                      · have hf := if_t hf c133
                        refine lv_aload_n hx hb dX0_stuck_147 rfl (lv_at hl 1 rfl) ?_
                        refine va_get (ci := 1) (C := RX0) (T := TX0) (N := 14) hx hb hts in_X0 hown hK hw.1 7 rfl rfl 5 (by decide) (hts _ q299) (fun _ h9 => h9) rfl dX0_stuck_148 ?_
                        obtain ⟨q16, hcq16, hf⟩ := op_e hf
                        refine x_VA (wr := [oH ha (Hfl hv) (Hro hv) (Hrp hv) (Hca hv) (Hwy hv) (Hla hv) (Hmi hv) (Htf hv) (Htk hv), aV d ha 1 (HHO hv), aV d ha 2 (HAT hv), aV d ha 3 (HTO hv), aV d ha 4 (HWE hv), aV d ha 5 (HHE hv), aV d ha 6 (HRA hv), oS sa ha ta gt gf gc tra gs]) (rest := []) [] hX cx hw hl.1 (vX1_pass l  D d cs wi ln lf dk dn him ta x95.2.2 q16 hcq16) (lw_V q778 q779 q780 q83 q781) hd_X1_pass ⟨(Nat.le_of_ble_eq_true rfl), (Nat.le_of_ble_eq_true rfl)⟩ (va_recv hK hw.1 (ci := 2) (q0 := 8) rfl rfl) rfl rfl (Nat.le_of_ble_eq_true rfl) dX0_stuck_151 [8, 9, 10, 11, 12, 13, 14] [0, 1, 2, 3, 4, 5, 6, 7] rfl rfl rfl rfl (by decide) ⟨(Nat.le_of_ble_eq_true rfl), (Nat.le_of_ble_eq_true rfl)⟩ (fun u H locs hp hw => ?_)
                        have hw : Wd D A s [oH ha (Hfl hv) (Hro hv) (Hrp hv) (Hca hv) (Hwy hv) (Hla hv) (Hmi hv) (Htf hv) (Htk hv), aV d ha 1 (HHO hv), aV d ha 2 (HAT hv), aV d ha 3 (HTO hv), aV d ha 4 (HWE hv), aV d ha 5 (HHE hv), aV d ha 6 (HRA hv), oS sa ha ta gt gf gc tra gs, oH ta (Hfl q16) (Hro q16) (Hrp q16) (Hca q16) (Hwy q16) (Hla q16) (Hmi q16) (Htf q16) (Htk q16), aV d ta 1 (HHO q16), aV d ta 2 (HAT q16), aV d ta 3 (HTO q16), aV d ta 4 (HWE q16), aV d ta 5 (HHE q16), aV d ta 6 (HRA q16)] H locs := hw
                        refine lv_pop hx hb dX0_stuck_154 rfl ?_
                        refine lv_iinc (v := (x95.2.1 + 1)) (lv' := [(12, .int (x95.2.1 + 1)), (10, .long (x95.1 * j14)), (0, .ref (sa 0)), (1, .int p1), (2, .int p2), (3, .int p3), (4, .int p4), (5, .long x76.1), (7, .long r5), (9, .int x76.2.1)]) hx hb dX0_stuck_155 hl (k := 9) rfl (by first | rfl | decide) (by decide) rfl (fun ls hl => ?_)
                        refine lv_goto (tgt := 95) hx hb dX0_stuck_158 (by decide) ?_
                        have hf := sm_e hf
                        subst hf
                        exact hin95 _ rfl _ _ _ hw (lv_sub hl [2, 3, 4, 5, 6, 7, 8, 9, 1, 0] rfl)
                      · have hf := if_f hf c133
                        refine lv_aload_n hx hb dX0_stuck_136 rfl (lv_at hl 1 rfl) ?_
                        refine va_get (ci := 1) (C := RX0) (T := TX0) (N := 14) hx hb hts in_X0 hown hK hw.1 7 rfl rfl 5 (by decide) (hts _ q299) (fun _ h9 => h9) rfl dX0_stuck_137 ?_
                        obtain ⟨q17, hcq17, hf⟩ := op_e hf
                        refine x_VA (wr := [oH ha (Hfl hv) (Hro hv) (Hrp hv) (Hca hv) (Hwy hv) (Hla hv) (Hmi hv) (Htf hv) (Htk hv), aV d ha 1 (HHO hv), aV d ha 2 (HAT hv), aV d ha 3 (HTO hv), aV d ha 4 (HWE hv), aV d ha 5 (HHE hv), aV d ha 6 (HRA hv), oS sa ha ta gt gf gc tra gs]) (rest := []) [] hX cx hw hl.1 (vX1_sticks l  D d cs wi ln lf dk dn him ta x95.2.2 q17 hcq17) (lw_V q1070 q1071 q1072 q83 q1073) hd_X1_sticks ⟨(Nat.le_of_ble_eq_true rfl), (Nat.le_of_ble_eq_true rfl)⟩ (va_recv hK hw.1 (ci := 2) (q0 := 8) rfl rfl) rfl rfl (Nat.le_of_ble_eq_true rfl) dX0_stuck_140 [8, 9, 10, 11, 12, 13, 14] [0, 1, 2, 3, 4, 5, 6, 7] rfl rfl rfl rfl (by decide) ⟨(Nat.le_of_ble_eq_true rfl), (Nat.le_of_ble_eq_true rfl)⟩ (fun u H locs hp hw => ?_)
                        have hw : Wd D A s [oH ha (Hfl hv) (Hro hv) (Hrp hv) (Hca hv) (Hwy hv) (Hla hv) (Hmi hv) (Htf hv) (Htk hv), aV d ha 1 (HHO hv), aV d ha 2 (HAT hv), aV d ha 3 (HTO hv), aV d ha 4 (HWE hv), aV d ha 5 (HHE hv), aV d ha 6 (HRA hv), oS sa ha ta gt gf gc tra gs, oH ta (Hfl q17) (Hro q17) (Hrp q17) (Hca q17) (Hwy q17) (Hla q17) (Hmi q17) (Htf q17) (Htk q17), aV d ta 1 (HHO q17), aV d ta 2 (HAT q17), aV d ta 3 (HTO q17), aV d ta 4 (HWE q17), aV d ta 5 (HHE q17), aV d ta 6 (HRA q17)] H locs := hw
                        refine lv_pop hx hb dX0_stuck_143 rfl ?_
                        refine lv_goto (tgt := 155) hx hb dX0_stuck_144 (by decide) ?_
                        refine lv_iinc (v := (x95.2.1 + 1)) (lv' := [(12, .int (x95.2.1 + 1)), (10, .long (x95.1 * j14)), (0, .ref (sa 0)), (1, .int p1), (2, .int p2), (3, .int p3), (4, .int p4), (5, .long x76.1), (7, .long r5), (9, .int x76.2.1)]) hx hb dX0_stuck_155 hl (k := 9) rfl (by first | rfl | decide) (by decide) rfl (fun ls hl => ?_)
                        refine lv_goto (tgt := 95) hx hb dX0_stuck_158 (by decide) ?_
                        have hf := sm_e hf
                        subst hf
                        exact hin95 _ rfl _ _ _ hw (lv_sub hl [2, 3, 4, 5, 6, 7, 8, 9, 1, 0] rfl)
                    · have hf := hjA
                      refine lv_if_eq (tgt := 118) hx hb dX0_stuck_110 (by decide) (fun c110 => ?_) (fun c110 => ?_)
                      · have hf := if_t hf c110
                        refine lv_bipush (v := 10) hx hb dX0_stuck_118 (by decide) ?_
                        refine lv_iload_n hx hb dX0_stuck_120 rfl (lv_at hl 3 rfl) ?_
                        refine lv_isub hx hb dX0_stuck_121 ?_
                        refine lv_i2l (v := (10 - p3).toInt64) hx hb dX0_stuck_122 rfl ?_
                        have hf := sm_e hf
                        subst hf
                        exact hKj123_j14 _ _ _ hw (lv_sub hl [0, 1, 2, 3, 4, 5, 6, 7, 9] rfl)
                      · have hf := if_f hf c110
                        refine lv_iload_n hx hb dX0_stuck_113 rfl (lv_at hl 3 rfl) ?_
                        refine lv_i2l (v := p3.toInt64) hx hb dX0_stuck_114 rfl ?_
                        refine lv_goto (tgt := 123) hx hb dX0_stuck_115 (by decide) ?_
                        have hf := sm_e hf
                        subst hf
                        exact hKj123_j14 _ _ _ hw (lv_sub hl [0, 1, 2, 3, 4, 5, 6, 7, 9] rfl)
          · refine x_lp hlp53 (fun x53 => [oH ha (Hfl hv) (Hro hv) (Hrp hv) (Hca hv) (Hwy hv) (Hla hv) (Hmi hv) (Htf hv) (Htk hv), aV d ha 1 (HHO hv), aV d ha 2 (HAT hv), aV d ha 3 (HTO hv), aV d ha 4 (HWE hv), aV d ha 5 (HHE hv), aV d ha 6 (HRA hv), oS sa ha ta gt gf gc tra gs, oH ta (Hfl tv) (Hro tv) (Hrp tv) (Hca tv) (Hwy tv) (Hla tv) (Hmi tv) (Htf tv) (Htk tv), aV d ta 1 (HHO tv), aV d ta 2 (HAT tv), aV d ta 3 (HTO tv), aV d ta 4 (HWE tv), aV d ta 5 (HHE tv), aV d ta 6 (HRA tv)]) (fun x53 => [(0, .ref (sa 0)), (1, .int p1), (2, .int p2), (3, .int p3), (4, .int p4), (5, .long 0), (7, .long x53.1), (9, .int x53.2)]) (hw.sub [7, 8, 9, 10, 11, 12, 13, 14, 0, 1, 2, 3, 4, 5, 6] rfl rfl) (lv_sub hl [3, 4, 5, 6, 7, 2, 1, 0] rfl) (fun x53 y53 hf hin53 hout53 H locs ls hw hl => ?_)
            have hw : Wd D A s [oH ha (Hfl hv) (Hro hv) (Hrp hv) (Hca hv) (Hwy hv) (Hla hv) (Hmi hv) (Htf hv) (Htk hv), aV d ha 1 (HHO hv), aV d ha 2 (HAT hv), aV d ha 3 (HTO hv), aV d ha 4 (HWE hv), aV d ha 5 (HHE hv), aV d ha 6 (HRA hv), oS sa ha ta gt gf gc tra gs, oH ta (Hfl tv) (Hro tv) (Hrp tv) (Hca tv) (Hwy tv) (Hla tv) (Hmi tv) (Htf tv) (Htk tv), aV d ta 1 (HHO tv), aV d ta 2 (HAT tv), aV d ta 3 (HTO tv), aV d ta 4 (HWE tv), aV d ta 5 (HHE tv), aV d ta 6 (HRA tv)] H locs := hw
            have hl : lv_has ls 13 [(0, .ref (sa 0)), (1, .int p1), (2, .int p2), (3, .int p3), (4, .int p4), (5, .long 0), (7, .long x53.1), (9, .int x53.2)] := hl
            refine lv_iload hx hb dX0_stuck_53 (lv_at hl 7 rfl) ?_
            refine lv_iload_n hx hb dX0_stuck_55 rfl (lv_at hl 2 rfl) ?_
            refine lv_icmp_ge (tgt := 73) hx hb dX0_stuck_56 (by decide) (fun c56 => ?_) (fun c56 => ?_)
            · have hf := if_t hf c56
              have hf := sm_e hf
              subst hf
              have hz := hout53 _ rfl
              subst hz
              exact hK53 _ _ _ hw (lv_sub hl [0, 1, 2, 3, 4, 5, 6] rfl)
            · have hf := if_f hf c56
              refine lv_lload hx hb dX0_stuck_59 (lv_at hl 6 rfl) ?_
              refine lv_ldc2 (v := 10) hx hb hown (hts _ q1068) dX0_stuck_61 ?_
              refine lv_lmul hx hb dX0_stuck_64 ?_
              refine lv_lstore (lv' := [(7, .long (x53.1 * 10)), (0, .ref (sa 0)), (1, .int p1), (2, .int p2), (3, .int p3), (4, .int p4), (5, .long 0), (9, .int x53.2)]) hx hb dX0_stuck_65 hl (by decide) rfl (fun ls hl => ?_)
              refine lv_iinc (v := (x53.2 + 1)) (lv' := [(9, .int (x53.2 + 1)), (7, .long (x53.1 * 10)), (0, .ref (sa 0)), (1, .int p1), (2, .int p2), (3, .int p3), (4, .int p4), (5, .long 0)]) hx hb dX0_stuck_67 hl (k := 7) rfl (by first | rfl | decide) (by decide) rfl (fun ls hl => ?_)
              refine lv_goto (tgt := 53) hx hb dX0_stuck_70 (by decide) ?_
              have hf := sm_e hf
              subst hf
              exact hin53 _ rfl _ _ _ hw (lv_sub hl [2, 3, 4, 5, 6, 7, 1, 0] rfl)
        · have hf := if_t hf c37
          refine lv_ldc2 (v := (-1000001)) hx hb hown (hts _ q1069) dX0_stuck_40 ?_
          have hf := sm_e hf
          subst hf
          exact x_retL cx hw () rfl [7, 8, 9, 10, 11, 12, 13, 14, 0, 1, 2, 3, 4, 5, 6] rfl rfl (Nat.le_of_ble_eq_true rfl) (Nat.le_of_ble_eq_true rfl) dX0_stuck_43
theorem hd_X0_drawn : yX0_drawn.cls = "DishLift" ∧ yX0_drawn.cls ≠ "java/lang/invoke/MethodHandle" ∧ yX0_drawn.cls ≠ "java/lang/invoke/VarHandle" ∧ (parseMethodDescriptor yX0_drawn.desc).map (fun d => d.parameters.length) = some 3 := by decide +kernel
set_option maxHeartbeats 4000000 in
theorem mX0_drawn (l : Launch)  (D : va_G) (d : Nat → ClassId) (cs : Nat → Nat) (wi : va_W) (ln : Nat → Option Int32) (lf : Nat → Nat → Option Nat) (dk : Nat → Option Nat) (dn : Nat → Int32) (him : ImF d wi ln lf dk dn) (ha : Nat → Nat) (ta : Nat → Nat) (sa : Nat → Nat) (hv : HV) (tv : HV) (gt : Int32) (gf : Int32) (gc : Int32) (tra : Nat) (gs : Int32) (p1 : Int32) (p2 : Int32) (p3 : Int32)  (res : Int32 × HV) (hf : fX0_drawn ln lf dk hv tv p1 p2 p3 = some res) : MetI l yX0_drawn (ws_ yX0_drawn cX0_drawn 11 (some .int)) { frames := 6, cells := 0, slots := 0, locals := 183 } [.ref (sa 0), .int p1, .int p2, .int p3] (XI D cs wi) D d [oH ha (Hfl hv) (Hro hv) (Hrp hv) (Hca hv) (Hwy hv) (Hla hv) (Hmi hv) (Htf hv) (Htk hv), aV d ha 1 (HHO hv), aV d ha 2 (HAT hv), aV d ha 3 (HTO hv), aV d ha 4 (HWE hv), aV d ha 5 (HHE hv), aV d ha 6 (HRA hv), oS sa ha ta gt gf gc tra gs, oH ta (Hfl tv) (Hro tv) (Hrp tv) (Hca tv) (Hwy tv) (Hla tv) (Hmi tv) (Htf tv) (Htk tv), aV d ta 1 (HHO tv), aV d ta 2 (HAT tv), aV d ta 3 (HTO tv), aV d ta 4 (HWE tv), aV d ta 5 (HHE tv), aV d ta 6 (HRA tv)] (fun r (_ : Unit) => r = res.1) (fun _ => [oH ha (Hfl hv) (Hro hv) (Hrp hv) (Hca hv) (Hwy hv) (Hla hv) (Hmi hv) (Htf hv) (Htk hv), aV d ha 1 (HHO hv), aV d ha 2 (HAT hv), aV d ha 3 (HTO hv), aV d ha 4 (HWE hv), aV d ha 5 (HHE hv), aV d ha 6 (HRA hv), oS sa ha ta gt gf gc tra gs, oH ta (Hfl res.2) (Hro res.2) (Hrp res.2) (Hca res.2) (Hwy res.2) (Hla res.2) (Hmi res.2) (Htf res.2) (Htk res.2), aV d ta 1 (HHO res.2), aV d ta 2 (HAT res.2), aV d ta 3 (HTO res.2), aV d ta 4 (HWE res.2), aV d ta 5 (HHE res.2), aV d ta 6 (HRA res.2)]) := by
  have hX := XI.ok (D := D) (cs := cs) (wi := wi)
  refine MetI.of (by decide +kernel) (Nat.le_of_ble_eq_true rfl) ?_
  intro p e s m below meth c A cx hw ls hl
  have cx : Cx p s m _ meth c (XI D cs wi) D d A "DishLift" cX0_drawn 11 (some .int) "drawn" := cx
  have cx' := cx
  obtain ⟨hx, hb, hr, hlk, hml, hown, hts, hK, hA, hXs, hnm⟩ := cx'
  have hl : lv_has ls 11 [(0, .ref (sa 0)), (1, .int p1), (2, .int p2), (3, .int p3)] := hl
  unfold fX0_drawn at hf
  refine lv_aload_n hx hb dX0_drawn_0 rfl (lv_at hl 0 rfl) ?_
  obtain ⟨q1, hcq1, hf⟩ := op_e hf
  refine x_VI (wr := [oH ta (Hfl tv) (Hro tv) (Hrp tv) (Hca tv) (Hwy tv) (Hla tv) (Hmi tv) (Htf tv) (Htk tv), aV d ta 1 (HHO tv), aV d ta 2 (HAT tv), aV d ta 3 (HTO tv), aV d ta 4 (HWE tv), aV d ta 5 (HHE tv), aV d ta 6 (HRA tv)]) (rest := []) [] hX cx hw hl.1 (mX0_isHouse l  D d cs wi ln lf dk dn him ha sa ta hv gt gf gc tra gs q1 hcq1) (lw_V q769 q771 qs17 q82 q772) hd_X0_isHouse ⟨(Nat.le_of_ble_eq_true rfl), (Nat.le_of_ble_eq_true rfl)⟩ (va_recv hK hw.1 (ci := 1) (q0 := 7) rfl rfl) rfl rfl (Nat.le_of_ble_eq_true rfl) dX0_drawn_1 [0, 1, 2, 3, 4, 5, 6, 7] [8, 9, 10, 11, 12, 13, 14] rfl rfl rfl rfl (by decide) ⟨(Nat.le_of_ble_eq_true rfl), (Nat.le_of_ble_eq_true rfl)⟩ (fun r u H locs hp hw => ?_)
  have hw : Wd D A s [oH ta (Hfl tv) (Hro tv) (Hrp tv) (Hca tv) (Hwy tv) (Hla tv) (Hmi tv) (Htf tv) (Htk tv), aV d ta 1 (HHO tv), aV d ta 2 (HAT tv), aV d ta 3 (HTO tv), aV d ta 4 (HWE tv), aV d ta 5 (HHE tv), aV d ta 6 (HRA tv), oH ha (Hfl hv) (Hro hv) (Hrp hv) (Hca hv) (Hwy hv) (Hla hv) (Hmi hv) (Htf hv) (Htk hv), aV d ha 1 (HHO hv), aV d ha 2 (HAT hv), aV d ha 3 (HTO hv), aV d ha 4 (HWE hv), aV d ha 5 (HHE hv), aV d ha 6 (HRA hv), oS sa ha ta gt gf gc tra gs] H locs := hw
  subst r
  refine lv_if_ne (tgt := 10) hx hb dX0_drawn_4 (by decide) (fun c4 => ?_) (fun c4 => ?_)
  · have hf := if_f hf c4
    refine lv_iload_n hx hb dX0_drawn_10 rfl (lv_at hl 1 rfl) ?_
    obtain ⟨q2, hcq2, hf⟩ := op_e hf
    refine x_SI (wr := [oH ta (Hfl tv) (Hro tv) (Hrp tv) (Hca tv) (Hwy tv) (Hla tv) (Hmi tv) (Htf tv) (Htk tv), aV d ta 1 (HHO tv), aV d ta 2 (HAT tv), aV d ta 3 (HTO tv), aV d ta 4 (HWE tv), aV d ta 5 (HHE tv), aV d ta 6 (HRA tv), oH ha (Hfl hv) (Hro hv) (Hrp hv) (Hca hv) (Hwy hv) (Hla hv) (Hmi hv) (Htf hv) (Htk hv), aV d ha 1 (HHO hv), aV d ha 2 (HAT hv), aV d ha 3 (HTO hv), aV d ha 4 (HWE hv), aV d ha 5 (HHE hv), aV d ha 6 (HRA hv), oS sa ha ta gt gf gc tra gs]) (rest := []) [.int p1] hX cx hw hl.1 (mX0_isFar l (XI D cs wi) hX D d  p1 q2 hcq2) (lw_S q929 q930 q82 q931) hd_X0_isFar ⟨(Nat.le_of_ble_eq_true rfl), (Nat.le_of_ble_eq_true rfl)⟩ rfl rfl (Nat.le_of_ble_eq_true rfl) dX0_drawn_11 [] [0, 1, 2, 3, 4, 5, 6, 7, 8, 9, 10, 11, 12, 13, 14] rfl rfl rfl rfl (by decide) ⟨(Nat.le_of_ble_eq_true rfl), (Nat.le_of_ble_eq_true rfl)⟩ (fun r u H locs hp hw => ?_)
    have hw : Wd D A s [oH ta (Hfl tv) (Hro tv) (Hrp tv) (Hca tv) (Hwy tv) (Hla tv) (Hmi tv) (Htf tv) (Htk tv), aV d ta 1 (HHO tv), aV d ta 2 (HAT tv), aV d ta 3 (HTO tv), aV d ta 4 (HWE tv), aV d ta 5 (HHE tv), aV d ta 6 (HRA tv), oH ha (Hfl hv) (Hro hv) (Hrp hv) (Hca hv) (Hwy hv) (Hla hv) (Hmi hv) (Htf hv) (Htk hv), aV d ha 1 (HHO hv), aV d ha 2 (HAT hv), aV d ha 3 (HTO hv), aV d ha 4 (HWE hv), aV d ha 5 (HHE hv), aV d ha 6 (HRA hv), oS sa ha ta gt gf gc tra gs] H locs := hw
    subst r
    refine lv_if_eq (tgt := 36) hx hb dX0_drawn_14 (by decide) (fun c14 => ?_) (fun c14 => ?_)
    · have hf := if_t hf c14
      refine lv_ldc (v := (-1000001)) hx hb hown (hts _ q350) dX0_drawn_36 ?_
      have hf := sm_e hf
      subst hf
      exact x_retI cx hw rfl () rfl [7, 8, 9, 10, 11, 12, 13, 14, 0, 1, 2, 3, 4, 5, 6] rfl rfl (Nat.le_of_ble_eq_true rfl) (Nat.le_of_ble_eq_true rfl) dX0_drawn_38
    · have hf := if_f hf c14
      refine lv_iload_n hx hb dX0_drawn_17 rfl (lv_at hl 2 rfl) ?_
      refine lv_i2l (v := p2.toInt64) hx hb dX0_drawn_18 rfl ?_
      refine lv_lconst (v := 1) hx hb dX0_drawn_19 (by decide) ?_
      refine lv_ldc2 (v := 999999) hx hb hown (hts _ q1081) dX0_drawn_20 ?_
      obtain ⟨q3, hcq3, hf⟩ := op_e hf
      refine x_SI (wr := [oH ta (Hfl tv) (Hro tv) (Hrp tv) (Hca tv) (Hwy tv) (Hla tv) (Hmi tv) (Htf tv) (Htk tv), aV d ta 1 (HHO tv), aV d ta 2 (HAT tv), aV d ta 3 (HTO tv), aV d ta 4 (HWE tv), aV d ta 5 (HHE tv), aV d ta 6 (HRA tv), oH ha (Hfl hv) (Hro hv) (Hrp hv) (Hca hv) (Hwy hv) (Hla hv) (Hmi hv) (Htf hv) (Htk hv), aV d ha 1 (HHO hv), aV d ha 2 (HAT hv), aV d ha 3 (HTO hv), aV d ha 4 (HWE hv), aV d ha 5 (HHE hv), aV d ha 6 (HRA hv), oS sa ha ta gt gf gc tra gs]) (rest := []) [.long p2.toInt64, .long 1, .long 999999] hX cx hw hl.1 (mX0_isIn l (XI D cs wi) hX D d  p2.toInt64 1 999999 q3 hcq3) (lw_S q346 q347 q82 q348) hd_X0_isIn ⟨(Nat.le_of_ble_eq_true rfl), (Nat.le_of_ble_eq_true rfl)⟩ rfl rfl (Nat.le_of_ble_eq_true rfl) dX0_drawn_23 [] [0, 1, 2, 3, 4, 5, 6, 7, 8, 9, 10, 11, 12, 13, 14] rfl rfl rfl rfl (by decide) ⟨(Nat.le_of_ble_eq_true rfl), (Nat.le_of_ble_eq_true rfl)⟩ (fun r u H locs hp hw => ?_)
      have hw : Wd D A s [oH ta (Hfl tv) (Hro tv) (Hrp tv) (Hca tv) (Hwy tv) (Hla tv) (Hmi tv) (Htf tv) (Htk tv), aV d ta 1 (HHO tv), aV d ta 2 (HAT tv), aV d ta 3 (HTO tv), aV d ta 4 (HWE tv), aV d ta 5 (HHE tv), aV d ta 6 (HRA tv), oH ha (Hfl hv) (Hro hv) (Hrp hv) (Hca hv) (Hwy hv) (Hla hv) (Hmi hv) (Htf hv) (Htk hv), aV d ha 1 (HHO hv), aV d ha 2 (HAT hv), aV d ha 3 (HTO hv), aV d ha 4 (HWE hv), aV d ha 5 (HHE hv), aV d ha 6 (HRA hv), oS sa ha ta gt gf gc tra gs] H locs := hw
      subst r
      refine lv_if_eq (tgt := 36) hx hb dX0_drawn_26 (by decide) (fun c26 => ?_) (fun c26 => ?_)
      · have hf := if_t hf c26
        refine lv_ldc (v := (-1000001)) hx hb hown (hts _ q350) dX0_drawn_36 ?_
        have hf := sm_e hf
        subst hf
        exact x_retI cx hw rfl () rfl [7, 8, 9, 10, 11, 12, 13, 14, 0, 1, 2, 3, 4, 5, 6] rfl rfl (Nat.le_of_ble_eq_true rfl) (Nat.le_of_ble_eq_true rfl) dX0_drawn_38
      · have hf := if_f hf c26
        refine lv_iload_n hx hb dX0_drawn_29 rfl (lv_at hl 3 rfl) ?_
        obtain ⟨q4, hcq4, hf⟩ := op_e hf
        refine x_SI (wr := [oH ta (Hfl tv) (Hro tv) (Hrp tv) (Hca tv) (Hwy tv) (Hla tv) (Hmi tv) (Htf tv) (Htk tv), aV d ta 1 (HHO tv), aV d ta 2 (HAT tv), aV d ta 3 (HTO tv), aV d ta 4 (HWE tv), aV d ta 5 (HHE tv), aV d ta 6 (HRA tv), oH ha (Hfl hv) (Hro hv) (Hrp hv) (Hca hv) (Hwy hv) (Hla hv) (Hmi hv) (Htf hv) (Htk hv), aV d ha 1 (HHO hv), aV d ha 2 (HAT hv), aV d ha 3 (HTO hv), aV d ha 4 (HWE hv), aV d ha 5 (HHE hv), aV d ha 6 (HRA hv), oS sa ha ta gt gf gc tra gs]) (rest := []) [.int p3] hX cx hw hl.1 (mX0_isHalf l (XI D cs wi) hX D d  p3 q4 hcq4) (lw_S q973 q974 q82 q975) hd_X0_isHalf ⟨(Nat.le_of_ble_eq_true rfl), (Nat.le_of_ble_eq_true rfl)⟩ rfl rfl (Nat.le_of_ble_eq_true rfl) dX0_drawn_30 [] [0, 1, 2, 3, 4, 5, 6, 7, 8, 9, 10, 11, 12, 13, 14] rfl rfl rfl rfl (by decide) ⟨(Nat.le_of_ble_eq_true rfl), (Nat.le_of_ble_eq_true rfl)⟩ (fun r u H locs hp hw => ?_)
        have hw : Wd D A s [oH ta (Hfl tv) (Hro tv) (Hrp tv) (Hca tv) (Hwy tv) (Hla tv) (Hmi tv) (Htf tv) (Htk tv), aV d ta 1 (HHO tv), aV d ta 2 (HAT tv), aV d ta 3 (HTO tv), aV d ta 4 (HWE tv), aV d ta 5 (HHE tv), aV d ta 6 (HRA tv), oH ha (Hfl hv) (Hro hv) (Hrp hv) (Hca hv) (Hwy hv) (Hla hv) (Hmi hv) (Htf hv) (Htk hv), aV d ha 1 (HHO hv), aV d ha 2 (HAT hv), aV d ha 3 (HTO hv), aV d ha 4 (HWE hv), aV d ha 5 (HHE hv), aV d ha 6 (HRA hv), oS sa ha ta gt gf gc tra gs] H locs := hw
        subst r
        refine lv_if_ne (tgt := 39) hx hb dX0_drawn_33 (by decide) (fun c33 => ?_) (fun c33 => ?_)
        · have hf := if_f hf c33
          refine lv_aload_n hx hb dX0_drawn_39 rfl (lv_at hl 0 rfl) ?_
          obtain ⟨q5, hcq5, hf⟩ := op_e hf
          refine x_VA (wr := []) (rest := []) [] hX cx hw hl.1 (mX0_tried l  D d cs wi ln lf dk dn him ha ta sa hv tv gt gf gc tra gs q5 hcq5) (lw_V q932 q934 qs24 q82 q935) hd_X0_tried ⟨(Nat.le_of_ble_eq_true rfl), (Nat.le_of_ble_eq_true rfl)⟩ (va_recv hK hw.1 (ci := 1) (q0 := 14) rfl rfl) rfl rfl (Nat.le_of_ble_eq_true rfl) dX0_drawn_40 [7, 8, 9, 10, 11, 12, 13, 14, 0, 1, 2, 3, 4, 5, 6] [] rfl rfl rfl rfl (by decide) ⟨(Nat.le_of_ble_eq_true rfl), (Nat.le_of_ble_eq_true rfl)⟩ (fun u H locs hp hw => ?_)
          have hw : Wd D A s [oH ha (Hfl hv) (Hro hv) (Hrp hv) (Hca hv) (Hwy hv) (Hla hv) (Hmi hv) (Htf hv) (Htk hv), aV d ha 1 (HHO hv), aV d ha 2 (HAT hv), aV d ha 3 (HTO hv), aV d ha 4 (HWE hv), aV d ha 5 (HHE hv), aV d ha 6 (HRA hv), oS sa ha ta gt gf gc tra gs, oH ta (Hfl q5) (Hro q5) (Hrp q5) (Hca q5) (Hwy q5) (Hla q5) (Hmi q5) (Htf q5) (Htk q5), aV d ta 1 (HHO q5), aV d ta 2 (HAT q5), aV d ta 3 (HTO q5), aV d ta 4 (HWE q5), aV d ta 5 (HHE q5), aV d ta 6 (HRA q5)] H locs := hw
          refine lv_pop hx hb dX0_drawn_43 rfl ?_
          refine lv_iload_n hx hb dX0_drawn_44 rfl (lv_at hl 2 rfl) ?_
          refine lv_i2l (v := p2.toInt64) hx hb dX0_drawn_45 rfl ?_
          refine lv_lstore (lv' := [(4, .long p2.toInt64), (0, .ref (sa 0)), (1, .int p1), (2, .int p2), (3, .int p3)]) hx hb dX0_drawn_46 hl (by decide) rfl (fun ls hl => ?_)
          refine lv_iconst (v := 0) hx hb dX0_drawn_48 (by decide) ?_
          refine lv_istore (lv' := [(6, .int 0), (4, .long p2.toInt64), (0, .ref (sa 0)), (1, .int p1), (2, .int p2), (3, .int p3)]) hx hb dX0_drawn_49 hl (by decide) rfl (fun ls hl => ?_)
          refine lv_iconst (v := 0) hx hb dX0_drawn_51 (by decide) ?_
          refine lv_istore (lv' := [(7, .int 0), (6, .int 0), (4, .long p2.toInt64), (0, .ref (sa 0)), (1, .int p1), (2, .int p2), (3, .int p3)]) hx hb dX0_drawn_52 hl (by decide) rfl (fun ls hl => ?_)
          obtain ⟨r6, hlp54, hf⟩ := op_e hf
          refine x_join (A := A) (D := D) (J := 195) (nL := 11) (cells' := 0) (slots' := 0) (st := []) [oH ha (Hfl hv) (Hro hv) (Hrp hv) (Hca hv) (Hwy hv) (Hla hv) (Hmi hv) (Htf hv) (Htk hv), aV d ha 1 (HHO hv), aV d ha 2 (HAT hv), aV d ha 3 (HTO hv), aV d ha 4 (HWE hv), aV d ha 5 (HHE hv), aV d ha 6 (HRA hv), oS sa ha ta gt gf gc tra gs, oH ta (Hfl r6.2) (Hro r6.2) (Hrp r6.2) (Hca r6.2) (Hwy r6.2) (Hla r6.2) (Hmi r6.2) (Htf r6.2) (Htk r6.2), aV d ta 1 (HHO r6.2), aV d ta 2 (HAT r6.2), aV d ta 3 (HTO r6.2), aV d ta 4 (HWE r6.2), aV d ta 5 (HHE r6.2), aV d ta 6 (HRA r6.2)] [(0, .ref (sa 0)), (3, .int p3), (6, .int r6.1)] (fun H locs ls hw hl => ?_) (fun hK54 => ?_)
          · refine lv_iload_n hx hb dX0_drawn_195 rfl (lv_at hl 1 rfl) ?_
            refine lv_if_ne (tgt := 204) hx hb dX0_drawn_196 (by decide) (fun c196 => ?_) (fun c196 => ?_)
            · have hf := if_f hf c196
              refine lv_aload_n hx hb dX0_drawn_204 rfl (lv_at hl 0 rfl) ?_
              refine va_get (ci := 1) (C := RX0) (T := TX0) (N := 14) hx hb hts in_X0 hown hK hw.1 7 rfl rfl 5 (by decide) (hts _ q299) (fun _ h9 => h9) rfl dX0_drawn_205 ?_
              refine lv_iconst (v := 0) hx hb dX0_drawn_208 (by decide) ?_
              obtain ⟨q7, hcq7, hf⟩ := op_e hf
              refine x_VI (wr := [oH ha (Hfl hv) (Hro hv) (Hrp hv) (Hca hv) (Hwy hv) (Hla hv) (Hmi hv) (Htf hv) (Htk hv), aV d ha 1 (HHO hv), aV d ha 2 (HAT hv), aV d ha 3 (HTO hv), aV d ha 4 (HWE hv), aV d ha 5 (HHE hv), aV d ha 6 (HRA hv), oS sa ha ta gt gf gc tra gs]) (rest := []) [.int 0] hX cx hw hl.1 (vX1_heats l  D d cs wi ln lf dk dn him ta r6.2 0 q7 hcq7) (lw_V q1027 q1028 q1029 q83 q1030) hd_X1_heats ⟨(Nat.le_of_ble_eq_true rfl), (Nat.le_of_ble_eq_true rfl)⟩ (va_recv hK hw.1 (ci := 2) (q0 := 8) rfl rfl) rfl rfl (Nat.le_of_ble_eq_true rfl) dX0_drawn_209 [8, 9, 10, 11, 12, 13, 14] [0, 1, 2, 3, 4, 5, 6, 7] rfl rfl rfl rfl (by decide) ⟨(Nat.le_of_ble_eq_true rfl), (Nat.le_of_ble_eq_true rfl)⟩ (fun r u H locs hp hw => ?_)
              have hw : Wd D A s [oH ha (Hfl hv) (Hro hv) (Hrp hv) (Hca hv) (Hwy hv) (Hla hv) (Hmi hv) (Htf hv) (Htk hv), aV d ha 1 (HHO hv), aV d ha 2 (HAT hv), aV d ha 3 (HTO hv), aV d ha 4 (HWE hv), aV d ha 5 (HHE hv), aV d ha 6 (HRA hv), oS sa ha ta gt gf gc tra gs, oH ta (Hfl r6.2) (Hro r6.2) (Hrp r6.2) (Hca r6.2) (Hwy r6.2) (Hla r6.2) (Hmi r6.2) (Htf r6.2) (Htk r6.2), aV d ta 1 (HHO r6.2), aV d ta 2 (HAT r6.2), aV d ta 3 (HTO r6.2), aV d ta 4 (HWE r6.2), aV d ta 5 (HHE r6.2), aV d ta 6 (HRA r6.2)] H locs := hw
              subst r
              have hf := sm_e hf
              subst hf
              exact x_retI cx hw rfl () rfl [0, 1, 2, 3, 4, 5, 6, 7, 8, 9, 10, 11, 12, 13, 14] rfl rfl (Nat.le_of_ble_eq_true rfl) (Nat.le_of_ble_eq_true rfl) dX0_drawn_212
            · have hf := if_t hf c196
              refine lv_iload hx hb dX0_drawn_199 (lv_at hl 2 rfl) ?_
              refine lv_goto (tgt := 212) hx hb dX0_drawn_201 (by decide) ?_
              have hf := sm_e hf
              subst hf
              exact x_retI cx hw rfl () rfl [0, 1, 2, 3, 4, 5, 6, 7, 8, 9, 10, 11, 12, 13, 14] rfl rfl (Nat.le_of_ble_eq_true rfl) (Nat.le_of_ble_eq_true rfl) dX0_drawn_212
          · refine x_lp hlp54 (fun x54 => [oH ha (Hfl hv) (Hro hv) (Hrp hv) (Hca hv) (Hwy hv) (Hla hv) (Hmi hv) (Htf hv) (Htk hv), aV d ha 1 (HHO hv), aV d ha 2 (HAT hv), aV d ha 3 (HTO hv), aV d ha 4 (HWE hv), aV d ha 5 (HHE hv), aV d ha 6 (HRA hv), oS sa ha ta gt gf gc tra gs, oH ta (Hfl x54.2.2.2) (Hro x54.2.2.2) (Hrp x54.2.2.2) (Hca x54.2.2.2) (Hwy x54.2.2.2) (Hla x54.2.2.2) (Hmi x54.2.2.2) (Htf x54.2.2.2) (Htk x54.2.2.2), aV d ta 1 (HHO x54.2.2.2), aV d ta 2 (HAT x54.2.2.2), aV d ta 3 (HTO x54.2.2.2), aV d ta 4 (HWE x54.2.2.2), aV d ta 5 (HHE x54.2.2.2), aV d ta 6 (HRA x54.2.2.2)]) (fun x54 => [(0, .ref (sa 0)), (1, .int p1), (3, .int p3), (4, .long x54.1), (6, .int x54.2.1), (7, .int x54.2.2.1)]) hw (lv_sub hl [3, 4, 6, 2, 1, 0] rfl) (fun x54 y54 hf hin54 hout54 H locs ls hw hl => ?_)
            have hw : Wd D A s [oH ha (Hfl hv) (Hro hv) (Hrp hv) (Hca hv) (Hwy hv) (Hla hv) (Hmi hv) (Htf hv) (Htk hv), aV d ha 1 (HHO hv), aV d ha 2 (HAT hv), aV d ha 3 (HTO hv), aV d ha 4 (HWE hv), aV d ha 5 (HHE hv), aV d ha 6 (HRA hv), oS sa ha ta gt gf gc tra gs, oH ta (Hfl x54.2.2.2) (Hro x54.2.2.2) (Hrp x54.2.2.2) (Hca x54.2.2.2) (Hwy x54.2.2.2) (Hla x54.2.2.2) (Hmi x54.2.2.2) (Htf x54.2.2.2) (Htk x54.2.2.2), aV d ta 1 (HHO x54.2.2.2), aV d ta 2 (HAT x54.2.2.2), aV d ta 3 (HTO x54.2.2.2), aV d ta 4 (HWE x54.2.2.2), aV d ta 5 (HHE x54.2.2.2), aV d ta 6 (HRA x54.2.2.2)] H locs := hw
            have hl : lv_has ls 11 [(0, .ref (sa 0)), (1, .int p1), (3, .int p3), (4, .long x54.1), (6, .int x54.2.1), (7, .int x54.2.2.1)] := hl
            refine lv_iload hx hb dX0_drawn_54 (lv_at hl 5 rfl) ?_
            refine lv_iload_n hx hb dX0_drawn_56 rfl (lv_at hl 1 rfl) ?_
            refine lv_icmp_ge (tgt := 195) hx hb dX0_drawn_57 (by decide) (fun c57 => ?_) (fun c57 => ?_)
            · have hf := if_t hf c57
              have hf := sm_e hf
              subst hf
              have hz := hout54 _ rfl
              subst hz
              exact hK54 _ _ _ hw (lv_sub hl [0, 2, 4] rfl)
            · have hf := if_f hf c57
              refine lv_lload hx hb dX0_drawn_60 (lv_at hl 3 rfl) ?_
              refine lv_ldc2 (v := 16807) hx hb hown (hts _ q1082) dX0_drawn_62 ?_
              refine lv_lmul hx hb dX0_drawn_65 ?_
              refine lv_ldc2 (v := 2147483647) hx hb hown (hts _ q1083) dX0_drawn_66 ?_
              refine lv_lrem hx hb dX0_drawn_69 (by decide) ?_
              refine lv_lstore (lv' := [(4, .long ((x54.1 * 16807) - (x54.1 * 16807) / 2147483647 * 2147483647)), (0, .ref (sa 0)), (1, .int p1), (3, .int p3), (6, .int x54.2.1), (7, .int x54.2.2.1)]) hx hb dX0_drawn_70 hl (by decide) rfl (fun ls hl => ?_)
              refine lv_lload hx hb dX0_drawn_72 (lv_at hl 0 rfl) ?_
              refine lv_aload_n hx hb dX0_drawn_74 rfl (lv_at hl 1 rfl) ?_
              refine va_get (ci := 1) (C := RX0) (T := TX0) (N := 14) hx hb hts in_X0 hown hK hw.1 7 rfl rfl 5 (by decide) (hts _ q299) (fun _ h9 => h9) rfl dX0_drawn_75 ?_
              obtain ⟨q8, hcq8, hf⟩ := op_e hf
              refine x_VI (wr := [oH ha (Hfl hv) (Hro hv) (Hrp hv) (Hca hv) (Hwy hv) (Hla hv) (Hmi hv) (Htf hv) (Htk hv), aV d ha 1 (HHO hv), aV d ha 2 (HAT hv), aV d ha 3 (HTO hv), aV d ha 4 (HWE hv), aV d ha 5 (HHE hv), aV d ha 6 (HRA hv), oS sa ha ta gt gf gc tra gs]) (rest := [.long ((x54.1 * 16807) - (x54.1 * 16807) / 2147483647 * 2147483647)]) [] hX cx hw hl.1 (vX1_many l  D d cs wi ln lf dk dn him ta x54.2.2.2 q8 hcq8) (lw_V q755 q663 q664 q83 q665) hd_X1_many ⟨(Nat.le_of_ble_eq_true rfl), (Nat.le_of_ble_eq_true rfl)⟩ (va_recv hK hw.1 (ci := 2) (q0 := 8) rfl rfl) rfl rfl (Nat.le_of_ble_eq_true rfl) dX0_drawn_78 [8, 9, 10, 11, 12, 13, 14] [0, 1, 2, 3, 4, 5, 6, 7] rfl rfl rfl rfl (by decide) ⟨(Nat.le_of_ble_eq_true rfl), (Nat.le_of_ble_eq_true rfl)⟩ (fun r u H locs hp hw => ?_)
              have hw : Wd D A s [oH ha (Hfl hv) (Hro hv) (Hrp hv) (Hca hv) (Hwy hv) (Hla hv) (Hmi hv) (Htf hv) (Htk hv), aV d ha 1 (HHO hv), aV d ha 2 (HAT hv), aV d ha 3 (HTO hv), aV d ha 4 (HWE hv), aV d ha 5 (HHE hv), aV d ha 6 (HRA hv), oS sa ha ta gt gf gc tra gs, oH ta (Hfl x54.2.2.2) (Hro x54.2.2.2) (Hrp x54.2.2.2) (Hca x54.2.2.2) (Hwy x54.2.2.2) (Hla x54.2.2.2) (Hmi x54.2.2.2) (Htf x54.2.2.2) (Htk x54.2.2.2), aV d ta 1 (HHO x54.2.2.2), aV d ta 2 (HAT x54.2.2.2), aV d ta 3 (HTO x54.2.2.2), aV d ta 4 (HWE x54.2.2.2), aV d ta 5 (HHE x54.2.2.2), aV d ta 6 (HRA x54.2.2.2)] H locs := hw
              subst r
              refine lv_i2l (v := q8.toInt64) hx hb dX0_drawn_81 rfl ?_
              obtain ⟨g9, hrd, hf⟩ := op_e hf
              refine x_lrem cx hrd dX0_drawn_82 ?_
              refine lv_l2i (v := (((x54.1 * 16807) - (x54.1 * 16807) / 2147483647 * 2147483647) - ((x54.1 * 16807) - (x54.1 * 16807) / 2147483647 * 2147483647) / q8.toInt64 * q8.toInt64).toInt32) hx hb dX0_drawn_83 rfl ?_
              refine lv_istore (lv' := [(8, .int (((x54.1 * 16807) - (x54.1 * 16807) / 2147483647 * 2147483647) - ((x54.1 * 16807) - (x54.1 * 16807) / 2147483647 * 2147483647) / q8.toInt64 * q8.toInt64).toInt32), (4, .long ((x54.1 * 16807) - (x54.1 * 16807) / 2147483647 * 2147483647)), (0, .ref (sa 0)), (1, .int p1), (3, .int p3), (6, .int x54.2.1), (7, .int x54.2.2.1)]) hx hb dX0_drawn_84 hl (by decide) rfl (fun ls hl => ?_)
              refine lv_lload hx hb dX0_drawn_86 (lv_at hl 1 rfl) ?_
              refine lv_aload_n hx hb dX0_drawn_88 rfl (lv_at hl 2 rfl) ?_
              refine va_get (ci := 1) (C := RX0) (T := TX0) (N := 14) hx hb hts in_X0 hown hK hw.1 7 rfl rfl 5 (by decide) (hts _ q299) (fun _ h9 => h9) rfl dX0_drawn_89 ?_
              refine va_get (ci := 2) (C := RX1) (T := TX1) (N := 15) hx hb hts in_X1 hown hK hw.1 8 rfl rfl 0 (by decide) (hts _ q161) (fun _ h9 => h9) rfl dX0_drawn_92 ?_
              refine lv_i2l (v := (Hfl x54.2.2.2).toInt64) hx hb dX0_drawn_95 rfl ?_
              obtain ⟨g10, hrd, hf⟩ := op_e hf
              refine x_lrem cx hrd dX0_drawn_96 ?_
              refine lv_l2i (v := (((x54.1 * 16807) - (x54.1 * 16807) / 2147483647 * 2147483647) - ((x54.1 * 16807) - (x54.1 * 16807) / 2147483647 * 2147483647) / (Hfl x54.2.2.2).toInt64 * (Hfl x54.2.2.2).toInt64).toInt32) hx hb dX0_drawn_97 rfl ?_
              refine lv_istore (lv' := [(9, .int (((x54.1 * 16807) - (x54.1 * 16807) / 2147483647 * 2147483647) - ((x54.1 * 16807) - (x54.1 * 16807) / 2147483647 * 2147483647) / (Hfl x54.2.2.2).toInt64 * (Hfl x54.2.2.2).toInt64).toInt32), (8, .int (((x54.1 * 16807) - (x54.1 * 16807) / 2147483647 * 2147483647) - ((x54.1 * 16807) - (x54.1 * 16807) / 2147483647 * 2147483647) / q8.toInt64 * q8.toInt64).toInt32), (4, .long ((x54.1 * 16807) - (x54.1 * 16807) / 2147483647 * 2147483647)), (0, .ref (sa 0)), (1, .int p1), (3, .int p3), (6, .int x54.2.1), (7, .int x54.2.2.1)]) hx hb dX0_drawn_98 hl (by decide) rfl (fun ls hl => ?_)
              refine lv_aload_n hx hb dX0_drawn_100 rfl (lv_at hl 3 rfl) ?_
              refine va_get (ci := 1) (C := RX0) (T := TX0) (N := 14) hx hb hts in_X0 hown hK hw.1 7 rfl rfl 5 (by decide) (hts _ q299) (fun _ h9 => h9) rfl dX0_drawn_101 ?_
              refine va_get (ci := 2) (C := RX1) (T := TX1) (N := 15) hx hb hts in_X1 hown hK hw.1 8 rfl rfl 6 (by decide) (hts _ q176) (fun _ h9 => h9) rfl dX0_drawn_104 ?_
              refine lv_iload hx hb dX0_drawn_107 (lv_at hl 1 rfl) ?_
              obtain ⟨v11, hrd, hf⟩ := op_e hf
              refine x_iald (q0 := 9) cx hw rfl hrd dX0_drawn_109 ?_
              refine lv_iconst (v := 2) hx hb dX0_drawn_110 (by decide) ?_
              obtain ⟨j12, hjA, hjR⟩ := op_e hf
              refine x_join (A := A) (D := D) (J := 155) (nL := 11) (cells' := 0) (slots' := 0) (st := []) [oH ha (Hfl hv) (Hro hv) (Hrp hv) (Hca hv) (Hwy hv) (Hla hv) (Hmi hv) (Htf hv) (Htk hv), aV d ha 1 (HHO hv), aV d ha 2 (HAT hv), aV d ha 3 (HTO hv), aV d ha 4 (HWE hv), aV d ha 5 (HHE hv), aV d ha 6 (HRA hv), oS sa ha ta gt gf gc tra gs, oH ta (Hfl j12) (Hro j12) (Hrp j12) (Hca j12) (Hwy j12) (Hla j12) (Hmi j12) (Htf j12) (Htk j12), aV d ta 1 (HHO j12), aV d ta 2 (HAT j12), aV d ta 3 (HTO j12), aV d ta 4 (HWE j12), aV d ta 5 (HHE j12), aV d ta 6 (HRA j12)] [(0, .ref (sa 0)), (1, .int p1), (3, .int p3), (4, .long ((x54.1 * 16807) - (x54.1 * 16807) / 2147483647 * 2147483647)), (6, .int x54.2.1), (7, .int x54.2.2.1)] (fun H locs ls hw hl => ?_) (fun hKj155_j12 => ?_)
              · have hf := hjR
                refine lv_aload_n hx hb dX0_drawn_155 rfl (lv_at hl 0 rfl) ?_
                refine va_get (ci := 1) (C := RX0) (T := TX0) (N := 14) hx hb hts in_X0 hown hK hw.1 7 rfl rfl 5 (by decide) (hts _ q299) (fun _ h9 => h9) rfl dX0_drawn_156 ?_
                refine lv_iconst (v := 2) hx hb dX0_drawn_159 (by decide) ?_
                obtain ⟨q13, hcq13, hf⟩ := op_e hf
                refine x_VI (wr := [oH ha (Hfl hv) (Hro hv) (Hrp hv) (Hca hv) (Hwy hv) (Hla hv) (Hmi hv) (Htf hv) (Htk hv), aV d ha 1 (HHO hv), aV d ha 2 (HAT hv), aV d ha 3 (HTO hv), aV d ha 4 (HWE hv), aV d ha 5 (HHE hv), aV d ha 6 (HRA hv), oS sa ha ta gt gf gc tra gs]) (rest := []) [.int 2] hX cx hw hl.1 (vX1_areSo l  D d cs wi ln lf dk dn him ta j12 2 q13 hcq13) (lw_V q867 q788 q789 q83 q790) hd_X1_areSo ⟨(Nat.le_of_ble_eq_true rfl), (Nat.le_of_ble_eq_true rfl)⟩ (va_recv hK hw.1 (ci := 2) (q0 := 8) rfl rfl) rfl rfl (Nat.le_of_ble_eq_true rfl) dX0_drawn_160 [8, 9, 10, 11, 12, 13, 14] [0, 1, 2, 3, 4, 5, 6, 7] rfl rfl rfl rfl (by decide) ⟨(Nat.le_of_ble_eq_true rfl), (Nat.le_of_ble_eq_true rfl)⟩ (fun r u H locs hp hw => ?_)
                have hw : Wd D A s [oH ha (Hfl hv) (Hro hv) (Hrp hv) (Hca hv) (Hwy hv) (Hla hv) (Hmi hv) (Htf hv) (Htk hv), aV d ha 1 (HHO hv), aV d ha 2 (HAT hv), aV d ha 3 (HTO hv), aV d ha 4 (HWE hv), aV d ha 5 (HHE hv), aV d ha 6 (HRA hv), oS sa ha ta gt gf gc tra gs, oH ta (Hfl j12) (Hro j12) (Hrp j12) (Hca j12) (Hwy j12) (Hla j12) (Hmi j12) (Htf j12) (Htk j12), aV d ta 1 (HHO j12), aV d ta 2 (HAT j12), aV d ta 3 (HTO j12), aV d ta 4 (HWE j12), aV d ta 5 (HHE j12), aV d ta 6 (HRA j12)] H locs := hw
                subst r
                refine lv_istore (lv' := [(10, .int q13), (0, .ref (sa 0)), (1, .int p1), (3, .int p3), (4, .long ((x54.1 * 16807) - (x54.1 * 16807) / 2147483647 * 2147483647)), (6, .int x54.2.1), (7, .int x54.2.2.1)]) hx hb dX0_drawn_163 hl (by decide) rfl (fun ls hl => ?_)
                refine lv_iload hx hb dX0_drawn_165 (lv_at hl 5 rfl) ?_
                refine lv_aload_n hx hb dX0_drawn_167 rfl (lv_at hl 1 rfl) ?_
                refine va_get (ci := 1) (C := RX0) (T := TX0) (N := 14) hx hb hts in_X0 hown hK hw.1 7 rfl rfl 5 (by decide) (hts _ q299) (fun _ h9 => h9) rfl dX0_drawn_168 ?_
                obtain ⟨q14, hcq14, hf⟩ := op_e hf
                refine x_VA (wr := [oH ha (Hfl hv) (Hro hv) (Hrp hv) (Hca hv) (Hwy hv) (Hla hv) (Hmi hv) (Htf hv) (Htk hv), aV d ha 1 (HHO hv), aV d ha 2 (HAT hv), aV d ha 3 (HTO hv), aV d ha 4 (HWE hv), aV d ha 5 (HHE hv), aV d ha 6 (HRA hv), oS sa ha ta gt gf gc tra gs]) (rest := [.int x54.2.1]) [] hX cx hw hl.1 (vX1_pass l  D d cs wi ln lf dk dn him ta j12 q14 hcq14) (lw_V q778 q779 q780 q83 q781) hd_X1_pass ⟨(Nat.le_of_ble_eq_true rfl), (Nat.le_of_ble_eq_true rfl)⟩ (va_recv hK hw.1 (ci := 2) (q0 := 8) rfl rfl) rfl rfl (Nat.le_of_ble_eq_true rfl) dX0_drawn_171 [8, 9, 10, 11, 12, 13, 14] [0, 1, 2, 3, 4, 5, 6, 7] rfl rfl rfl rfl (by decide) ⟨(Nat.le_of_ble_eq_true rfl), (Nat.le_of_ble_eq_true rfl)⟩ (fun u H locs hp hw => ?_)
                have hw : Wd D A s [oH ha (Hfl hv) (Hro hv) (Hrp hv) (Hca hv) (Hwy hv) (Hla hv) (Hmi hv) (Htf hv) (Htk hv), aV d ha 1 (HHO hv), aV d ha 2 (HAT hv), aV d ha 3 (HTO hv), aV d ha 4 (HWE hv), aV d ha 5 (HHE hv), aV d ha 6 (HRA hv), oS sa ha ta gt gf gc tra gs, oH ta (Hfl q14) (Hro q14) (Hrp q14) (Hca q14) (Hwy q14) (Hla q14) (Hmi q14) (Htf q14) (Htk q14), aV d ta 1 (HHO q14), aV d ta 2 (HAT q14), aV d ta 3 (HTO q14), aV d ta 4 (HWE q14), aV d ta 5 (HHE q14), aV d ta 6 (HRA q14)] H locs := hw
                refine lv_iconst (v := 2) hx hb dX0_drawn_174 (by decide) ?_
                obtain ⟨q15, hcq15, hf⟩ := op_e hf
                refine x_VI (wr := [oH ha (Hfl hv) (Hro hv) (Hrp hv) (Hca hv) (Hwy hv) (Hla hv) (Hmi hv) (Htf hv) (Htk hv), aV d ha 1 (HHO hv), aV d ha 2 (HAT hv), aV d ha 3 (HTO hv), aV d ha 4 (HWE hv), aV d ha 5 (HHE hv), aV d ha 6 (HRA hv), oS sa ha ta gt gf gc tra gs]) (rest := [.int x54.2.1]) [.int 2] hX cx hw hl.1 (vX1_areSo l  D d cs wi ln lf dk dn him ta q14 2 q15 hcq15) (lw_V q867 q788 q789 q83 q790) hd_X1_areSo ⟨(Nat.le_of_ble_eq_true rfl), (Nat.le_of_ble_eq_true rfl)⟩ (va_recv hK hw.1 (ci := 2) (q0 := 8) rfl rfl) rfl rfl (Nat.le_of_ble_eq_true rfl) dX0_drawn_175 [8, 9, 10, 11, 12, 13, 14] [0, 1, 2, 3, 4, 5, 6, 7] rfl rfl rfl rfl (by decide) ⟨(Nat.le_of_ble_eq_true rfl), (Nat.le_of_ble_eq_true rfl)⟩ (fun r u H locs hp hw => ?_)
                have hw : Wd D A s [oH ha (Hfl hv) (Hro hv) (Hrp hv) (Hca hv) (Hwy hv) (Hla hv) (Hmi hv) (Htf hv) (Htk hv), aV d ha 1 (HHO hv), aV d ha 2 (HAT hv), aV d ha 3 (HTO hv), aV d ha 4 (HWE hv), aV d ha 5 (HHE hv), aV d ha 6 (HRA hv), oS sa ha ta gt gf gc tra gs, oH ta (Hfl q14) (Hro q14) (Hrp q14) (Hca q14) (Hwy q14) (Hla q14) (Hmi q14) (Htf q14) (Htk q14), aV d ta 1 (HHO q14), aV d ta 2 (HAT q14), aV d ta 3 (HTO q14), aV d ta 4 (HWE q14), aV d ta 5 (HHE q14), aV d ta 6 (HRA q14)] H locs := hw
                subst r
                refine lv_iload hx hb dX0_drawn_178 (lv_at hl 0 rfl) ?_
                refine lv_iconst (v := (-1)) hx hb dX0_drawn_180 (by decide) ?_
                refine lv_ixor hx hb dX0_drawn_181 ?_
                refine lv_iand hx hb dX0_drawn_182 ?_
                obtain ⟨q16, hcq16, hf⟩ := op_e hf
                refine x_SI (wr := [oH ha (Hfl hv) (Hro hv) (Hrp hv) (Hca hv) (Hwy hv) (Hla hv) (Hmi hv) (Htf hv) (Htk hv), aV d ha 1 (HHO hv), aV d ha 2 (HAT hv), aV d ha 3 (HTO hv), aV d ha 4 (HWE hv), aV d ha 5 (HHE hv), aV d ha 6 (HRA hv), oS sa ha ta gt gf gc tra gs, oH ta (Hfl q14) (Hro q14) (Hrp q14) (Hca q14) (Hwy q14) (Hla q14) (Hmi q14) (Htf q14) (Htk q14), aV d ta 1 (HHO q14), aV d ta 2 (HAT q14), aV d ta 3 (HTO q14), aV d ta 4 (HWE q14), aV d ta 5 (HHE q14), aV d ta 6 (HRA q14)]) (rest := [.int x54.2.1]) [.int (q15 &&& (q13 ^^^ (-1)))] hX cx hw hl.1 (mJ15_bitCount l (XI D cs wi) hX D d  (q15 &&& (q13 ^^^ (-1))) q16 hcq16) (lw_S q976 q792 q112 q793) hd_J15_bitCount ⟨(Nat.le_of_ble_eq_true rfl), (Nat.le_of_ble_eq_true rfl)⟩ rfl rfl (Nat.le_of_ble_eq_true rfl) dX0_drawn_183 [] [0, 1, 2, 3, 4, 5, 6, 7, 8, 9, 10, 11, 12, 13, 14] rfl rfl rfl rfl (by decide) ⟨(Nat.le_of_ble_eq_true rfl), (Nat.le_of_ble_eq_true rfl)⟩ (fun r u H locs hp hw => ?_)
                have hw : Wd D A s [oH ha (Hfl hv) (Hro hv) (Hrp hv) (Hca hv) (Hwy hv) (Hla hv) (Hmi hv) (Htf hv) (Htk hv), aV d ha 1 (HHO hv), aV d ha 2 (HAT hv), aV d ha 3 (HTO hv), aV d ha 4 (HWE hv), aV d ha 5 (HHE hv), aV d ha 6 (HRA hv), oS sa ha ta gt gf gc tra gs, oH ta (Hfl q14) (Hro q14) (Hrp q14) (Hca q14) (Hwy q14) (Hla q14) (Hmi q14) (Htf q14) (Htk q14), aV d ta 1 (HHO q14), aV d ta 2 (HAT q14), aV d ta 3 (HTO q14), aV d ta 4 (HWE q14), aV d ta 5 (HHE q14), aV d ta 6 (HRA q14)] H locs := hw
                subst r
                refine lv_iadd hx hb dX0_drawn_186 ?_
                refine lv_istore (lv' := [(6, .int (x54.2.1 + q16)), (10, .int q13), (0, .ref (sa 0)), (1, .int p1), (3, .int p3), (4, .long ((x54.1 * 16807) - (x54.1 * 16807) / 2147483647 * 2147483647)), (7, .int x54.2.2.1)]) hx hb dX0_drawn_187 hl (by decide) rfl (fun ls hl => ?_)
                refine lv_iinc (v := (x54.2.2.1 + 1)) (lv' := [(7, .int (x54.2.2.1 + 1)), (6, .int (x54.2.1 + q16)), (10, .int q13), (0, .ref (sa 0)), (1, .int p1), (3, .int p3), (4, .long ((x54.1 * 16807) - (x54.1 * 16807) / 2147483647 * 2147483647))]) hx hb dX0_drawn_189 hl (k := 6) rfl (by first | rfl | decide) (by decide) rfl (fun ls hl => ?_)
                refine lv_goto (tgt := 54) hx hb dX0_drawn_192 (by decide) ?_
                have hf := sm_e hf
                subst hf
                exact hin54 _ rfl _ _ _ hw (lv_sub hl [3, 4, 5, 6, 1, 0] rfl)
              · have hf := hjA
                refine lv_icmp_ne (tgt := 135) hx hb dX0_drawn_111 (by decide) (fun c111 => ?_) (fun c111 => ?_)
                · have hf := if_f hf c111
                  refine lv_lload hx hb dX0_drawn_135 (lv_at hl 2 rfl) ?_
                  refine lv_ldc2 (v := 4) hx hb hown (hts _ q885) dX0_drawn_137 ?_
                  refine lv_lrem hx hb dX0_drawn_140 (by decide) ?_
                  refine lv_lconst (v := 0) hx hb dX0_drawn_141 (by decide) ?_
                  refine W.lcmp hx hb dX0_drawn_142 ?_
                  refine lv_if_ne (tgt := 155) hx hb dX0_drawn_143 (by decide) (fun c143 => ?_) (fun c143 => ?_)
                  · have hf := if_f hf (fun h => c143 ((lg_cmp_eq _ _).mpr h))
                    have hf := sm_e hf
                    subst hf
                    exact hKj155_j12 _ _ _ hw (lv_sub hl [3, 4, 5, 2, 6, 7] rfl)
                  · have hf := if_t hf ((lg_cmp_eq _ _).mp c143)
                    refine lv_aload_n hx hb dX0_drawn_146 rfl (lv_at hl 3 rfl) ?_
                    refine va_get (ci := 1) (C := RX0) (T := TX0) (N := 14) hx hb hts in_X0 hown hK hw.1 7 rfl rfl 5 (by decide) (hts _ q299) (fun _ h9 => h9) rfl dX0_drawn_147 ?_
                    refine lv_iload hx hb dX0_drawn_150 (lv_at hl 0 rfl) ?_
                    refine va_put (ci := 2) (v := .int (((x54.1 * 16807) - (x54.1 * 16807) / 2147483647 * 2147483647) - ((x54.1 * 16807) - (x54.1 * 16807) / 2147483647 * 2147483647) / (Hfl x54.2.2.2).toInt64 * (Hfl x54.2.2.2).toInt64).toInt32) (ty := .int) (C := RX1) (T := TX1) (N := 15) hx hb hts in_X1 tyX1 tyX1_ok nmX1 hown hK hw.1 hw.2.1 hw.2.2 8 rfl rfl 3 (by decide) (hts _ q169) (fun _ h9 => h9) rfl (by decide +kernel) rfl rfl (Nat.le_of_ble_eq_true rfl) dX0_drawn_152 (fun H locs hP hD hS => ?_)
                    have hw : Wd D A s [oH ha (Hfl hv) (Hro hv) (Hrp hv) (Hca hv) (Hwy hv) (Hla hv) (Hmi hv) (Htf hv) (Htk hv), aV d ha 1 (HHO hv), aV d ha 2 (HAT hv), aV d ha 3 (HTO hv), aV d ha 4 (HWE hv), aV d ha 5 (HHE hv), aV d ha 6 (HRA hv), oS sa ha ta gt gf gc tra gs, oH ta (Hfl x54.2.2.2) (Hro x54.2.2.2) (Hrp x54.2.2.2) ((((x54.1 * 16807) - (x54.1 * 16807) / 2147483647 * 2147483647) - ((x54.1 * 16807) - (x54.1 * 16807) / 2147483647 * 2147483647) / (Hfl x54.2.2.2).toInt64 * (Hfl x54.2.2.2).toInt64).toInt32) (Hwy x54.2.2.2) (Hla x54.2.2.2) (Hmi x54.2.2.2) (Htf x54.2.2.2) (Htk x54.2.2.2), aV d ta 1 (HHO x54.2.2.2), aV d ta 2 (HAT x54.2.2.2), aV d ta 3 (HTO x54.2.2.2), aV d ta 4 (HWE x54.2.2.2), aV d ta 5 (HHE x54.2.2.2), aV d ta 6 (HRA x54.2.2.2)] H locs := ⟨hP, hD, hS⟩
                    obtain ⟨b18, hb0, hf⟩ := op_e hf
                    obtain ⟨e0, e1, e2, e3, e4, e5, e6, e7, e8, e9, e10, e11, e12, e13, e14⟩ := acca (sm_e hb0)
                    have hw : Wd D A s [oH ha (Hfl hv) (Hro hv) (Hrp hv) (Hca hv) (Hwy hv) (Hla hv) (Hmi hv) (Htf hv) (Htk hv), aV d ha 1 (HHO hv), aV d ha 2 (HAT hv), aV d ha 3 (HTO hv), aV d ha 4 (HWE hv), aV d ha 5 (HHE hv), aV d ha 6 (HRA hv), oS sa ha ta gt gf gc tra gs, oH ta (Hfl b18) (Hro b18) (Hrp b18) (Hca b18) (Hwy b18) (Hla b18) (Hmi b18) (Htf b18) (Htk b18), aV d ta 1 (HHO b18), aV d ta 2 (HAT b18), aV d ta 3 (HTO b18), aV d ta 4 (HWE b18), aV d ta 5 (HHE b18), aV d ta 6 (HRA b18)] H locs := by rw [e0, e1, e2, e3, e4, e5, e6, e7, e8, e9, e10, e11, e12, e13, e14]; exact hw
                    have hf := sm_e hf
                    subst hf
                    exact hKj155_j12 _ _ _ hw (lv_sub hl [3, 4, 5, 2, 6, 7] rfl)
                · have hf := if_t hf c111
                  refine lv_aload_n hx hb dX0_drawn_114 rfl (lv_at hl 3 rfl) ?_
                  refine va_get (ci := 1) (C := RX0) (T := TX0) (N := 14) hx hb hts in_X0 hown hK hw.1 7 rfl rfl 5 (by decide) (hts _ q299) (fun _ h9 => h9) rfl dX0_drawn_115 ?_
                  refine lv_iload hx hb dX0_drawn_118 (lv_at hl 1 rfl) ?_
                  refine lv_iload hx hb dX0_drawn_120 (lv_at hl 0 rfl) ?_
                  refine lv_lload hx hb dX0_drawn_122 (lv_at hl 2 rfl) ?_
                  refine lv_ldc2 (v := 61) hx hb hown (hts _ q1084) dX0_drawn_124 ?_
                  refine lv_lrem hx hb dX0_drawn_127 (by decide) ?_
                  refine lv_l2i (v := (((x54.1 * 16807) - (x54.1 * 16807) / 2147483647 * 2147483647) - ((x54.1 * 16807) - (x54.1 * 16807) / 2147483647 * 2147483647) / 61 * 61).toInt32) hx hb dX0_drawn_128 rfl ?_
                  obtain ⟨q17, hcq17, hf⟩ := op_e hf
                  refine x_VV (wr := [oH ha (Hfl hv) (Hro hv) (Hrp hv) (Hca hv) (Hwy hv) (Hla hv) (Hmi hv) (Htf hv) (Htk hv), aV d ha 1 (HHO hv), aV d ha 2 (HAT hv), aV d ha 3 (HTO hv), aV d ha 4 (HWE hv), aV d ha 5 (HHE hv), aV d ha 6 (HRA hv), oS sa ha ta gt gf gc tra gs]) (rest := []) [.int (((x54.1 * 16807) - (x54.1 * 16807) / 2147483647 * 2147483647) - ((x54.1 * 16807) - (x54.1 * 16807) / 2147483647 * 2147483647) / q8.toInt64 * q8.toInt64).toInt32, .int (((x54.1 * 16807) - (x54.1 * 16807) / 2147483647 * 2147483647) - ((x54.1 * 16807) - (x54.1 * 16807) / 2147483647 * 2147483647) / (Hfl x54.2.2.2).toInt64 * (Hfl x54.2.2.2).toInt64).toInt32, .int (((x54.1 * 16807) - (x54.1 * 16807) / 2147483647 * 2147483647) - ((x54.1 * 16807) - (x54.1 * 16807) / 2147483647 * 2147483647) / 61 * 61).toInt32] hX cx hw hl.1 (vX1_send l  D d cs wi ln lf dk dn him ta x54.2.2.2 ((((x54.1 * 16807) - (x54.1 * 16807) / 2147483647 * 2147483647) - ((x54.1 * 16807) - (x54.1 * 16807) / 2147483647 * 2147483647) / q8.toInt64 * q8.toInt64).toInt32) ((((x54.1 * 16807) - (x54.1 * 16807) / 2147483647 * 2147483647) - ((x54.1 * 16807) - (x54.1 * 16807) / 2147483647 * 2147483647) / (Hfl x54.2.2.2).toInt64 * (Hfl x54.2.2.2).toInt64).toInt32) ((((x54.1 * 16807) - (x54.1 * 16807) / 2147483647 * 2147483647) - ((x54.1 * 16807) - (x54.1 * 16807) / 2147483647 * 2147483647) / 61 * 61).toInt32) q17 hcq17) (lw_V q895 q896 q897 q83 q898) hd_X1_send ⟨(Nat.le_of_ble_eq_true rfl), (Nat.le_of_ble_eq_true rfl)⟩ (va_recv hK hw.1 (ci := 2) (q0 := 8) rfl rfl) rfl rfl (Nat.le_of_ble_eq_true rfl) dX0_drawn_129 [8, 9, 10, 11, 12, 13, 14] [0, 1, 2, 3, 4, 5, 6, 7] rfl rfl rfl rfl (by decide) ⟨(Nat.le_of_ble_eq_true rfl), (Nat.le_of_ble_eq_true rfl)⟩ (fun u H locs hp hw => ?_)
                  have hw : Wd D A s [oH ha (Hfl hv) (Hro hv) (Hrp hv) (Hca hv) (Hwy hv) (Hla hv) (Hmi hv) (Htf hv) (Htk hv), aV d ha 1 (HHO hv), aV d ha 2 (HAT hv), aV d ha 3 (HTO hv), aV d ha 4 (HWE hv), aV d ha 5 (HHE hv), aV d ha 6 (HRA hv), oS sa ha ta gt gf gc tra gs, oH ta (Hfl q17) (Hro q17) (Hrp q17) (Hca q17) (Hwy q17) (Hla q17) (Hmi q17) (Htf q17) (Htk q17), aV d ta 1 (HHO q17), aV d ta 2 (HAT q17), aV d ta 3 (HTO q17), aV d ta 4 (HWE q17), aV d ta 5 (HHE q17), aV d ta 6 (HRA q17)] H locs := hw
                  refine lv_goto (tgt := 155) hx hb dX0_drawn_132 (by decide) ?_
                  have hf := sm_e hf
                  subst hf
                  exact hKj155_j12 _ _ _ hw (lv_sub hl [3, 4, 5, 2, 6, 7] rfl)
        · have hf := if_t hf c33
          refine lv_ldc (v := (-1000001)) hx hb hown (hts _ q350) dX0_drawn_36 ?_
          have hf := sm_e hf
          subst hf
          exact x_retI cx hw rfl () rfl [7, 8, 9, 10, 11, 12, 13, 14, 0, 1, 2, 3, 4, 5, 6] rfl rfl (Nat.le_of_ble_eq_true rfl) (Nat.le_of_ble_eq_true rfl) dX0_drawn_38
  · have hf := if_t hf c4
    refine lv_ldc (v := (-1000002)) hx hb hown (hts _ q764) dX0_drawn_7 ?_
    have hf := sm_e hf
    subst hf
    exact x_retI cx hw rfl () rfl [7, 8, 9, 10, 11, 12, 13, 14, 0, 1, 2, 3, 4, 5, 6] rfl rfl (Nat.le_of_ble_eq_true rfl) (Nat.le_of_ble_eq_true rfl) dX0_drawn_9
theorem hd_X0_kind : yX0_kind.cls = "DishLift" ∧ yX0_kind.cls ≠ "java/lang/invoke/MethodHandle" ∧ yX0_kind.cls ≠ "java/lang/invoke/VarHandle" ∧ (parseMethodDescriptor yX0_kind.desc).map (fun d => d.parameters.length) = some 1 := by decide +kernel
set_option maxHeartbeats 4000000 in
theorem mX0_kind (l : Launch)  (D : va_G) (d : Nat → ClassId) (cs : Nat → Nat) (wi : va_W) (ln : Nat → Option Int32) (lf : Nat → Nat → Option Nat) (dk : Nat → Option Nat) (dn : Nat → Int32) (him : ImF d wi ln lf dk dn) (ha : Nat → Nat) (sa : Nat → Nat) (ta : Nat → Nat) (hv : HV) (gt : Int32) (gf : Int32) (gc : Int32) (tra : Nat) (gs : Int32) (p1 : Int32)  (res : Int32) (hf : fX0_kind ln lf dk hv p1 = some res) : MetI l yX0_kind (ws_ yX0_kind cX0_kind 2 (some .int)) { frames := 3, cells := 0, slots := 0, locals := 120 } [.ref (sa 0), .int p1] (XI D cs wi) D d [oH ha (Hfl hv) (Hro hv) (Hrp hv) (Hca hv) (Hwy hv) (Hla hv) (Hmi hv) (Htf hv) (Htk hv), aV d ha 1 (HHO hv), aV d ha 2 (HAT hv), aV d ha 3 (HTO hv), aV d ha 4 (HWE hv), aV d ha 5 (HHE hv), aV d ha 6 (HRA hv), oS sa ha ta gt gf gc tra gs] (fun r (_ : Unit) => r = res) (fun _ => [oH ha (Hfl hv) (Hro hv) (Hrp hv) (Hca hv) (Hwy hv) (Hla hv) (Hmi hv) (Htf hv) (Htk hv), aV d ha 1 (HHO hv), aV d ha 2 (HAT hv), aV d ha 3 (HTO hv), aV d ha 4 (HWE hv), aV d ha 5 (HHE hv), aV d ha 6 (HRA hv), oS sa ha ta gt gf gc tra gs]) := by
  have hX := XI.ok (D := D) (cs := cs) (wi := wi)
  refine MetI.of (by decide +kernel) (Nat.le_of_ble_eq_true rfl) ?_
  intro p e s m below meth c A cx hw ls hl
  have cx : Cx p s m _ meth c (XI D cs wi) D d A "DishLift" cX0_kind 2 (some .int) "kind" := cx
  have cx' := cx
  obtain ⟨hx, hb, hr, hlk, hml, hown, hts, hK, hA, hXs, hnm⟩ := cx'
  have hl : lv_has ls 2 [(0, .ref (sa 0)), (1, .int p1)] := hl
  unfold fX0_kind at hf
  refine lv_aload_n hx hb dX0_kind_0 rfl (lv_at hl 0 rfl) ?_
  refine lv_iload_n hx hb dX0_kind_1 rfl (lv_at hl 1 rfl) ?_
  obtain ⟨q1, hcq1, hf⟩ := op_e hf
  refine x_VI (wr := []) (rest := []) [.int p1] hX cx hw hl.1 (mX0_isDish l  D d cs wi ln lf dk dn him ha sa ta hv gt gf gc tra gs p1 q1 hcq1) (lw_V q890 q892 qs23 q82 q893) hd_X0_isDish ⟨(Nat.le_of_ble_eq_true rfl), (Nat.le_of_ble_eq_true rfl)⟩ (va_recv hK hw.1 (ci := 1) (q0 := 7) rfl rfl) rfl rfl (Nat.le_of_ble_eq_true rfl) dX0_kind_2 [0, 1, 2, 3, 4, 5, 6, 7] [] rfl rfl rfl rfl (by decide) ⟨(Nat.le_of_ble_eq_true rfl), (Nat.le_of_ble_eq_true rfl)⟩ (fun r u H locs hp hw => ?_)
  have hw : Wd D A s [oH ha (Hfl hv) (Hro hv) (Hrp hv) (Hca hv) (Hwy hv) (Hla hv) (Hmi hv) (Htf hv) (Htk hv), aV d ha 1 (HHO hv), aV d ha 2 (HAT hv), aV d ha 3 (HTO hv), aV d ha 4 (HWE hv), aV d ha 5 (HHE hv), aV d ha 6 (HRA hv), oS sa ha ta gt gf gc tra gs] H locs := hw
  subst r
  refine lv_if_eq (tgt := 30) hx hb dX0_kind_5 (by decide) (fun c5 => ?_) (fun c5 => ?_)
  · have hf := if_t hf c5
    refine lv_ldc (v := (-1000001)) hx hb hown (hts _ q350) dX0_kind_30 ?_
    have hf := sm_e hf
    subst hf
    exact x_retI cx hw rfl () rfl [0, 1, 2, 3, 4, 5, 6, 7] rfl rfl (Nat.le_of_ble_eq_true rfl) (Nat.le_of_ble_eq_true rfl) dX0_kind_32
  · have hf := if_f hf c5
    refine lv_aload_n hx hb dX0_kind_8 rfl (lv_at hl 0 rfl) ?_
    refine va_get (ci := 1) (C := RX0) (T := TX0) (N := 14) hx hb hts in_X0 hown hK hw.1 7 rfl rfl 4 (by decide) (hts _ q298) (fun _ h9 => h9) rfl dX0_kind_9 ?_
    refine va_get (ci := 2) (C := RX1) (T := TX1) (N := 15) hx hb hts in_X1 hown hK hw.1 0 rfl rfl 5 (by decide) (hts _ q174) (fun _ h9 => h9) rfl dX0_kind_12 ?_
    refine lv_iload_n hx hb dX0_kind_15 rfl (lv_at hl 1 rfl) ?_
    obtain ⟨e2, hrd, hf⟩ := op_e hf
    refine x_lget him hrd cx hw hl.1 q1098 ⟨(Nat.le_of_ble_eq_true rfl), (Nat.le_of_ble_eq_true rfl)⟩ (Nat.le_of_ble_eq_true rfl) ⟨(Nat.le_of_ble_eq_true rfl), (Nat.le_of_ble_eq_true rfl)⟩ dX0_kind_16 (fun H locs hw => ?_)
    obtain ⟨k3, hrd, hf⟩ := op_e hf
    refine x_cast him hrd cx hw (hts _ q247) dX0_kind_21 ?_
    obtain ⟨v4, hrd, hf⟩ := op_e hf
    refine x_kind him hrd cx hw hl.1 q1099 ⟨(Nat.le_of_ble_eq_true rfl), (Nat.le_of_ble_eq_true rfl)⟩ (Nat.le_of_ble_eq_true rfl) ⟨(Nat.le_of_ble_eq_true rfl), (Nat.le_of_ble_eq_true rfl)⟩ dX0_kind_24 (fun H locs hw => ?_)
    refine lv_goto (tgt := 32) hx hb dX0_kind_27 (by decide) ?_
    have hf := sm_e hf
    subst hf
    exact x_retI cx hw rfl () rfl [0, 1, 2, 3, 4, 5, 6, 7] rfl rfl (Nat.le_of_ble_eq_true rfl) (Nat.le_of_ble_eq_true rfl) dX0_kind_32
