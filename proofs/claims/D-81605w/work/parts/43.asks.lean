set_option maxRecDepth 100000
/-! ASKING A DISH -/
theorem cwD {R : Room} {s : State} {args : Array Value} {own C owner : String} {index maxL mc ms : Nat} {x y : MethodName} {bytes : ByteArray} {ret : Option FieldType} {rm : Room} {b0 : ByteArray} {m0 : Nat} {r0 : Option FieldType} (n : Nat) (hts : ∀ w ∈ lw_all, w.before args s = true) (h1 : Cond.instanceMethod ⟨owner, x.name, x.desc⟩ ∈ lw_all) (h2 : Cond.code ⟨owner, x.name, x.desc⟩ b0 m0 r0 ∈ lw_all) (h3 : Cond.selects C ⟨owner, x.name, x.desc⟩ y ∈ lw_all) (h4 : Cond.instanceMethod y ∈ lw_all) (h5 : Cond.initialized y.cls ∈ lw_all) (h6 : Cond.code y bytes maxL ret ∈ lw_all)
    (hlink : va_Nw (.methodLink own index x) s) (hsame : va_Nw (.sameMethod x.cls owner x.name x.desc) s) (hrc : rm.cells = mc) (hrs : rm.slots = ms) (hno : owner ≠ "java/lang/invoke/MethodHandle" ∧ owner ≠ "java/lang/invoke/VarHandle") (hd : (parseMethodDescriptor x.desc).map (fun d => d.parameters.length) = some n) (hR : rm.frames + 1 ≤ R.frames ∧ 8 + (maxL + 11) + rm.locals ≤ R.locals) : va_CU R s args own C owner index x y bytes maxL ret (ws_ y bytes maxL ret) rm mc ms n := by
  have tab : ∀ {w : Cond}, w.onTables = true → va_Nw w s → w.before args s = true := fun hc h => va_tabs (u := s) (U := s) hc rfl h
  have hs := tab (w := .sameMethod x.cls owner x.name x.desc) rfl hsame
  obtain ⟨cn, ck, r1, hcn, hck, hni, hf, hn1⟩ := Cond.sameMethod_found hs
  have hf2 : s.methodFound? owner x.name x.desc = some r1 := State.methodFound?_of_named hn1 hno
  have hsel := hts _ h3
  have hsel2 : (Cond.selects C x y).before args s = true := by
    simp only [Cond.before, Cond.holds, Cond.value, hf, hf2] at hsel ⊢
    exact hsel
  refine ⟨⟨hrc, hrs, hR.1, hR.2, pay_in hts (lw_meth h6), List.mem_cons_self⟩, hts _ h6, hts _ h5, hno, fun sig h => ?_, tab rfl hlink, hs, va_Decl.of (hts _ h1) (hts _ h2), hsel2, hts _ h4⟩
  rw [h] at hd
  exact (Option.some.inj hd).symm

def fX0_count_b54 (RW : Nat → Option Nat) (x54 : Int32 × Int32) : Option ((Int32 × Int32) ⊕ (Int32)) :=
  if 8 ≤ x54.2 then
    some (.inr x54.1)
  else
    (rdq RW 8 x54.2).bind fun o2 =>
    if o2 = none then
      some (.inl ((x54.1 + 0), (x54.2 + 1)))
    else
      some (.inl ((x54.1 + 1), (x54.2 + 1)))
def fX0_count (ln : Nat → Option Int32) (hv : HV) (gt : Int32) (gc : Int32) (RW : Nat → Option Nat) (p1 : Int32) : Option (Int32) :=
  if p1 = 0 then
    (lp (fX0_count_b54 RW) FU (0, 0)).bind fun r1 =>
    some r1
  else
    if p1 = 1 then
      (gX1_many ln hv).bind fun q4 =>
      some q4
    else
      if p1 = 2 then
        some (Hfl hv)
      else
        if p1 = 3 then
          some (Hmi hv)
        else
          if p1 = 4 then
            (gX1_areSo ln hv 0).bind fun q5 =>
            (fJ15_bitCount q5).bind fun q6 =>
            some q6
          else
            if p1 = 5 then
              (gX1_areSo ln hv 2).bind fun q7 =>
              (fJ15_bitCount q7).bind fun q8 =>
              some q8
            else
              if p1 = 6 then
                (gX1_heats ln hv 0).bind fun q9 =>
                some q9
              else
                if p1 = 7 then
                  some gc
                else
                  if p1 = 8 then
                    some gt
                  else
                    some (-1000001)
def fX0_ask (ln : Nat → Option Int32) (lf : Nat → Nat → Option Nat) (dk : Nat → Option Nat) (dn : Nat → Int32) (hv : HV) (p1 : Int32) (p2 : Int32) : Option (Int32 × Bool × Int32 × (Nat → Int32)) :=
  (fX0_isDish ln hv p1).bind fun q1 =>
  if q1 = 0 then
    some ((-1000001), false, 0, (fun _ => 0))
  else
    (fX0_isHalf p2).bind fun q2 =>
    if q2 = 0 then
      some ((-1000001), false, 0, (fun _ => 0))
    else
      (lget ln lf (Hla hv) p1).bind fun e5 =>
      (dk e5).bind fun k6 =>
      if p2 = 0 then
        if k6 = 0 then
          (fX4_size_X4 dn 16 hv 0 (fun _ => 0) e5).bind fun q7 =>
          some (q7.1, true, q7.2.1, q7.2.2)
        else
          if k6 = 1 then
            (fX5_size_X5 dn 16 hv 0 (fun _ => 0) e5).bind fun q8 =>
            some (q8.1, true, q8.2.1, q8.2.2)
          else
            if k6 = 2 then
              (fX4_size_X6 dn 16 hv 0 (fun _ => 0) e5).bind fun q9 =>
              some (q9.1, true, q9.2.1, q9.2.2)
            else
              if k6 = 3 then
                (fX7_size_X7 dn 16 hv 0 (fun _ => 0) e5).bind fun q10 =>
                some (q10.1, true, q10.2.1, q10.2.2)
              else
                if k6 = 4 then
                  (fX8_size_X8 dn 16 hv 0 (fun _ => 0) e5).bind fun q11 =>
                  some (q11.1, true, q11.2.1, q11.2.2)
                else
                  none
      else
        if k6 = 0 then
          (fX4_mark_X4 dn 16 hv 0 (fun _ => 0) e5).bind fun q12 =>
          some (q12.1, true, q12.2.1, q12.2.2)
        else
          if k6 = 1 then
            (fX5_mark_X5 dn 16 hv 0 (fun _ => 0) e5).bind fun q13 =>
            some (q13.1, true, q13.2.1, q13.2.2)
          else
            if k6 = 2 then
              (fX6_mark_X6 dn 16 hv 0 (fun _ => 0) e5).bind fun q14 =>
              some (q14.1, true, q14.2.1, q14.2.2)
            else
              if k6 = 3 then
                (fX7_mark_X7 dn 16 hv 0 (fun _ => 0) e5).bind fun q15 =>
                some (q15.1, true, q15.2.1, q15.2.2)
              else
                if k6 = 4 then
                  (fX7_mark_X8 dn 16 hv 0 (fun _ => 0) e5).bind fun q16 =>
                  some (q16.1, true, q16.2.1, q16.2.2)
                else
                  none
theorem hd_X0_count : yX0_count.cls = "DishLift" ∧ yX0_count.cls ≠ "java/lang/invoke/MethodHandle" ∧ yX0_count.cls ≠ "java/lang/invoke/VarHandle" ∧ (parseMethodDescriptor yX0_count.desc).map (fun d => d.parameters.length) = some 1 := by decide +kernel
set_option maxHeartbeats 4000000 in
theorem mX0_count (l : Launch) (D : va_G) (d : Nat → ClassId) (cs : Nat → Nat) (wi : va_W) (ln : Nat → Option Int32) (lf : Nat → Nat → Option Nat) (dk : Nat → Option Nat) (dn : Nat → Int32) (him : ImF d wi ln lf dk dn) (ha : Nat → Nat) (sa : Nat → Nat) (ta : Nat → Nat) (hv : HV) (gt : Int32) (gf : Int32) (gc : Int32) (tra : Nat) (gs : Int32) (RW : Nat → Option Nat) (p1 : Int32)  (res : Int32) (hf : fX0_count ln hv gt gc RW p1 = some res) : MetI l yX0_count (ws_ yX0_count cX0_count 4 (some .int)) { frames := 3, cells := 0, slots := 0, locals := 83 } [.ref (sa 0), .int p1] (XI D cs wi) D d [oH ha (Hfl hv) (Hro hv) (Hrp hv) (Hca hv) (Hwy hv) (Hla hv) (Hmi hv) (Htf hv) (Htk hv), aV d ha 1 (HHO hv), aV d ha 2 (HAT hv), aV d ha 3 (HTO hv), aV d ha 4 (HWE hv), aV d ha 5 (HHE hv), aV d ha 6 (HRA hv), oS sa ha ta gt gf gc tra gs, ((sa 1), .inl (d 3, 8, .inr (.inr (.inr (.inr RW)))))] (fun r (_ : Unit) => r = res) (fun _ => [oH ha (Hfl hv) (Hro hv) (Hrp hv) (Hca hv) (Hwy hv) (Hla hv) (Hmi hv) (Htf hv) (Htk hv), aV d ha 1 (HHO hv), aV d ha 2 (HAT hv), aV d ha 3 (HTO hv), aV d ha 4 (HWE hv), aV d ha 5 (HHE hv), aV d ha 6 (HRA hv), oS sa ha ta gt gf gc tra gs, ((sa 1), .inl (d 3, 8, .inr (.inr (.inr (.inr RW)))))]) := by
  have hX := XI.ok (D := D) (cs := cs) (wi := wi)
  refine MetI.of (by decide +kernel) (Nat.le_of_ble_eq_true rfl) ?_
  intro p e s m below meth c A cx hw ls hl
  have cx : Cx p s m _ meth c (XI D cs wi) D d A "DishLift" cX0_count 4 (some .int) "count" := cx
  have cx' := cx
  obtain ⟨hx, hb, hr, hlk, hml, hown, hts, hK, hA, hXs, hnm⟩ := cx'
  have hl : lv_has ls 4 [(0, .ref (sa 0)), (1, .int p1)] := hl
  generalize hlo : ([] : List Loc) = locs at hw ⊢
  unfold fX0_count at hf
  refine lv_iconst (v := 0) hx hb dX0_count_0 (by decide) ?_
  refine lv_istore_n (lv' := [(2, .int 0), (0, .ref (sa 0)), (1, .int p1)]) hx hb dX0_count_1 rfl hl (by decide) rfl (fun ls hl => ?_)
  refine lv_iload_n hx hb dX0_count_2 rfl (lv_at hl 2 rfl) ?_
  by_cases n0 : p1 = 0
  · have hf := if_t hf n0
    refine lv_tableIn (tgt := 52) hx hb dX0_count_3 (by rw [n0]; decide) (by rw [n0]; decide) (by rw [n0]; rfl) (by decide) ?_
    refine lv_iconst (v := 0) hx hb dX0_count_52 (by decide) ?_
    refine lv_istore_n (lv' := [(3, .int 0), (2, .int 0), (0, .ref (sa 0)), (1, .int p1)]) hx hb dX0_count_53 rfl hl (by decide) rfl (fun ls hl => ?_)
    obtain ⟨r1, hlp54, hf⟩ := op_e hf
    refine x_join (A := A) (D := D) (J := 83) (nL := 4) (cells' := 0) (slots' := 0) (st := []) [oH ha (Hfl hv) (Hro hv) (Hrp hv) (Hca hv) (Hwy hv) (Hla hv) (Hmi hv) (Htf hv) (Htk hv), aV d ha 1 (HHO hv), aV d ha 2 (HAT hv), aV d ha 3 (HTO hv), aV d ha 4 (HWE hv), aV d ha 5 (HHE hv), aV d ha 6 (HRA hv), oS sa ha ta gt gf gc tra gs, ((sa 1), .inl (d 3, 8, .inr (.inr (.inr (.inr RW)))))] [(2, .int r1)] (fun H locs ls hw hl => ?_) (fun hK54 => ?_)
    · refine lv_iload_n hx hb dX0_count_83 rfl (lv_at hl 0 rfl) ?_
      have hf := sm_e hf
      subst hf
      exact x_retI cx hw rfl () rfl [0, 1, 2, 3, 4, 5, 6, 7, 8] rfl rfl (Nat.le_of_ble_eq_true rfl) (Nat.le_of_ble_eq_true rfl) dX0_count_84
    · refine x_lp hlp54 (fun x54 => [oH ha (Hfl hv) (Hro hv) (Hrp hv) (Hca hv) (Hwy hv) (Hla hv) (Hmi hv) (Htf hv) (Htk hv), aV d ha 1 (HHO hv), aV d ha 2 (HAT hv), aV d ha 3 (HTO hv), aV d ha 4 (HWE hv), aV d ha 5 (HHE hv), aV d ha 6 (HRA hv), oS sa ha ta gt gf gc tra gs, ((sa 1), .inl (d 3, 8, .inr (.inr (.inr (.inr RW)))))]) (fun x54 => [(0, .ref (sa 0)), (2, .int x54.1), (3, .int x54.2)]) hw (lv_sub hl [2, 1, 0] rfl) (fun x54 y54 hf hin54 hout54 H locs ls hw hl => ?_)
      have hw : Wd D A s [oH ha (Hfl hv) (Hro hv) (Hrp hv) (Hca hv) (Hwy hv) (Hla hv) (Hmi hv) (Htf hv) (Htk hv), aV d ha 1 (HHO hv), aV d ha 2 (HAT hv), aV d ha 3 (HTO hv), aV d ha 4 (HWE hv), aV d ha 5 (HHE hv), aV d ha 6 (HRA hv), oS sa ha ta gt gf gc tra gs, ((sa 1), .inl (d 3, 8, .inr (.inr (.inr (.inr RW)))))] H locs := hw
      have hl : lv_has ls 4 [(0, .ref (sa 0)), (2, .int x54.1), (3, .int x54.2)] := hl
      refine lv_iload_n hx hb dX0_count_54 rfl (lv_at hl 2 rfl) ?_
      refine lv_bipush (v := 8) hx hb dX0_count_55 (by decide) ?_
      refine lv_icmp_ge (tgt := 83) hx hb dX0_count_57 (by decide) (fun c57 => ?_) (fun c57 => ?_)
      · have hf := if_t hf c57
        have hf := sm_e hf
        subst hf
        have hz := hout54 _ rfl
        subst hz
        exact hK54 _ _ _ hw (lv_sub hl [1] rfl)
      · have hf := if_f hf c57
        refine lv_iload_n hx hb dX0_count_60 rfl (lv_at hl 1 rfl) ?_
        refine lv_aload_n hx hb dX0_count_61 rfl (lv_at hl 0 rfl) ?_
        refine va_get (ci := 1) (C := RX0) (T := TX0) (N := 14) hx hb hts in_X0 hown hK hw.1 7 rfl rfl 0 (by decide) (hts _ q294) (fun _ h9 => h9) rfl dX0_count_62 ?_
        refine lv_iload_n hx hb dX0_count_65 rfl (lv_at hl 2 rfl) ?_
        obtain ⟨o2, hrd, hf⟩ := op_e hf
        refine x_aald (q0 := 8) (t0 := 3) cx hw rfl rfl hrd dX0_count_66 ?_
        by_cases c67 : o2 = none
        · have hf := if_t hf c67
          refine W.eq (g2 := F0 m 67 ls [.null, .int x54.1]) (by rw [c67]; rfl) ?_
          refine lv_ifnonnullN hx hb dX0_count_67 ?_
          refine lv_iconst (v := 0) hx hb dX0_count_70 (by decide) ?_
          refine lv_goto (tgt := 75) hx hb dX0_count_71 (by decide) ?_
          refine lv_iadd hx hb dX0_count_75 ?_
          refine lv_istore_n (lv' := [(2, .int (x54.1 + 0)), (0, .ref (sa 0)), (3, .int x54.2)]) hx hb dX0_count_76 rfl hl (by decide) rfl (fun ls hl => ?_)
          refine lv_iinc (v := (x54.2 + 1)) (lv' := [(3, .int (x54.2 + 1)), (2, .int (x54.1 + 0)), (0, .ref (sa 0))]) hx hb dX0_count_77 hl (k := 2) rfl (by first | rfl | decide) (by decide) rfl (fun ls hl => ?_)
          refine lv_goto (tgt := 54) hx hb dX0_count_80 (by decide) ?_
          have hf := sm_e hf
          subst hf
          exact hin54 _ rfl _ _ _ hw (lv_sub hl [2, 1, 0] rfl)
        · have hf := if_f hf c67
          obtain ⟨e3, hee3⟩ := Option.ne_none_iff_exists'.mp c67
          refine W.eq (g2 := F0 m 67 ls [.ref e3, .int x54.1]) (by rw [hee3]; rfl) ?_
          refine lv_ifnonnull (tgt := 74) hx hb dX0_count_67 (by decide) ?_
          refine lv_iconst (v := 1) hx hb dX0_count_74 (by decide) ?_
          refine lv_iadd hx hb dX0_count_75 ?_
          refine lv_istore_n (lv' := [(2, .int (x54.1 + 1)), (0, .ref (sa 0)), (3, .int x54.2)]) hx hb dX0_count_76 rfl hl (by decide) rfl (fun ls hl => ?_)
          refine lv_iinc (v := (x54.2 + 1)) (lv' := [(3, .int (x54.2 + 1)), (2, .int (x54.1 + 1)), (0, .ref (sa 0))]) hx hb dX0_count_77 hl (k := 2) rfl (by first | rfl | decide) (by decide) rfl (fun ls hl => ?_)
          refine lv_goto (tgt := 54) hx hb dX0_count_80 (by decide) ?_
          have hf := sm_e hf
          subst hf
          exact hin54 _ rfl _ _ _ hw (lv_sub hl [2, 1, 0] rfl)
  · have hf := if_f hf n0
    by_cases n1 : p1 = 1
    · have hf := if_t hf n1
      refine lv_tableIn (tgt := 85) hx hb dX0_count_3 (by rw [n1]; decide) (by rw [n1]; decide) (by rw [n1]; rfl) (by decide) ?_
      refine lv_aload_n hx hb dX0_count_85 rfl (lv_at hl 1 rfl) ?_
      refine va_get (ci := 1) (C := RX0) (T := TX0) (N := 14) hx hb hts in_X0 hown hK hw.1 7 rfl rfl 4 (by decide) (hts _ q298) (fun _ h9 => h9) rfl dX0_count_86 ?_
      obtain ⟨q4, hcq4, hf⟩ := op_e hf
      refine x_VI (wr := [oS sa ha ta gt gf gc tra gs, ((sa 1), .inl (d 3, 8, .inr (.inr (.inr (.inr RW)))))]) (rest := []) [] hX cx hw hl.1 (vX1_many l  D d cs wi ln lf dk dn him ha hv  q4 hcq4) (lw_V q755 q663 q664 q83 q665) hd_X1_many ⟨(Nat.le_of_ble_eq_true rfl), (Nat.le_of_ble_eq_true rfl)⟩ (va_recv hK hw.1 (ci := 2) (q0 := 0) rfl rfl) rfl rfl (Nat.le_of_ble_eq_true rfl) dX0_count_89 [0, 1, 2, 3, 4, 5, 6] [7, 8] rfl rfl rfl rfl (by decide) ⟨(Nat.le_of_ble_eq_true rfl), (Nat.le_of_ble_eq_true rfl)⟩ (fun r u H locs hp hw => ?_)
      have hw : Wd D A s [oS sa ha ta gt gf gc tra gs, ((sa 1), .inl (d 3, 8, .inr (.inr (.inr (.inr RW))))), oH ha (Hfl hv) (Hro hv) (Hrp hv) (Hca hv) (Hwy hv) (Hla hv) (Hmi hv) (Htf hv) (Htk hv), aV d ha 1 (HHO hv), aV d ha 2 (HAT hv), aV d ha 3 (HTO hv), aV d ha 4 (HWE hv), aV d ha 5 (HHE hv), aV d ha 6 (HRA hv)] H locs := hw
      subst r
      have hf := sm_e hf
      subst hf
      exact x_retI cx hw rfl () rfl [2, 3, 4, 5, 6, 7, 8, 0, 1] rfl rfl (Nat.le_of_ble_eq_true rfl) (Nat.le_of_ble_eq_true rfl) dX0_count_92
    · have hf := if_f hf n1
      by_cases n2 : p1 = 2
      · have hf := if_t hf n2
        refine lv_tableIn (tgt := 93) hx hb dX0_count_3 (by rw [n2]; decide) (by rw [n2]; decide) (by rw [n2]; rfl) (by decide) ?_
        refine lv_aload_n hx hb dX0_count_93 rfl (lv_at hl 1 rfl) ?_
        refine va_get (ci := 1) (C := RX0) (T := TX0) (N := 14) hx hb hts in_X0 hown hK hw.1 7 rfl rfl 4 (by decide) (hts _ q298) (fun _ h9 => h9) rfl dX0_count_94 ?_
        refine va_get (ci := 2) (C := RX1) (T := TX1) (N := 15) hx hb hts in_X1 hown hK hw.1 0 rfl rfl 0 (by decide) (hts _ q161) (fun _ h9 => h9) rfl dX0_count_97 ?_
        have hf := sm_e hf
        subst hf
        exact x_retI cx hw rfl () rfl [0, 1, 2, 3, 4, 5, 6, 7, 8] rfl rfl (Nat.le_of_ble_eq_true rfl) (Nat.le_of_ble_eq_true rfl) dX0_count_100
      · have hf := if_f hf n2
        by_cases n3 : p1 = 3
        · have hf := if_t hf n3
          refine lv_tableIn (tgt := 101) hx hb dX0_count_3 (by rw [n3]; decide) (by rw [n3]; decide) (by rw [n3]; rfl) (by decide) ?_
          refine lv_aload_n hx hb dX0_count_101 rfl (lv_at hl 1 rfl) ?_
          refine va_get (ci := 1) (C := RX0) (T := TX0) (N := 14) hx hb hts in_X0 hown hK hw.1 7 rfl rfl 4 (by decide) (hts _ q298) (fun _ h9 => h9) rfl dX0_count_102 ?_
          refine va_get (ci := 2) (C := RX1) (T := TX1) (N := 15) hx hb hts in_X1 hown hK hw.1 0 rfl rfl 12 (by decide) (hts _ q194) (fun _ h9 => h9) rfl dX0_count_105 ?_
          have hf := sm_e hf
          subst hf
          exact x_retI cx hw rfl () rfl [0, 1, 2, 3, 4, 5, 6, 7, 8] rfl rfl (Nat.le_of_ble_eq_true rfl) (Nat.le_of_ble_eq_true rfl) dX0_count_108
        · have hf := if_f hf n3
          by_cases n4 : p1 = 4
          · have hf := if_t hf n4
            refine lv_tableIn (tgt := 109) hx hb dX0_count_3 (by rw [n4]; decide) (by rw [n4]; decide) (by rw [n4]; rfl) (by decide) ?_
            refine lv_aload_n hx hb dX0_count_109 rfl (lv_at hl 1 rfl) ?_
            refine va_get (ci := 1) (C := RX0) (T := TX0) (N := 14) hx hb hts in_X0 hown hK hw.1 7 rfl rfl 4 (by decide) (hts _ q298) (fun _ h9 => h9) rfl dX0_count_110 ?_
            refine lv_iconst (v := 0) hx hb dX0_count_113 (by decide) ?_
            obtain ⟨q5, hcq5, hf⟩ := op_e hf
            refine x_VI (wr := [oS sa ha ta gt gf gc tra gs, ((sa 1), .inl (d 3, 8, .inr (.inr (.inr (.inr RW)))))]) (rest := []) [.int 0] hX cx hw hl.1 (vX1_areSo l  D d cs wi ln lf dk dn him ha hv 0  q5 hcq5) (lw_V q867 q788 q789 q83 q790) hd_X1_areSo ⟨(Nat.le_of_ble_eq_true rfl), (Nat.le_of_ble_eq_true rfl)⟩ (va_recv hK hw.1 (ci := 2) (q0 := 0) rfl rfl) rfl rfl (Nat.le_of_ble_eq_true rfl) dX0_count_114 [0, 1, 2, 3, 4, 5, 6] [7, 8] rfl rfl rfl rfl (by decide) ⟨(Nat.le_of_ble_eq_true rfl), (Nat.le_of_ble_eq_true rfl)⟩ (fun r u H locs hp hw => ?_)
            have hw : Wd D A s [oS sa ha ta gt gf gc tra gs, ((sa 1), .inl (d 3, 8, .inr (.inr (.inr (.inr RW))))), oH ha (Hfl hv) (Hro hv) (Hrp hv) (Hca hv) (Hwy hv) (Hla hv) (Hmi hv) (Htf hv) (Htk hv), aV d ha 1 (HHO hv), aV d ha 2 (HAT hv), aV d ha 3 (HTO hv), aV d ha 4 (HWE hv), aV d ha 5 (HHE hv), aV d ha 6 (HRA hv)] H locs := hw
            subst r
            obtain ⟨q6, hcq6, hf⟩ := op_e hf
            refine x_SI (wr := [oS sa ha ta gt gf gc tra gs, ((sa 1), .inl (d 3, 8, .inr (.inr (.inr (.inr RW))))), oH ha (Hfl hv) (Hro hv) (Hrp hv) (Hca hv) (Hwy hv) (Hla hv) (Hmi hv) (Htf hv) (Htk hv), aV d ha 1 (HHO hv), aV d ha 2 (HAT hv), aV d ha 3 (HTO hv), aV d ha 4 (HWE hv), aV d ha 5 (HHE hv), aV d ha 6 (HRA hv)]) (rest := []) [.int q5] hX cx hw hl.1 (mJ15_bitCount l (XI D cs wi) hX D d  q5  q6 hcq6) (lw_S q976 q792 q112 q793) hd_J15_bitCount ⟨(Nat.le_of_ble_eq_true rfl), (Nat.le_of_ble_eq_true rfl)⟩ rfl rfl (Nat.le_of_ble_eq_true rfl) dX0_count_117 [] [0, 1, 2, 3, 4, 5, 6, 7, 8] rfl rfl rfl rfl (by decide) ⟨(Nat.le_of_ble_eq_true rfl), (Nat.le_of_ble_eq_true rfl)⟩ (fun r u H locs hp hw => ?_)
            have hw : Wd D A s [oS sa ha ta gt gf gc tra gs, ((sa 1), .inl (d 3, 8, .inr (.inr (.inr (.inr RW))))), oH ha (Hfl hv) (Hro hv) (Hrp hv) (Hca hv) (Hwy hv) (Hla hv) (Hmi hv) (Htf hv) (Htk hv), aV d ha 1 (HHO hv), aV d ha 2 (HAT hv), aV d ha 3 (HTO hv), aV d ha 4 (HWE hv), aV d ha 5 (HHE hv), aV d ha 6 (HRA hv)] H locs := hw
            subst r
            have hf := sm_e hf
            subst hf
            exact x_retI cx hw rfl () rfl [2, 3, 4, 5, 6, 7, 8, 0, 1] rfl rfl (Nat.le_of_ble_eq_true rfl) (Nat.le_of_ble_eq_true rfl) dX0_count_120
          · have hf := if_f hf n4
            by_cases n5 : p1 = 5
            · have hf := if_t hf n5
              refine lv_tableIn (tgt := 121) hx hb dX0_count_3 (by rw [n5]; decide) (by rw [n5]; decide) (by rw [n5]; rfl) (by decide) ?_
              refine lv_aload_n hx hb dX0_count_121 rfl (lv_at hl 1 rfl) ?_
              refine va_get (ci := 1) (C := RX0) (T := TX0) (N := 14) hx hb hts in_X0 hown hK hw.1 7 rfl rfl 4 (by decide) (hts _ q298) (fun _ h9 => h9) rfl dX0_count_122 ?_
              refine lv_iconst (v := 2) hx hb dX0_count_125 (by decide) ?_
              obtain ⟨q7, hcq7, hf⟩ := op_e hf
              refine x_VI (wr := [oS sa ha ta gt gf gc tra gs, ((sa 1), .inl (d 3, 8, .inr (.inr (.inr (.inr RW)))))]) (rest := []) [.int 2] hX cx hw hl.1 (vX1_areSo l  D d cs wi ln lf dk dn him ha hv 2  q7 hcq7) (lw_V q867 q788 q789 q83 q790) hd_X1_areSo ⟨(Nat.le_of_ble_eq_true rfl), (Nat.le_of_ble_eq_true rfl)⟩ (va_recv hK hw.1 (ci := 2) (q0 := 0) rfl rfl) rfl rfl (Nat.le_of_ble_eq_true rfl) dX0_count_126 [0, 1, 2, 3, 4, 5, 6] [7, 8] rfl rfl rfl rfl (by decide) ⟨(Nat.le_of_ble_eq_true rfl), (Nat.le_of_ble_eq_true rfl)⟩ (fun r u H locs hp hw => ?_)
              have hw : Wd D A s [oS sa ha ta gt gf gc tra gs, ((sa 1), .inl (d 3, 8, .inr (.inr (.inr (.inr RW))))), oH ha (Hfl hv) (Hro hv) (Hrp hv) (Hca hv) (Hwy hv) (Hla hv) (Hmi hv) (Htf hv) (Htk hv), aV d ha 1 (HHO hv), aV d ha 2 (HAT hv), aV d ha 3 (HTO hv), aV d ha 4 (HWE hv), aV d ha 5 (HHE hv), aV d ha 6 (HRA hv)] H locs := hw
              subst r
              obtain ⟨q8, hcq8, hf⟩ := op_e hf
              refine x_SI (wr := [oS sa ha ta gt gf gc tra gs, ((sa 1), .inl (d 3, 8, .inr (.inr (.inr (.inr RW))))), oH ha (Hfl hv) (Hro hv) (Hrp hv) (Hca hv) (Hwy hv) (Hla hv) (Hmi hv) (Htf hv) (Htk hv), aV d ha 1 (HHO hv), aV d ha 2 (HAT hv), aV d ha 3 (HTO hv), aV d ha 4 (HWE hv), aV d ha 5 (HHE hv), aV d ha 6 (HRA hv)]) (rest := []) [.int q7] hX cx hw hl.1 (mJ15_bitCount l (XI D cs wi) hX D d  q7  q8 hcq8) (lw_S q976 q792 q112 q793) hd_J15_bitCount ⟨(Nat.le_of_ble_eq_true rfl), (Nat.le_of_ble_eq_true rfl)⟩ rfl rfl (Nat.le_of_ble_eq_true rfl) dX0_count_129 [] [0, 1, 2, 3, 4, 5, 6, 7, 8] rfl rfl rfl rfl (by decide) ⟨(Nat.le_of_ble_eq_true rfl), (Nat.le_of_ble_eq_true rfl)⟩ (fun r u H locs hp hw => ?_)
              have hw : Wd D A s [oS sa ha ta gt gf gc tra gs, ((sa 1), .inl (d 3, 8, .inr (.inr (.inr (.inr RW))))), oH ha (Hfl hv) (Hro hv) (Hrp hv) (Hca hv) (Hwy hv) (Hla hv) (Hmi hv) (Htf hv) (Htk hv), aV d ha 1 (HHO hv), aV d ha 2 (HAT hv), aV d ha 3 (HTO hv), aV d ha 4 (HWE hv), aV d ha 5 (HHE hv), aV d ha 6 (HRA hv)] H locs := hw
              subst r
              have hf := sm_e hf
              subst hf
              exact x_retI cx hw rfl () rfl [2, 3, 4, 5, 6, 7, 8, 0, 1] rfl rfl (Nat.le_of_ble_eq_true rfl) (Nat.le_of_ble_eq_true rfl) dX0_count_132
            · have hf := if_f hf n5
              by_cases n6 : p1 = 6
              · have hf := if_t hf n6
                refine lv_tableIn (tgt := 133) hx hb dX0_count_3 (by rw [n6]; decide) (by rw [n6]; decide) (by rw [n6]; rfl) (by decide) ?_
                refine lv_aload_n hx hb dX0_count_133 rfl (lv_at hl 1 rfl) ?_
                refine va_get (ci := 1) (C := RX0) (T := TX0) (N := 14) hx hb hts in_X0 hown hK hw.1 7 rfl rfl 4 (by decide) (hts _ q298) (fun _ h9 => h9) rfl dX0_count_134 ?_
                refine lv_iconst (v := 0) hx hb dX0_count_137 (by decide) ?_
                obtain ⟨q9, hcq9, hf⟩ := op_e hf
                refine x_VI (wr := [oS sa ha ta gt gf gc tra gs, ((sa 1), .inl (d 3, 8, .inr (.inr (.inr (.inr RW)))))]) (rest := []) [.int 0] hX cx hw hl.1 (vX1_heats l  D d cs wi ln lf dk dn him ha hv 0  q9 hcq9) (lw_V q1027 q1028 q1029 q83 q1030) hd_X1_heats ⟨(Nat.le_of_ble_eq_true rfl), (Nat.le_of_ble_eq_true rfl)⟩ (va_recv hK hw.1 (ci := 2) (q0 := 0) rfl rfl) rfl rfl (Nat.le_of_ble_eq_true rfl) dX0_count_138 [0, 1, 2, 3, 4, 5, 6] [7, 8] rfl rfl rfl rfl (by decide) ⟨(Nat.le_of_ble_eq_true rfl), (Nat.le_of_ble_eq_true rfl)⟩ (fun r u H locs hp hw => ?_)
                have hw : Wd D A s [oS sa ha ta gt gf gc tra gs, ((sa 1), .inl (d 3, 8, .inr (.inr (.inr (.inr RW))))), oH ha (Hfl hv) (Hro hv) (Hrp hv) (Hca hv) (Hwy hv) (Hla hv) (Hmi hv) (Htf hv) (Htk hv), aV d ha 1 (HHO hv), aV d ha 2 (HAT hv), aV d ha 3 (HTO hv), aV d ha 4 (HWE hv), aV d ha 5 (HHE hv), aV d ha 6 (HRA hv)] H locs := hw
                subst r
                have hf := sm_e hf
                subst hf
                exact x_retI cx hw rfl () rfl [2, 3, 4, 5, 6, 7, 8, 0, 1] rfl rfl (Nat.le_of_ble_eq_true rfl) (Nat.le_of_ble_eq_true rfl) dX0_count_141
              · have hf := if_f hf n6
                by_cases n7 : p1 = 7
                · have hf := if_t hf n7
                  refine lv_tableIn (tgt := 142) hx hb dX0_count_3 (by rw [n7]; decide) (by rw [n7]; decide) (by rw [n7]; rfl) (by decide) ?_
                  refine lv_aload_n hx hb dX0_count_142 rfl (lv_at hl 1 rfl) ?_
                  refine va_get (ci := 1) (C := RX0) (T := TX0) (N := 14) hx hb hts in_X0 hown hK hw.1 7 rfl rfl 7 (by decide) (hts _ q301) (fun _ h9 => h9) rfl dX0_count_143 ?_
                  have hf := sm_e hf
                  subst hf
                  exact x_retI cx hw rfl () rfl [0, 1, 2, 3, 4, 5, 6, 7, 8] rfl rfl (Nat.le_of_ble_eq_true rfl) (Nat.le_of_ble_eq_true rfl) dX0_count_146
                · have hf := if_f hf n7
                  by_cases n8 : p1 = 8
                  · have hf := if_t hf n8
                    refine lv_tableIn (tgt := 147) hx hb dX0_count_3 (by rw [n8]; decide) (by rw [n8]; decide) (by rw [n8]; rfl) (by decide) ?_
                    refine lv_aload_n hx hb dX0_count_147 rfl (lv_at hl 1 rfl) ?_
                    refine va_get (ci := 1) (C := RX0) (T := TX0) (N := 14) hx hb hts in_X0 hown hK hw.1 7 rfl rfl 2 (by decide) (hts _ q296) (fun _ h9 => h9) rfl dX0_count_148 ?_
                    have hf := sm_e hf
                    subst hf
                    exact x_retI cx hw rfl () rfl [0, 1, 2, 3, 4, 5, 6, 7, 8] rfl rfl (Nat.le_of_ble_eq_true rfl) (Nat.le_of_ble_eq_true rfl) dX0_count_151
                  · have hf := if_f hf n8
                    have t0 := lv_neT (a := 0) n0 (by decide)
                    have t1 := lv_neT (a := 1) n1 (by decide)
                    have t2 := lv_neT (a := 2) n2 (by decide)
                    have t3 := lv_neT (a := 3) n3 (by decide)
                    have t4 := lv_neT (a := 4) n4 (by decide)
                    have t5 := lv_neT (a := 5) n5 (by decide)
                    have t6 := lv_neT (a := 6) n6 (by decide)
                    have t7 := lv_neT (a := 7) n7 (by decide)
                    have t8 := lv_neT (a := 8) n8 (by decide)
                    refine lv_tableOut (tgt := 152) hx hb dX0_count_3 (by omega) (by decide) ?_
                    refine lv_ldc (v := (-1000001)) hx hb hown (hts _ q350) dX0_count_152 ?_
                    have hf := sm_e hf
                    subst hf
                    exact x_retI cx hw rfl () rfl [0, 1, 2, 3, 4, 5, 6, 7, 8] rfl rfl (Nat.le_of_ble_eq_true rfl) (Nat.le_of_ble_eq_true rfl) dX0_count_154
theorem hd_X0_ask : yX0_ask.cls = "DishLift" ∧ yX0_ask.cls ≠ "java/lang/invoke/MethodHandle" ∧ yX0_ask.cls ≠ "java/lang/invoke/VarHandle" ∧ (parseMethodDescriptor yX0_ask.desc).map (fun d => d.parameters.length) = some 2 := by decide +kernel
set_option maxHeartbeats 4000000 in
theorem mX0_ask (l : Launch) (D : va_G) (d : Nat → ClassId) (cs : Nat → Nat) (wi : va_W) (ln : Nat → Option Int32) (lf : Nat → Nat → Option Nat) (dk : Nat → Option Nat) (dn : Nat → Int32) (him : ImF d wi ln lf dk dn) (ha : Nat → Nat) (sa : Nat → Nat) (ta : Nat → Nat) (hv : HV) (gt : Int32) (gf : Int32) (gc : Int32) (tra : Nat) (gs : Int32) (p1 : Int32) (p2 : Int32)  (res : Int32 × Bool × Int32 × (Nat → Int32)) (hf : fX0_ask ln lf dk dn hv p1 p2 = some res) : MetI l yX0_ask (ws_ yX0_ask cX0_ask 4 (some .int)) { frames := 6, cells := 2, slots := 18, locals := 131 } [.ref (sa 0), .int p1, .int p2] (XI D cs wi) D d [oH ha (Hfl hv) (Hro hv) (Hrp hv) (Hca hv) (Hwy hv) (Hla hv) (Hmi hv) (Htf hv) (Htk hv), aV d ha 1 (HHO hv), aV d ha 2 (HAT hv), aV d ha 3 (HTO hv), aV d ha 4 (HWE hv), aV d ha 5 (HHE hv), aV d ha 6 (HRA hv), oS sa ha ta gt gf gc tra gs] (fun r (_ : Nat × Nat) => r = res.1) (fun (u : Nat × Nat) => match res.2.1 with | true => [oH ha (Hfl hv) (Hro hv) (Hrp hv) (Hca hv) (Hwy hv) (Hla hv) (Hmi hv) (Htf hv) (Htk hv), aV d ha 1 (HHO hv), aV d ha 2 (HAT hv), aV d ha 3 (HTO hv), aV d ha 4 (HWE hv), aV d ha 5 (HHE hv), aV d ha 6 (HRA hv), oS sa ha ta gt gf gc u.1 gs, (u.1, .inr (4, [.ref u.2, .int res.2.2.1])), (u.2, .inl (d 0, 16, .inl res.2.2.2))] | false => [oH ha (Hfl hv) (Hro hv) (Hrp hv) (Hca hv) (Hwy hv) (Hla hv) (Hmi hv) (Htf hv) (Htk hv), aV d ha 1 (HHO hv), aV d ha 2 (HAT hv), aV d ha 3 (HTO hv), aV d ha 4 (HWE hv), aV d ha 5 (HHE hv), aV d ha 6 (HRA hv), oS sa ha ta gt gf gc tra gs]) := by
  have hX := XI.ok (D := D) (cs := cs) (wi := wi)
  refine MetI.of (by decide +kernel) (Nat.le_of_ble_eq_true rfl) ?_
  intro p e s m below meth c A cx hw ls hl
  have cx : Cx p s m _ meth c (XI D cs wi) D d A "DishLift" cX0_ask 4 (some .int) "ask" := cx
  have cx' := cx
  obtain ⟨hx, hb, hr, hlk, hml, hown, hts, hK, hA, hXs, hnm⟩ := cx'
  have hl : lv_has ls 4 [(0, .ref (sa 0)), (1, .int p1), (2, .int p2)] := hl
  generalize hlo : ([] : List Loc) = locs at hw ⊢
  unfold fX0_ask at hf
  refine lv_aload_n hx hb dX0_ask_0 rfl (lv_at hl 0 rfl) ?_
  refine lv_iload_n hx hb dX0_ask_1 rfl (lv_at hl 1 rfl) ?_
  obtain ⟨q1, hcq1, hf⟩ := op_e hf
  refine x_VI (wr := []) (rest := []) [.int p1] hX cx hw hl.1 (mX0_isDish l  D d cs wi ln lf dk dn him ha sa ta hv gt gf gc tra gs p1  q1 hcq1) (lw_V q890 q892 qs23 q82 q893) hd_X0_isDish ⟨(Nat.le_of_ble_eq_true rfl), (Nat.le_of_ble_eq_true rfl)⟩ (va_recv hK hw.1 (ci := 1) (q0 := 7) rfl rfl) rfl rfl (Nat.le_of_ble_eq_true rfl) dX0_ask_2 [0, 1, 2, 3, 4, 5, 6, 7] [] rfl rfl rfl rfl (by decide) ⟨(Nat.le_of_ble_eq_true rfl), (Nat.le_of_ble_eq_true rfl)⟩ (fun r u H locs hp hw => ?_)
  have hw : Wd D A s [oH ha (Hfl hv) (Hro hv) (Hrp hv) (Hca hv) (Hwy hv) (Hla hv) (Hmi hv) (Htf hv) (Htk hv), aV d ha 1 (HHO hv), aV d ha 2 (HAT hv), aV d ha 3 (HTO hv), aV d ha 4 (HWE hv), aV d ha 5 (HHE hv), aV d ha 6 (HRA hv), oS sa ha ta gt gf gc tra gs] H locs := hw
  subst r
  refine lv_if_eq (tgt := 15) hx hb dX0_ask_5 (by decide) (fun c5 => ?_) (fun c5 => ?_)
  · have hf := if_t hf c5
    refine lv_ldc (v := (-1000001)) hx hb hown (hts _ q350) dX0_ask_15 ?_
    have hf := sm_e hf
    subst hf
    exact x_retI cx hw rfl (0, 0) rfl [0, 1, 2, 3, 4, 5, 6, 7] rfl rfl (Nat.le_of_ble_eq_true rfl) (Nat.le_of_ble_eq_true rfl) dX0_ask_17
  · have hf := if_f hf c5
    refine lv_iload_n hx hb dX0_ask_8 rfl (lv_at hl 2 rfl) ?_
    obtain ⟨q2, hcq2, hf⟩ := op_e hf
    refine x_SI (wr := [oH ha (Hfl hv) (Hro hv) (Hrp hv) (Hca hv) (Hwy hv) (Hla hv) (Hmi hv) (Htf hv) (Htk hv), aV d ha 1 (HHO hv), aV d ha 2 (HAT hv), aV d ha 3 (HTO hv), aV d ha 4 (HWE hv), aV d ha 5 (HHE hv), aV d ha 6 (HRA hv), oS sa ha ta gt gf gc tra gs]) (rest := []) [.int p2] hX cx hw hl.1 (mX0_isHalf l (XI D cs wi) hX D d  p2  q2 hcq2) (lw_S q973 q974 q82 q975) hd_X0_isHalf ⟨(Nat.le_of_ble_eq_true rfl), (Nat.le_of_ble_eq_true rfl)⟩ rfl rfl (Nat.le_of_ble_eq_true rfl) dX0_ask_9 [] [0, 1, 2, 3, 4, 5, 6, 7] rfl rfl rfl rfl (by decide) ⟨(Nat.le_of_ble_eq_true rfl), (Nat.le_of_ble_eq_true rfl)⟩ (fun r u H locs hp hw => ?_)
    have hw : Wd D A s [oH ha (Hfl hv) (Hro hv) (Hrp hv) (Hca hv) (Hwy hv) (Hla hv) (Hmi hv) (Htf hv) (Htk hv), aV d ha 1 (HHO hv), aV d ha 2 (HAT hv), aV d ha 3 (HTO hv), aV d ha 4 (HWE hv), aV d ha 5 (HHE hv), aV d ha 6 (HRA hv), oS sa ha ta gt gf gc tra gs] H locs := hw
    subst r
    refine lv_if_ne (tgt := 18) hx hb dX0_ask_12 (by decide) (fun c12 => ?_) (fun c12 => ?_)
    · have hf := if_f hf c12
      refine lv_aload_n hx hb dX0_ask_18 rfl (lv_at hl 0 rfl) ?_
      refine va_new (ci := 4) (fs := [.null, .int 0]) (C := RX2) (T := TX2) (N := 2) hx hb hts in_X2 tyX2 tyX2_ok hown (hts _ q232) (hts _ q233) (hts _ q87) hK hw.1 hw.2.1 hw.2.2 hA rfl (fun j hj => match j, hj with | 0, _ => rfl | 1, _ => rfl | j + 2, hj => absurd hj (by omega)) (Nat.le_of_ble_eq_true rfl) (Nat.le_of_ble_eq_true rfl) dX0_ask_19 (fun a3 H hP hD hS => ?_)
      have hw : Wd D A s [oH ha (Hfl hv) (Hro hv) (Hrp hv) (Hca hv) (Hwy hv) (Hla hv) (Hmi hv) (Htf hv) (Htk hv), aV d ha 1 (HHO hv), aV d ha 2 (HAT hv), aV d ha 3 (HTO hv), aV d ha 4 (HWE hv), aV d ha 5 (HHE hv), aV d ha 6 (HRA hv), oS sa ha ta gt gf gc tra gs, (a3, .inr (4, [.null, .int 0]))] H locs := ⟨hP, hD, hS⟩
      refine W.widen (k := 1) (n := 2) (Nat.le_of_ble_eq_true rfl) (Nat.le_of_ble_eq_true rfl) ?_
      refine lv_dup hx hb dX0_ask_22 rfl ?_
      refine x_NNV (wr := [oH ha (Hfl hv) (Hro hv) (Hrp hv) (Hca hv) (Hwy hv) (Hla hv) (Hmi hv) (Htf hv) (Htk hv), aV d ha 1 (HHO hv), aV d ha 2 (HAT hv), aV d ha 3 (HTO hv), aV d ha 4 (HWE hv), aV d ha 5 (HHE hv), aV d ha 6 (HRA hv), oS sa ha ta gt gf gc tra gs]) (rest := [.ref a3, .ref (sa 0)]) [] hX cx hw hl.1 (mX2_init l (XI D cs wi) hX D d a3 ) q236 q87 q234 q235 hXs.1 rfl hd_X2_init ⟨(Nat.le_of_ble_eq_true rfl), (Nat.le_of_ble_eq_true rfl)⟩ rfl rfl (Nat.le_of_ble_eq_true rfl) dX0_ask_23 [8] [0, 1, 2, 3, 4, 5, 6, 7] rfl rfl rfl rfl (by decide) ⟨(Nat.le_of_ble_eq_true rfl), (Nat.le_of_ble_eq_true rfl)⟩ (fun u H locs hp hw => ?_)
      obtain ⟨a4, rfl⟩ : ∃ z, z = u := ⟨_, rfl⟩
      have hw : Wd D A s [oH ha (Hfl hv) (Hro hv) (Hrp hv) (Hca hv) (Hwy hv) (Hla hv) (Hmi hv) (Htf hv) (Htk hv), aV d ha 1 (HHO hv), aV d ha 2 (HAT hv), aV d ha 3 (HTO hv), aV d ha 4 (HWE hv), aV d ha 5 (HHE hv), aV d ha 6 (HRA hv), oS sa ha ta gt gf gc tra gs, (a3, .inr (4, [.ref a4, .int 0])), (a4, .inl (d 0, 16, .inl (fun _ => 0)))] H locs := hw
      refine W.widen (k := 2) (n := 18) (Nat.le_of_ble_eq_true rfl) (Nat.le_of_ble_eq_true rfl) ?_
      refine va_put (ci := 1) (v := .ref a3) (ty := (.object "DishLift$Trail")) (C := RX0) (T := TX0) (N := 14) hx hb hts in_X0 tyX0 tyX0_ok nmX0 hown hK hw.1 hw.2.1 hw.2.2 7 rfl rfl 9 (by decide) (hts _ q303) (fun _ h9 => h9) rfl (by decide +kernel) rfl rfl (Nat.le_of_ble_eq_true rfl) dX0_ask_26 (fun H locs hP hD hS => ?_)
      have hw : Wd D A s [oH ha (Hfl hv) (Hro hv) (Hrp hv) (Hca hv) (Hwy hv) (Hla hv) (Hmi hv) (Htf hv) (Htk hv), aV d ha 1 (HHO hv), aV d ha 2 (HAT hv), aV d ha 3 (HTO hv), aV d ha 4 (HWE hv), aV d ha 5 (HHE hv), aV d ha 6 (HRA hv), oS sa ha ta gt gf gc a3 gs, (a3, .inr (4, [.ref a4, .int 0])), (a4, .inl (d 0, 16, .inl (fun _ => 0)))] H locs := ⟨hP, hD, hS⟩
      refine lv_aload_n hx hb dX0_ask_29 rfl (lv_at hl 0 rfl) ?_
      refine va_get (ci := 1) (C := RX0) (T := TX0) (N := 14) hx hb hts in_X0 hown hK hw.1 7 rfl rfl 4 (by decide) (hts _ q298) (fun _ h9 => h9) rfl dX0_ask_30 ?_
      refine va_get (ci := 2) (C := RX1) (T := TX1) (N := 15) hx hb hts in_X1 hown hK hw.1 0 rfl rfl 5 (by decide) (hts _ q174) (fun _ h9 => h9) rfl dX0_ask_33 ?_
      refine lv_iload_n hx hb dX0_ask_36 rfl (lv_at hl 1 rfl) ?_
      obtain ⟨e5, hrd, hf⟩ := op_e hf
      refine x_lget him hrd cx hw hl.1 q1098 ⟨(Nat.le_of_ble_eq_true rfl), (Nat.le_of_ble_eq_true rfl)⟩ (Nat.le_of_ble_eq_true rfl) ⟨(Nat.le_of_ble_eq_true rfl), (Nat.le_of_ble_eq_true rfl)⟩ dX0_ask_37 (fun H locs hw => ?_)
      obtain ⟨k6, hkd, hf⟩ := op_e hf
      refine x_cast him hkd cx hw (hts _ q247) dX0_ask_42 ?_
      refine lv_astore_n (lv' := [(3, .ref e5), (0, .ref (sa 0)), (1, .int p1), (2, .int p2)]) hx hb dX0_ask_45 rfl hl (by decide) rfl (fun ls hl => ?_)
      refine lv_iload_n hx hb dX0_ask_46 rfl (lv_at hl 3 rfl) ?_
      refine lv_if_ne (tgt := 65) hx hb dX0_ask_47 (by decide) (fun c47 => ?_) (fun c47 => ?_)
      · have hf := if_f hf c47
        refine lv_aload_n hx hb dX0_ask_65 rfl (lv_at hl 0 rfl) ?_
        refine lv_aload_n hx hb dX0_ask_66 rfl (lv_at hl 1 rfl) ?_
        refine va_get (ci := 1) (C := RX0) (T := TX0) (N := 14) hx hb hts in_X0 hown hK hw.1 7 rfl rfl 9 (by decide) (hts _ q303) (fun _ h9 => h9) rfl dX0_ask_67 ?_
        refine lv_aload_n hx hb dX0_ask_70 rfl (lv_at hl 1 rfl) ?_
        refine va_get (ci := 1) (C := RX0) (T := TX0) (N := 14) hx hb hts in_X0 hown hK hw.1 7 rfl rfl 4 (by decide) (hts _ q298) (fun _ h9 => h9) rfl dX0_ask_71 ?_
        by_cases n0 : k6 = 0
        · have hf := if_t hf n0
          have hk : dk e5 = some 0 := by rw [hkd, n0]
          obtain ⟨q12, hcq12, hf⟩ := op_e hf
          refine x_UIW (n := 2) (x := ⟨"DishLift$Dish", "mark", "(LDishLift$Trail;LDishLift$House;)I"⟩) (owner := "DishLift$Marked") (C := "DishLift$Hot") (wr := [oS sa ha ta gt gf gc a3 gs]) (rest := []) [.ref a3, .ref (ha 0)] hX cx hw hl.1 (mX4_mark_X4 l D d cs wi ln lf dk dn him ha a3 a4 16 hv 0 (fun _ => 0) e5 hk q12 hcq12) (cwD 2 hts q1178 q1179 q1226 q1167 q89 q1175 (Tb.dfl hXs.1).2.1 (Tb.dfl hXs.1).2.2.2.1 rfl rfl ⟨by decide, by decide⟩ (by decide +kernel) ⟨(Nat.le_of_ble_eq_true rfl), (Nat.le_of_ble_eq_true rfl)⟩) (dish_recv hXs hK hw (him.2 e5 0 hk).2 rfl) rfl rfl (Nat.le_of_ble_eq_true rfl) dX0_ask_74 [0, 1, 2, 3, 4, 5, 6, 8, 9] [7] rfl rfl rfl rfl (by decide) ⟨(Nat.le_of_ble_eq_true rfl), (Nat.le_of_ble_eq_true rfl)⟩ (fun r u H locs hp hw => ?_)
          have hw : Wd D A s [oS sa ha ta gt gf gc a3 gs, oH ha (Hfl hv) (Hro hv) (Hrp hv) (Hca hv) (Hwy hv) (Hla hv) (Hmi hv) (Htf hv) (Htk hv), aV d ha 1 (HHO hv), aV d ha 2 (HAT hv), aV d ha 3 (HTO hv), aV d ha 4 (HWE hv), aV d ha 5 (HHE hv), aV d ha 6 (HRA hv), (a3, .inr (4, [.ref a4, .int q12.2.1])), (a4, .inl (d 0, 16, .inl q12.2.2))] H locs := hw
          subst r
          have hf := sm_e hf
          subst hf
          exact x_retI cx hw rfl (a3, a4) rfl [1, 2, 3, 4, 5, 6, 7, 0, 8, 9] rfl rfl (Nat.le_of_ble_eq_true rfl) (Nat.le_of_ble_eq_true rfl) dX0_ask_77
        · have hf := if_f hf n0
          by_cases n1 : k6 = 1
          · have hf := if_t hf n1
            have hk : dk e5 = some 1 := by rw [hkd, n1]
            obtain ⟨q13, hcq13, hf⟩ := op_e hf
            refine x_UIW (n := 2) (x := ⟨"DishLift$Dish", "mark", "(LDishLift$Trail;LDishLift$House;)I"⟩) (owner := "DishLift$Marked") (C := "DishLift$Soup") (wr := [oS sa ha ta gt gf gc a3 gs]) (rest := []) [.ref a3, .ref (ha 0)] hX cx hw hl.1 (mX5_mark_X5 l D d cs wi ln lf dk dn him ha a3 a4 16 hv 0 (fun _ => 0) e5 hk q13 hcq13) (cwD 2 hts q1178 q1179 q1229 q1208 q90 q1209 (Tb.dfl hXs.1).2.1 (Tb.dfl hXs.1).2.2.2.1 rfl rfl ⟨by decide, by decide⟩ (by decide +kernel) ⟨(Nat.le_of_ble_eq_true rfl), (Nat.le_of_ble_eq_true rfl)⟩) (dish_recv hXs hK hw (him.2 e5 1 hk).2 rfl) rfl rfl (Nat.le_of_ble_eq_true rfl) dX0_ask_74 [0, 1, 2, 3, 4, 5, 6, 8, 9] [7] rfl rfl rfl rfl (by decide) ⟨(Nat.le_of_ble_eq_true rfl), (Nat.le_of_ble_eq_true rfl)⟩ (fun r u H locs hp hw => ?_)
            have hw : Wd D A s [oS sa ha ta gt gf gc a3 gs, oH ha (Hfl hv) (Hro hv) (Hrp hv) (Hca hv) (Hwy hv) (Hla hv) (Hmi hv) (Htf hv) (Htk hv), aV d ha 1 (HHO hv), aV d ha 2 (HAT hv), aV d ha 3 (HTO hv), aV d ha 4 (HWE hv), aV d ha 5 (HHE hv), aV d ha 6 (HRA hv), (a3, .inr (4, [.ref a4, .int q13.2.1])), (a4, .inl (d 0, 16, .inl q13.2.2))] H locs := hw
            subst r
            have hf := sm_e hf
            subst hf
            exact x_retI cx hw rfl (a3, a4) rfl [1, 2, 3, 4, 5, 6, 7, 0, 8, 9] rfl rfl (Nat.le_of_ble_eq_true rfl) (Nat.le_of_ble_eq_true rfl) dX0_ask_77
          · have hf := if_f hf n1
            by_cases n2 : k6 = 2
            · have hf := if_t hf n2
              have hk : dk e5 = some 2 := by rw [hkd, n2]
              obtain ⟨q14, hcq14, hf⟩ := op_e hf
              refine x_UIW (n := 2) (x := ⟨"DishLift$Dish", "mark", "(LDishLift$Trail;LDishLift$House;)I"⟩) (owner := "DishLift$Marked") (C := "DishLift$Roast") (wr := [oS sa ha ta gt gf gc a3 gs]) (rest := []) [.ref a3, .ref (ha 0)] hX cx hw hl.1 (mX6_mark_X6 l D d cs wi ln lf dk dn him ha a3 a4 16 hv 0 (fun _ => 0) e5 hk q14 hcq14) (cwD 2 hts q1178 q1179 q1228 q1171 q91 q1172 (Tb.dfl hXs.1).2.1 (Tb.dfl hXs.1).2.2.2.1 rfl rfl ⟨by decide, by decide⟩ (by decide +kernel) ⟨(Nat.le_of_ble_eq_true rfl), (Nat.le_of_ble_eq_true rfl)⟩) (dish_recv hXs hK hw (him.2 e5 2 hk).2 rfl) rfl rfl (Nat.le_of_ble_eq_true rfl) dX0_ask_74 [0, 1, 2, 3, 4, 5, 6, 8, 9] [7] rfl rfl rfl rfl (by decide) ⟨(Nat.le_of_ble_eq_true rfl), (Nat.le_of_ble_eq_true rfl)⟩ (fun r u H locs hp hw => ?_)
              have hw : Wd D A s [oS sa ha ta gt gf gc a3 gs, oH ha (Hfl hv) (Hro hv) (Hrp hv) (Hca hv) (Hwy hv) (Hla hv) (Hmi hv) (Htf hv) (Htk hv), aV d ha 1 (HHO hv), aV d ha 2 (HAT hv), aV d ha 3 (HTO hv), aV d ha 4 (HWE hv), aV d ha 5 (HHE hv), aV d ha 6 (HRA hv), (a3, .inr (4, [.ref a4, .int q14.2.1])), (a4, .inl (d 0, 16, .inl q14.2.2))] H locs := hw
              subst r
              have hf := sm_e hf
              subst hf
              exact x_retI cx hw rfl (a3, a4) rfl [1, 2, 3, 4, 5, 6, 7, 0, 8, 9] rfl rfl (Nat.le_of_ble_eq_true rfl) (Nat.le_of_ble_eq_true rfl) dX0_ask_77
            · have hf := if_f hf n2
              by_cases n3 : k6 = 3
              · have hf := if_t hf n3
                have hk : dk e5 = some 3 := by rw [hkd, n3]
                obtain ⟨q15, hcq15, hf⟩ := op_e hf
                refine x_UIW (n := 2) (x := ⟨"DishLift$Dish", "mark", "(LDishLift$Trail;LDishLift$House;)I"⟩) (owner := "DishLift$Marked") (C := "DishLift$Cold") (wr := [oS sa ha ta gt gf gc a3 gs]) (rest := []) [.ref a3, .ref (ha 0)] hX cx hw hl.1 (mX7_mark_X7 l D d cs wi ln lf dk dn him ha a3 a4 16 hv 0 (fun _ => 0) e5 hk q15 hcq15) (cwD 2 hts q1178 q1179 q1222 q1223 q92 q1224 (Tb.dfl hXs.1).2.1 (Tb.dfl hXs.1).2.2.2.1 rfl rfl ⟨by decide, by decide⟩ (by decide +kernel) ⟨(Nat.le_of_ble_eq_true rfl), (Nat.le_of_ble_eq_true rfl)⟩) (dish_recv hXs hK hw (him.2 e5 3 hk).2 rfl) rfl rfl (Nat.le_of_ble_eq_true rfl) dX0_ask_74 [0, 1, 2, 3, 4, 5, 6, 8, 9] [7] rfl rfl rfl rfl (by decide) ⟨(Nat.le_of_ble_eq_true rfl), (Nat.le_of_ble_eq_true rfl)⟩ (fun r u H locs hp hw => ?_)
                have hw : Wd D A s [oS sa ha ta gt gf gc a3 gs, oH ha (Hfl hv) (Hro hv) (Hrp hv) (Hca hv) (Hwy hv) (Hla hv) (Hmi hv) (Htf hv) (Htk hv), aV d ha 1 (HHO hv), aV d ha 2 (HAT hv), aV d ha 3 (HTO hv), aV d ha 4 (HWE hv), aV d ha 5 (HHE hv), aV d ha 6 (HRA hv), (a3, .inr (4, [.ref a4, .int q15.2.1])), (a4, .inl (d 0, 16, .inl q15.2.2))] H locs := hw
                subst r
                have hf := sm_e hf
                subst hf
                exact x_retI cx hw rfl (a3, a4) rfl [1, 2, 3, 4, 5, 6, 7, 0, 8, 9] rfl rfl (Nat.le_of_ble_eq_true rfl) (Nat.le_of_ble_eq_true rfl) dX0_ask_77
              · have hf := if_f hf n3
                by_cases n4 : k6 = 4
                · have hf := if_t hf n4
                  have hk : dk e5 = some 4 := by rw [hkd, n4]
                  obtain ⟨q16, hcq16, hf⟩ := op_e hf
                  refine x_UIW (n := 2) (x := ⟨"DishLift$Dish", "mark", "(LDishLift$Trail;LDishLift$House;)I"⟩) (owner := "DishLift$Marked") (C := "DishLift$Ice") (wr := [oS sa ha ta gt gf gc a3 gs]) (rest := []) [.ref a3, .ref (ha 0)] hX cx hw hl.1 (mX7_mark_X8 l D d cs wi ln lf dk dn him ha a3 a4 16 hv 0 (fun _ => 0) e5 hk q16 hcq16) (cwD 2 hts q1178 q1179 q1227 q1223 q92 q1224 (Tb.dfl hXs.1).2.1 (Tb.dfl hXs.1).2.2.2.1 rfl rfl ⟨by decide, by decide⟩ (by decide +kernel) ⟨(Nat.le_of_ble_eq_true rfl), (Nat.le_of_ble_eq_true rfl)⟩) (dish_recv hXs hK hw (him.2 e5 4 hk).2 rfl) rfl rfl (Nat.le_of_ble_eq_true rfl) dX0_ask_74 [0, 1, 2, 3, 4, 5, 6, 8, 9] [7] rfl rfl rfl rfl (by decide) ⟨(Nat.le_of_ble_eq_true rfl), (Nat.le_of_ble_eq_true rfl)⟩ (fun r u H locs hp hw => ?_)
                  have hw : Wd D A s [oS sa ha ta gt gf gc a3 gs, oH ha (Hfl hv) (Hro hv) (Hrp hv) (Hca hv) (Hwy hv) (Hla hv) (Hmi hv) (Htf hv) (Htk hv), aV d ha 1 (HHO hv), aV d ha 2 (HAT hv), aV d ha 3 (HTO hv), aV d ha 4 (HWE hv), aV d ha 5 (HHE hv), aV d ha 6 (HRA hv), (a3, .inr (4, [.ref a4, .int q16.2.1])), (a4, .inl (d 0, 16, .inl q16.2.2))] H locs := hw
                  subst r
                  have hf := sm_e hf
                  subst hf
                  exact x_retI cx hw rfl (a3, a4) rfl [1, 2, 3, 4, 5, 6, 7, 0, 8, 9] rfl rfl (Nat.le_of_ble_eq_true rfl) (Nat.le_of_ble_eq_true rfl) dX0_ask_77
                · have hf := if_f hf n4
                  cases hf
      · have hf := if_t hf c47
        refine lv_aload_n hx hb dX0_ask_50 rfl (lv_at hl 0 rfl) ?_
        refine lv_aload_n hx hb dX0_ask_51 rfl (lv_at hl 1 rfl) ?_
        refine va_get (ci := 1) (C := RX0) (T := TX0) (N := 14) hx hb hts in_X0 hown hK hw.1 7 rfl rfl 9 (by decide) (hts _ q303) (fun _ h9 => h9) rfl dX0_ask_52 ?_
        refine lv_aload_n hx hb dX0_ask_55 rfl (lv_at hl 1 rfl) ?_
        refine va_get (ci := 1) (C := RX0) (T := TX0) (N := 14) hx hb hts in_X0 hown hK hw.1 7 rfl rfl 4 (by decide) (hts _ q298) (fun _ h9 => h9) rfl dX0_ask_56 ?_
        by_cases n0 : k6 = 0
        · have hf := if_t hf n0
          have hk : dk e5 = some 0 := by rw [hkd, n0]
          obtain ⟨q7, hcq7, hf⟩ := op_e hf
          refine x_UIW (n := 2) (x := ⟨"DishLift$Dish", "size", "(LDishLift$Trail;LDishLift$House;)I"⟩) (owner := "DishLift$Dish") (C := "DishLift$Hot") (wr := [oS sa ha ta gt gf gc a3 gs]) (rest := []) [.ref a3, .ref (ha 0)] hX cx hw hl.1 (mX4_size_X4 l D d cs wi ln lf dk dn him ha a3 a4 16 hv 0 (fun _ => 0) e5 hk q7 hcq7) (va_cwO 2 hts (lw_O q1148 q1150 q1149 q1161 q1162 q89 q1163) rfl rfl rfl q1159 ⟨by decide, by decide, by decide +kernel⟩ ⟨(Nat.le_of_ble_eq_true rfl), (Nat.le_of_ble_eq_true rfl)⟩) (dish_recv hXs hK hw (him.2 e5 0 hk).2 rfl) rfl rfl (Nat.le_of_ble_eq_true rfl) dX0_ask_59 [0, 1, 2, 3, 4, 5, 6, 8, 9] [7] rfl rfl rfl rfl (by decide) ⟨(Nat.le_of_ble_eq_true rfl), (Nat.le_of_ble_eq_true rfl)⟩ (fun r u H locs hp hw => ?_)
          have hw : Wd D A s [oS sa ha ta gt gf gc a3 gs, oH ha (Hfl hv) (Hro hv) (Hrp hv) (Hca hv) (Hwy hv) (Hla hv) (Hmi hv) (Htf hv) (Htk hv), aV d ha 1 (HHO hv), aV d ha 2 (HAT hv), aV d ha 3 (HTO hv), aV d ha 4 (HWE hv), aV d ha 5 (HHE hv), aV d ha 6 (HRA hv), (a3, .inr (4, [.ref a4, .int q7.2.1])), (a4, .inl (d 0, 16, .inl q7.2.2))] H locs := hw
          subst r
          refine lv_goto (tgt := 77) hx hb dX0_ask_62 (by decide) ?_
          have hf := sm_e hf
          subst hf
          exact x_retI cx hw rfl (a3, a4) rfl [1, 2, 3, 4, 5, 6, 7, 0, 8, 9] rfl rfl (Nat.le_of_ble_eq_true rfl) (Nat.le_of_ble_eq_true rfl) dX0_ask_77
        · have hf := if_f hf n0
          by_cases n1 : k6 = 1
          · have hf := if_t hf n1
            have hk : dk e5 = some 1 := by rw [hkd, n1]
            obtain ⟨q8, hcq8, hf⟩ := op_e hf
            refine x_UIW (n := 2) (x := ⟨"DishLift$Dish", "size", "(LDishLift$Trail;LDishLift$House;)I"⟩) (owner := "DishLift$Dish") (C := "DishLift$Soup") (wr := [oS sa ha ta gt gf gc a3 gs]) (rest := []) [.ref a3, .ref (ha 0)] hX cx hw hl.1 (mX5_size_X5 l D d cs wi ln lf dk dn him ha a3 a4 16 hv 0 (fun _ => 0) e5 hk q8 hcq8) (va_cwO 2 hts (lw_O q1148 q1150 q1149 q1218 q1219 q90 q1220) rfl rfl rfl q1159 ⟨by decide, by decide, by decide +kernel⟩ ⟨(Nat.le_of_ble_eq_true rfl), (Nat.le_of_ble_eq_true rfl)⟩) (dish_recv hXs hK hw (him.2 e5 1 hk).2 rfl) rfl rfl (Nat.le_of_ble_eq_true rfl) dX0_ask_59 [0, 1, 2, 3, 4, 5, 6, 8, 9] [7] rfl rfl rfl rfl (by decide) ⟨(Nat.le_of_ble_eq_true rfl), (Nat.le_of_ble_eq_true rfl)⟩ (fun r u H locs hp hw => ?_)
            have hw : Wd D A s [oS sa ha ta gt gf gc a3 gs, oH ha (Hfl hv) (Hro hv) (Hrp hv) (Hca hv) (Hwy hv) (Hla hv) (Hmi hv) (Htf hv) (Htk hv), aV d ha 1 (HHO hv), aV d ha 2 (HAT hv), aV d ha 3 (HTO hv), aV d ha 4 (HWE hv), aV d ha 5 (HHE hv), aV d ha 6 (HRA hv), (a3, .inr (4, [.ref a4, .int q8.2.1])), (a4, .inl (d 0, 16, .inl q8.2.2))] H locs := hw
            subst r
            refine lv_goto (tgt := 77) hx hb dX0_ask_62 (by decide) ?_
            have hf := sm_e hf
            subst hf
            exact x_retI cx hw rfl (a3, a4) rfl [1, 2, 3, 4, 5, 6, 7, 0, 8, 9] rfl rfl (Nat.le_of_ble_eq_true rfl) (Nat.le_of_ble_eq_true rfl) dX0_ask_77
          · have hf := if_f hf n1
            by_cases n2 : k6 = 2
            · have hf := if_t hf n2
              have hk : dk e5 = some 2 := by rw [hkd, n2]
              obtain ⟨q9, hcq9, hf⟩ := op_e hf
              refine x_UIW (n := 2) (x := ⟨"DishLift$Dish", "size", "(LDishLift$Trail;LDishLift$House;)I"⟩) (owner := "DishLift$Dish") (C := "DishLift$Roast") (wr := [oS sa ha ta gt gf gc a3 gs]) (rest := []) [.ref a3, .ref (ha 0)] hX cx hw hl.1 (mX4_size_X6 l D d cs wi ln lf dk dn him ha a3 a4 16 hv 0 (fun _ => 0) e5 hk q9 hcq9) (va_cwO 2 hts (lw_O q1148 q1150 q1149 q1217 q1162 q89 q1163) rfl rfl rfl q1159 ⟨by decide, by decide, by decide +kernel⟩ ⟨(Nat.le_of_ble_eq_true rfl), (Nat.le_of_ble_eq_true rfl)⟩) (dish_recv hXs hK hw (him.2 e5 2 hk).2 rfl) rfl rfl (Nat.le_of_ble_eq_true rfl) dX0_ask_59 [0, 1, 2, 3, 4, 5, 6, 8, 9] [7] rfl rfl rfl rfl (by decide) ⟨(Nat.le_of_ble_eq_true rfl), (Nat.le_of_ble_eq_true rfl)⟩ (fun r u H locs hp hw => ?_)
              have hw : Wd D A s [oS sa ha ta gt gf gc a3 gs, oH ha (Hfl hv) (Hro hv) (Hrp hv) (Hca hv) (Hwy hv) (Hla hv) (Hmi hv) (Htf hv) (Htk hv), aV d ha 1 (HHO hv), aV d ha 2 (HAT hv), aV d ha 3 (HTO hv), aV d ha 4 (HWE hv), aV d ha 5 (HHE hv), aV d ha 6 (HRA hv), (a3, .inr (4, [.ref a4, .int q9.2.1])), (a4, .inl (d 0, 16, .inl q9.2.2))] H locs := hw
              subst r
              refine lv_goto (tgt := 77) hx hb dX0_ask_62 (by decide) ?_
              have hf := sm_e hf
              subst hf
              exact x_retI cx hw rfl (a3, a4) rfl [1, 2, 3, 4, 5, 6, 7, 0, 8, 9] rfl rfl (Nat.le_of_ble_eq_true rfl) (Nat.le_of_ble_eq_true rfl) dX0_ask_77
            · have hf := if_f hf n2
              by_cases n3 : k6 = 3
              · have hf := if_t hf n3
                have hk : dk e5 = some 3 := by rw [hkd, n3]
                obtain ⟨q10, hcq10, hf⟩ := op_e hf
                refine x_UIW (n := 2) (x := ⟨"DishLift$Dish", "size", "(LDishLift$Trail;LDishLift$House;)I"⟩) (owner := "DishLift$Dish") (C := "DishLift$Cold") (wr := [oS sa ha ta gt gf gc a3 gs]) (rest := []) [.ref a3, .ref (ha 0)] hX cx hw hl.1 (mX7_size_X7 l D d cs wi ln lf dk dn him ha a3 a4 16 hv 0 (fun _ => 0) e5 hk q10 hcq10) (va_cwO 2 hts (lw_O q1148 q1150 q1149 q1151 q1152 q92 q1153) rfl rfl rfl q1159 ⟨by decide, by decide, by decide +kernel⟩ ⟨(Nat.le_of_ble_eq_true rfl), (Nat.le_of_ble_eq_true rfl)⟩) (dish_recv hXs hK hw (him.2 e5 3 hk).2 rfl) rfl rfl (Nat.le_of_ble_eq_true rfl) dX0_ask_59 [0, 1, 2, 3, 4, 5, 6, 8, 9] [7] rfl rfl rfl rfl (by decide) ⟨(Nat.le_of_ble_eq_true rfl), (Nat.le_of_ble_eq_true rfl)⟩ (fun r u H locs hp hw => ?_)
                have hw : Wd D A s [oS sa ha ta gt gf gc a3 gs, oH ha (Hfl hv) (Hro hv) (Hrp hv) (Hca hv) (Hwy hv) (Hla hv) (Hmi hv) (Htf hv) (Htk hv), aV d ha 1 (HHO hv), aV d ha 2 (HAT hv), aV d ha 3 (HTO hv), aV d ha 4 (HWE hv), aV d ha 5 (HHE hv), aV d ha 6 (HRA hv), (a3, .inr (4, [.ref a4, .int q10.2.1])), (a4, .inl (d 0, 16, .inl q10.2.2))] H locs := hw
                subst r
                refine lv_goto (tgt := 77) hx hb dX0_ask_62 (by decide) ?_
                have hf := sm_e hf
                subst hf
                exact x_retI cx hw rfl (a3, a4) rfl [1, 2, 3, 4, 5, 6, 7, 0, 8, 9] rfl rfl (Nat.le_of_ble_eq_true rfl) (Nat.le_of_ble_eq_true rfl) dX0_ask_77
              · have hf := if_f hf n3
                by_cases n4 : k6 = 4
                · have hf := if_t hf n4
                  have hk : dk e5 = some 4 := by rw [hkd, n4]
                  obtain ⟨q11, hcq11, hf⟩ := op_e hf
                  refine x_UIW (n := 2) (x := ⟨"DishLift$Dish", "size", "(LDishLift$Trail;LDishLift$House;)I"⟩) (owner := "DishLift$Dish") (C := "DishLift$Ice") (wr := [oS sa ha ta gt gf gc a3 gs]) (rest := []) [.ref a3, .ref (ha 0)] hX cx hw hl.1 (mX8_size_X8 l D d cs wi ln lf dk dn him ha a3 a4 16 hv 0 (fun _ => 0) e5 hk q11 hcq11) (va_cwO 2 hts (lw_O q1148 q1150 q1149 q1212 q1213 q93 q1214) rfl rfl rfl q1159 ⟨by decide, by decide, by decide +kernel⟩ ⟨(Nat.le_of_ble_eq_true rfl), (Nat.le_of_ble_eq_true rfl)⟩) (dish_recv hXs hK hw (him.2 e5 4 hk).2 rfl) rfl rfl (Nat.le_of_ble_eq_true rfl) dX0_ask_59 [0, 1, 2, 3, 4, 5, 6, 8, 9] [7] rfl rfl rfl rfl (by decide) ⟨(Nat.le_of_ble_eq_true rfl), (Nat.le_of_ble_eq_true rfl)⟩ (fun r u H locs hp hw => ?_)
                  have hw : Wd D A s [oS sa ha ta gt gf gc a3 gs, oH ha (Hfl hv) (Hro hv) (Hrp hv) (Hca hv) (Hwy hv) (Hla hv) (Hmi hv) (Htf hv) (Htk hv), aV d ha 1 (HHO hv), aV d ha 2 (HAT hv), aV d ha 3 (HTO hv), aV d ha 4 (HWE hv), aV d ha 5 (HHE hv), aV d ha 6 (HRA hv), (a3, .inr (4, [.ref a4, .int q11.2.1])), (a4, .inl (d 0, 16, .inl q11.2.2))] H locs := hw
                  subst r
                  refine lv_goto (tgt := 77) hx hb dX0_ask_62 (by decide) ?_
                  have hf := sm_e hf
                  subst hf
                  exact x_retI cx hw rfl (a3, a4) rfl [1, 2, 3, 4, 5, 6, 7, 0, 8, 9] rfl rfl (Nat.le_of_ble_eq_true rfl) (Nat.le_of_ble_eq_true rfl) dX0_ask_77
                · have hf := if_f hf n4
                  cases hf
    · have hf := if_t hf c12
      refine lv_ldc (v := (-1000001)) hx hb hown (hts _ q350) dX0_ask_15 ?_
      have hf := sm_e hf
      subst hf
      exact x_retI cx hw rfl (0, 0) rfl [0, 1, 2, 3, 4, 5, 6, 7] rfl rfl (Nat.le_of_ble_eq_true rfl) (Nat.le_of_ble_eq_true rfl) dX0_ask_17
