set_option maxRecDepth 100000
def fX0_copy_0 (gs : Int32) (RW : Nat → Option Nat) (p1 : Int32) (p3 : Int32) : Option (Int32 × Int32) :=
  (fX0_isRow p1).bind fun q1 =>
  if q1 = 0 then
    some ((-1000001), gs)
  else
    (fX0_isRow p3).bind fun q2 =>
    if q2 = 0 then
      some ((-1000001), gs)
    else
      (fX0_rowAt RW p1).bind fun r4 =>
      match r4 with
      | .inr e6 => (fX0_found e6).bind fun q7 =>
      some (q7.1, q7.2)
      | .inl q5 =>
        (fX0_rowAt RW p3).bind fun r9 =>
        match r9 with
        | .inr e11 => (fX0_found e11).bind fun q12 =>
        some (q12.1, q12.2)
        | .inl q10 =>
          none
def fX0_copy_1 (ra : Nat) (rn : Nat) (gs : Int32) (RW : Nat → Option Nat) (rl : Int32) (RI : Nat → Int32) (p1 : Int32) (p2 : Int32) (p3 : Int32) (p4 : Int32) (p5 : Int32) : Option (Int32 × (Nat → Int32) × Int32) :=
  (fX0_isRow p1).bind fun q1 =>
  if q1 = 0 then
    some ((-1000001), RI, gs)
  else
    (fX0_isRow p3).bind fun q2 =>
    if q2 = 0 then
      some ((-1000001), RI, gs)
    else
      (fX0_rowAt RW p1).bind fun r4 =>
      match r4 with
      | .inr e6 => (fX0_found e6).bind fun q7 =>
      some (q7.1, RI, q7.2)
      | .inl q5 =>
        (eqa q5 ra).bind fun g8 =>
        (fX0_rowAt RW p3).bind fun r10 =>
        match r10 with
        | .inr e12 => (fX0_found e12).bind fun q13 =>
        some (q13.1, RI, q13.2)
        | .inl q11 =>
          (eqa q11 ra).bind fun g14 =>
          (if rl = rl then
            some 1
          else
            some 0 : Option (Int32)).bind fun j15 =>
          (fX0_must j15 5).bind fun r17 =>
          match r17 with
          | .inr e19 => (fX0_found e19).bind fun q20 =>
          some (q20.1, RI, q20.2)
          | .inl q18 =>
            (match acp RI rn p2 RI rn p4 p5 with
            | none =>
              (fX0_found 2).bind fun q24 =>
              some (q24.1, RI, q24.2)
            | some w21 =>
              (fX0_well p5).bind fun q25 =>
              some (q25.1, w21, q25.2))
def fX0_copy_2 (ra : Nat) (ua : Nat) (rn : Nat) (un : Nat) (gs : Int32) (RW : Nat → Option Nat) (rl : Int32) (ul : Int32) (RI : Nat → Int32) (UI : Nat → Int32) (p1 : Int32) (p2 : Int32) (p3 : Int32) (p4 : Int32) (p5 : Int32) : Option (Int32 × Int32 × (Nat → Int32)) :=
  (fX0_isRow p1).bind fun q1 =>
  if q1 = 0 then
    some ((-1000001), gs, UI)
  else
    (fX0_isRow p3).bind fun q2 =>
    if q2 = 0 then
      some ((-1000001), gs, UI)
    else
      (fX0_rowAt RW p1).bind fun r4 =>
      match r4 with
      | .inr e6 => (fX0_found e6).bind fun q7 =>
      some (q7.1, q7.2, UI)
      | .inl q5 =>
        (eqa q5 ra).bind fun g8 =>
        (fX0_rowAt RW p3).bind fun r10 =>
        match r10 with
        | .inr e12 => (fX0_found e12).bind fun q13 =>
        some (q13.1, q13.2, UI)
        | .inl q11 =>
          (eqa q11 ua).bind fun g14 =>
          (if rl = ul then
            some 1
          else
            some 0 : Option (Int32)).bind fun j15 =>
          (fX0_must j15 5).bind fun r17 =>
          match r17 with
          | .inr e19 => (fX0_found e19).bind fun q20 =>
          some (q20.1, q20.2, UI)
          | .inl q18 =>
            (match acp RI rn p2 UI un p4 p5 with
            | none =>
              (fX0_found 2).bind fun q24 =>
              some (q24.1, q24.2, UI)
            | some w21 =>
              (fX0_well p5).bind fun q25 =>
              some (q25.1, q25.2, w21))
theorem hd_X0_copy : yX0_copy.cls = "DishLift" ∧ yX0_copy.cls ≠ "java/lang/invoke/MethodHandle" ∧ yX0_copy.cls ≠ "java/lang/invoke/VarHandle" ∧ (parseMethodDescriptor yX0_copy.desc).map (fun d => d.parameters.length) = some 5 := by decide +kernel
set_option maxHeartbeats 4000000 in
theorem mX0_copy_0 (l : Launch) (D : va_G) (d : Nat → ClassId) (cs : Nat → Nat) (wi : va_W) (ln : Nat → Option Int32) (lf : Nat → Nat → Option Nat) (dk : Nat → Option Nat) (dn : Nat → Int32) (him : ImF d wi ln lf dk dn) (sa : Nat → Nat) (ha : Nat → Nat) (ta : Nat → Nat) (gt : Int32) (gf : Int32) (gc : Int32) (tra : Nat) (gs : Int32) (RW : Nat → Option Nat) (p1 : Int32) (p2 : Int32) (p3 : Int32) (p4 : Int32) (p5 : Int32) (hfl : l.stackTraces = false) (res : Int32 × Int32) (hf : fX0_copy_0 gs RW p1 p3 = some res) : MetI l yX0_copy (wsW_ yX0_copy cX0_copy 9 (some .int) [(53, 71, 74, 131), (17, 91, 92, 74)]) { frames := 6, cells := 5, slots := 475, locals := 151 } [.ref (sa 0), .int p1, .int p2, .int p3, .int p4, .int p5] (XE D cs wi) D d [oS sa ha ta gt gf gc tra gs, ((sa 1), .inl (d 3, 8, .inr (.inr (.inr (.inr RW)))))] (fun r (_ : Unit) => r = res.1) (fun _ => [oS sa ha ta gt gf gc tra res.2, ((sa 1), .inl (d 3, 8, .inr (.inr (.inr (.inr RW)))))]) := by
  have hX := XI.ok (D := D) (cs := cs) (wi := wi)
  refine MetI.ofH (by decide +kernel) (Nat.le_of_ble_eq_true rfl) ?_
  intro p e s m below meth c A cx hET hw ls hl
  obtain ⟨c1, c2, c3, c4, c5, c6, c7, c8, c9, c10, c11⟩ := cx
  have hE := c10.2
  have cx : Cx p s m _ meth c (XI D cs wi) D d A "DishLift" cX0_copy 9 (some .int) "copy" := ⟨c1, c2, c3, c4, c5, c6, c7, c8, c9, c10.1, c11⟩
  have cx : Cx p s m _ meth c (XI D cs wi) D d A "DishLift" cX0_copy 9 (some .int) "copy" := cx
  have cx' := cx
  obtain ⟨hx, hb, hr, hlk, hml, hown, hts, hK, hA, hXs, hnm⟩ := cx'
  have hl : lv_has ls 9 [(0, .ref (sa 0)), (1, .int p1), (2, .int p2), (3, .int p3), (4, .int p4), (5, .int p5)] := hl
  generalize hlo : ([] : List Loc) = locs at hw ⊢
  unfold fX0_copy_0 at hf
  refine lv_iload_n hx hb dX0_copy_0 rfl (lv_at hl 1 rfl) ?_
  obtain ⟨q1, hcq1, hf⟩ := op_e hf
  refine x_SI (wr := [oS sa ha ta gt gf gc tra gs, ((sa 1), .inl (d 3, 8, .inr (.inr (.inr (.inr RW)))))]) (rest := []) [.int p1] hX cx hw hl.1 (mX0_isRow l (XI D cs wi) hX D d  p1  q1 hcq1) (lw_S q342 q343 q82 q344) hd_X0_isRow ⟨(Nat.le_of_ble_eq_true rfl), (Nat.le_of_ble_eq_true rfl)⟩ rfl rfl (Nat.le_of_ble_eq_true rfl) dX0_copy_1 [] [0, 1] rfl rfl rfl rfl (by decide) ⟨(Nat.le_of_ble_eq_true rfl), (Nat.le_of_ble_eq_true rfl)⟩ (fun r u H locs hp hw => ?_)
  have hw : Wd D A s [oS sa ha ta gt gf gc tra gs, ((sa 1), .inl (d 3, 8, .inr (.inr (.inr (.inr RW)))))] H locs := hw
  subst r
  refine lv_if_eq (tgt := 14) hx hb dX0_copy_4 (by decide) (fun c4 => ?_) (fun c4 => ?_)
  · have hf := if_t hf c4
    refine lv_ldc (v := (-1000001)) hx hb hown (hts _ q350) dX0_copy_14 ?_
    have hf := sm_e hf
    subst hf
    exact x_retI cx hw rfl () rfl [0, 1] rfl rfl (Nat.le_of_ble_eq_true rfl) (Nat.le_of_ble_eq_true rfl) dX0_copy_16
  · have hf := if_f hf c4
    refine lv_iload_n hx hb dX0_copy_7 rfl (lv_at hl 3 rfl) ?_
    obtain ⟨q2, hcq2, hf⟩ := op_e hf
    refine x_SI (wr := [oS sa ha ta gt gf gc tra gs, ((sa 1), .inl (d 3, 8, .inr (.inr (.inr (.inr RW)))))]) (rest := []) [.int p3] hX cx hw hl.1 (mX0_isRow l (XI D cs wi) hX D d  p3  q2 hcq2) (lw_S q342 q343 q82 q344) hd_X0_isRow ⟨(Nat.le_of_ble_eq_true rfl), (Nat.le_of_ble_eq_true rfl)⟩ rfl rfl (Nat.le_of_ble_eq_true rfl) dX0_copy_8 [] [0, 1] rfl rfl rfl rfl (by decide) ⟨(Nat.le_of_ble_eq_true rfl), (Nat.le_of_ble_eq_true rfl)⟩ (fun r u H locs hp hw => ?_)
    have hw : Wd D A s [oS sa ha ta gt gf gc tra gs, ((sa 1), .inl (d 3, 8, .inr (.inr (.inr (.inr RW)))))] H locs := hw
    subst r
    refine lv_if_ne (tgt := 17) hx hb dX0_copy_11 (by decide) (fun c11 => ?_) (fun c11 => ?_)
    · have hf := if_f hf c11
      refine lv_aload_n hx hb dX0_copy_17 rfl (lv_at hl 0 rfl) ?_
      refine lv_iload_n hx hb dX0_copy_18 rfl (lv_at hl 1 rfl) ?_
      obtain ⟨r4, hcr4, hf⟩ := op_e hf
      rcases r4 with q5 | e6
      · refine x_VA (wr := []) (rest := []) [.int p1] hX cx hw hl.1 (mX0_rowAt l D d cs wi ln lf dk dn him sa ha ta gt gf gc tra gs RW p1  q5 hcr4) (lw_V q446 q448 qs3 q82 q449) hd_X0_rowAt ⟨(Nat.le_of_ble_eq_true rfl), (Nat.le_of_ble_eq_true rfl)⟩ (va_recv hK hw.1 (ci := 1) (q0 := 0) rfl rfl) rfl rfl (Nat.le_of_ble_eq_true rfl) dX0_copy_19 [0, 1] [] rfl rfl rfl rfl (by decide) ⟨(Nat.le_of_ble_eq_true rfl), (Nat.le_of_ble_eq_true rfl)⟩ (fun u H locs hp hw => ?_)
        have hw : Wd D A s [oS sa ha ta gt gf gc tra gs, ((sa 1), .inl (d 3, 8, .inr (.inr (.inr (.inr RW)))))] H locs := hw
        refine lv_astore (lv' := [(6, .ref q5), (0, .ref (sa 0)), (1, .int p1), (2, .int p2), (3, .int p3), (4, .int p4), (5, .int p5)]) hx hb dX0_copy_22 hl (by decide) rfl (fun ls hl => ?_)
        refine lv_aload_n hx hb dX0_copy_24 rfl (lv_at hl 1 rfl) ?_
        refine lv_iload_n hx hb dX0_copy_25 rfl (lv_at hl 4 rfl) ?_
        obtain ⟨r9, hcr9, hf⟩ := op_e hf
        rcases r9 with q10 | e11
        · refine x_VA (wr := []) (rest := []) [.int p3] hX cx hw hl.1 (mX0_rowAt l D d cs wi ln lf dk dn him sa ha ta gt gf gc tra gs RW p3  q10 hcr9) (lw_V q446 q448 qs3 q82 q449) hd_X0_rowAt ⟨(Nat.le_of_ble_eq_true rfl), (Nat.le_of_ble_eq_true rfl)⟩ (va_recv hK hw.1 (ci := 1) (q0 := 0) rfl rfl) rfl rfl (Nat.le_of_ble_eq_true rfl) dX0_copy_26 [0, 1] [] rfl rfl rfl rfl (by decide) ⟨(Nat.le_of_ble_eq_true rfl), (Nat.le_of_ble_eq_true rfl)⟩ (fun u H locs hp hw => ?_)
          have hw : Wd D A s [oS sa ha ta gt gf gc tra gs, ((sa 1), .inl (d 3, 8, .inr (.inr (.inr (.inr RW)))))] H locs := hw
          refine lv_astore (lv' := [(7, .ref q10), (6, .ref q5), (0, .ref (sa 0)), (1, .int p1), (2, .int p2), (3, .int p3), (4, .int p4), (5, .int p5)]) hx hb dX0_copy_29 hl (by decide) rfl (fun ls hl => ?_)
          refine lv_aload hx hb dX0_copy_31 (lv_at hl 1 rfl) ?_
          cases hf
        · refine x_TV (wr := []) (rest := []) [.int p3] hX cx hw hl.1 (tX0_rowAt l D d cs wi ln lf dk dn him sa ha ta gt gf gc tra gs RW p3  e11 hcr9) (lw_V q446 q448 qs3 q82 q449) hd_X0_rowAt ⟨(Nat.le_of_ble_eq_true rfl), (Nat.le_of_ble_eq_true rfl)⟩ (va_recv hK hw.1 (ci := 1) (q0 := 0) rfl rfl) rfl rfl (Nat.le_of_ble_eq_true rfl) dX0_copy_26 [0, 1] [] rfl rfl rfl rfl (by decide) ⟨(Nat.le_of_ble_eq_true rfl), (Nat.le_of_ble_eq_true rfl)⟩ (fun a8 ce u H locs hw g1 g2 g3 => ?_)
          have hw : Wd D A s [oS sa ha ta gt gf gc tra gs, ((sa 1), .inl (d 3, 8, .inr (.inr (.inr (.inr RW))))), (a8, .inr (12, [.null, .null, .null, .null, .null, .int 0, .int e11]))] H locs := hw
          refine vx_catch (E := "DishLift$Finding") (ce := ce) hown [⟨53, 71, 74, 131⟩] ⟨17, 91, 92, 74⟩ [] hET (fun z hz => Or.inl (by rcases List.mem_singleton.mp hz with rfl; rfl)) rfl (by decide) (hts _ q341) (va_tabs rfl rfl (Tb.cast q355 hXs.1)) g1 g2 g3 ?_
          refine W.eq (g2 := F0 m 92 ls [.ref a8]) rfl ?_
          refine W.widen (k := 1) (n := 7) (Nat.le_of_ble_eq_true rfl) (Nat.le_of_ble_eq_true rfl) ?_
          refine lv_astore (lv' := [(6, .ref a8), (0, .ref (sa 0)), (1, .int p1), (2, .int p2), (3, .int p3), (4, .int p4), (5, .int p5)]) hx hb dX0_copy_92 hl (by decide) rfl (fun ls hl => ?_)
          refine lv_aload_n hx hb dX0_copy_94 rfl (lv_at hl 1 rfl) ?_
          refine lv_aload hx hb dX0_copy_95 (lv_at hl 0 rfl) ?_
          obtain ⟨q12, hcq12, hf⟩ := op_e hf
          refine x_VI (wr := [((sa 1), .inl (d 3, 8, .inr (.inr (.inr (.inr RW)))))]) (rest := []) [.ref a8] hX cx hw hl.1 (mX0_found l  D d cs wi ln lf dk dn him sa ha ta a8 gt gf gc tra gs e11  q12 hcq12) (lw_V q437 q439 qs2 q82 q440) hd_X0_found ⟨(Nat.le_of_ble_eq_true rfl), (Nat.le_of_ble_eq_true rfl)⟩ (va_recv hK hw.1 (ci := 1) (q0 := 0) rfl rfl) rfl rfl (Nat.le_of_ble_eq_true rfl) dX0_copy_97 [2, 0] [1] rfl rfl rfl rfl (by decide) ⟨(Nat.le_of_ble_eq_true rfl), (Nat.le_of_ble_eq_true rfl)⟩ (fun r u H locs hp hw => ?_)
          have hw : Wd D A s [((sa 1), .inl (d 3, 8, .inr (.inr (.inr (.inr RW))))), (a8, .inr (12, [.null, .null, .null, .null, .null, .int 0, .int e11])), oS sa ha ta gt gf gc tra q12.2] H locs := hw
          subst r
          have hf := sm_e hf
          subst hf
          exact x_retI cx hw rfl () rfl [2, 0] rfl rfl (Nat.le_of_ble_eq_true rfl) (Nat.le_of_ble_eq_true rfl) dX0_copy_100
      · refine x_TV (wr := []) (rest := []) [.int p1] hX cx hw hl.1 (tX0_rowAt l D d cs wi ln lf dk dn him sa ha ta gt gf gc tra gs RW p1  e6 hcr4) (lw_V q446 q448 qs3 q82 q449) hd_X0_rowAt ⟨(Nat.le_of_ble_eq_true rfl), (Nat.le_of_ble_eq_true rfl)⟩ (va_recv hK hw.1 (ci := 1) (q0 := 0) rfl rfl) rfl rfl (Nat.le_of_ble_eq_true rfl) dX0_copy_19 [0, 1] [] rfl rfl rfl rfl (by decide) ⟨(Nat.le_of_ble_eq_true rfl), (Nat.le_of_ble_eq_true rfl)⟩ (fun a3 ce u H locs hw g1 g2 g3 => ?_)
        have hw : Wd D A s [oS sa ha ta gt gf gc tra gs, ((sa 1), .inl (d 3, 8, .inr (.inr (.inr (.inr RW))))), (a3, .inr (12, [.null, .null, .null, .null, .null, .int 0, .int e6]))] H locs := hw
        refine vx_catch (E := "DishLift$Finding") (ce := ce) hown [⟨53, 71, 74, 131⟩] ⟨17, 91, 92, 74⟩ [] hET (fun z hz => Or.inl (by rcases List.mem_singleton.mp hz with rfl; rfl)) rfl (by decide) (hts _ q341) (va_tabs rfl rfl (Tb.cast q355 hXs.1)) g1 g2 g3 ?_
        refine W.eq (g2 := F0 m 92 ls [.ref a3]) rfl ?_
        refine W.widen (k := 1) (n := 7) (Nat.le_of_ble_eq_true rfl) (Nat.le_of_ble_eq_true rfl) ?_
        refine lv_astore (lv' := [(6, .ref a3), (0, .ref (sa 0)), (1, .int p1), (2, .int p2), (3, .int p3), (4, .int p4), (5, .int p5)]) hx hb dX0_copy_92 hl (by decide) rfl (fun ls hl => ?_)
        refine lv_aload_n hx hb dX0_copy_94 rfl (lv_at hl 1 rfl) ?_
        refine lv_aload hx hb dX0_copy_95 (lv_at hl 0 rfl) ?_
        obtain ⟨q7, hcq7, hf⟩ := op_e hf
        refine x_VI (wr := [((sa 1), .inl (d 3, 8, .inr (.inr (.inr (.inr RW)))))]) (rest := []) [.ref a3] hX cx hw hl.1 (mX0_found l  D d cs wi ln lf dk dn him sa ha ta a3 gt gf gc tra gs e6  q7 hcq7) (lw_V q437 q439 qs2 q82 q440) hd_X0_found ⟨(Nat.le_of_ble_eq_true rfl), (Nat.le_of_ble_eq_true rfl)⟩ (va_recv hK hw.1 (ci := 1) (q0 := 0) rfl rfl) rfl rfl (Nat.le_of_ble_eq_true rfl) dX0_copy_97 [2, 0] [1] rfl rfl rfl rfl (by decide) ⟨(Nat.le_of_ble_eq_true rfl), (Nat.le_of_ble_eq_true rfl)⟩ (fun r u H locs hp hw => ?_)
        have hw : Wd D A s [((sa 1), .inl (d 3, 8, .inr (.inr (.inr (.inr RW))))), (a3, .inr (12, [.null, .null, .null, .null, .null, .int 0, .int e6])), oS sa ha ta gt gf gc tra q7.2] H locs := hw
        subst r
        have hf := sm_e hf
        subst hf
        exact x_retI cx hw rfl () rfl [2, 0] rfl rfl (Nat.le_of_ble_eq_true rfl) (Nat.le_of_ble_eq_true rfl) dX0_copy_100
    · have hf := if_t hf c11
      refine lv_ldc (v := (-1000001)) hx hb hown (hts _ q350) dX0_copy_14 ?_
      have hf := sm_e hf
      subst hf
      exact x_retI cx hw rfl () rfl [0, 1] rfl rfl (Nat.le_of_ble_eq_true rfl) (Nat.le_of_ble_eq_true rfl) dX0_copy_16
set_option maxHeartbeats 4000000 in
theorem mX0_copy_1 (l : Launch) (D : va_G) (d : Nat → ClassId) (cs : Nat → Nat) (wi : va_W) (ln : Nat → Option Int32) (lf : Nat → Nat → Option Nat) (dk : Nat → Option Nat) (dn : Nat → Int32) (him : ImF d wi ln lf dk dn) (sa : Nat → Nat) (ha : Nat → Nat) (ta : Nat → Nat) (ra : Nat) (ria : Nat) (rn : Nat) (gt : Int32) (gf : Int32) (gc : Int32) (tra : Nat) (gs : Int32) (RW : Nat → Option Nat) (rl : Int32) (RI : Nat → Int32) (p1 : Int32) (p2 : Int32) (p3 : Int32) (p4 : Int32) (p5 : Int32) (hfl : l.stackTraces = false) (hrn : rn ≤ 40) (res : Int32 × (Nat → Int32) × Int32) (hf : fX0_copy_1 ra rn gs RW rl RI p1 p2 p3 p4 p5 = some res) : MetI l yX0_copy (wsW_ yX0_copy cX0_copy 9 (some .int) [(53, 71, 74, 131), (17, 91, 92, 74)]) { frames := 9, cells := 5, slots := 475, locals := 10300 } [.ref (sa 0), .int p1, .int p2, .int p3, .int p4, .int p5] (XE D cs wi) D d [(ra, .inr (10, [.int rl, .ref ria])), (ria, .inl (d 0, rn, .inl RI)), oS sa ha ta gt gf gc tra gs, ((sa 1), .inl (d 3, 8, .inr (.inr (.inr (.inr RW)))))] (fun r (_ : Unit) => r = res.1) (fun _ => [(ra, .inr (10, [.int rl, .ref ria])), (ria, .inl (d 0, rn, .inl res.2.1)), oS sa ha ta gt gf gc tra res.2.2, ((sa 1), .inl (d 3, 8, .inr (.inr (.inr (.inr RW)))))]) := by
  have hX := XI.ok (D := D) (cs := cs) (wi := wi)
  refine MetI.ofH (by decide +kernel) (Nat.le_of_ble_eq_true rfl) ?_
  intro p e s m below meth c A cx hET hw ls hl
  obtain ⟨c1, c2, c3, c4, c5, c6, c7, c8, c9, c10, c11⟩ := cx
  have hE := c10.2
  have cx : Cx p s m _ meth c (XI D cs wi) D d A "DishLift" cX0_copy 9 (some .int) "copy" := ⟨c1, c2, c3, c4, c5, c6, c7, c8, c9, c10.1, c11⟩
  have cx : Cx p s m _ meth c (XI D cs wi) D d A "DishLift" cX0_copy 9 (some .int) "copy" := cx
  have cx' := cx
  obtain ⟨hx, hb, hr, hlk, hml, hown, hts, hK, hA, hXs, hnm⟩ := cx'
  have hl : lv_has ls 9 [(0, .ref (sa 0)), (1, .int p1), (2, .int p2), (3, .int p3), (4, .int p4), (5, .int p5)] := hl
  generalize hlo : ([] : List Loc) = locs at hw ⊢
  unfold fX0_copy_1 at hf
  refine lv_iload_n hx hb dX0_copy_0 rfl (lv_at hl 1 rfl) ?_
  obtain ⟨q1, hcq1, hf⟩ := op_e hf
  refine x_SI (wr := [(ra, .inr (10, [.int rl, .ref ria])), (ria, .inl (d 0, rn, .inl RI)), oS sa ha ta gt gf gc tra gs, ((sa 1), .inl (d 3, 8, .inr (.inr (.inr (.inr RW)))))]) (rest := []) [.int p1] hX cx hw hl.1 (mX0_isRow l (XI D cs wi) hX D d  p1  q1 hcq1) (lw_S q342 q343 q82 q344) hd_X0_isRow ⟨(Nat.le_of_ble_eq_true rfl), (Nat.le_of_ble_eq_true rfl)⟩ rfl rfl (Nat.le_of_ble_eq_true rfl) dX0_copy_1 [] [0, 1, 2, 3] rfl rfl rfl rfl (by decide) ⟨(Nat.le_of_ble_eq_true rfl), (Nat.le_of_ble_eq_true rfl)⟩ (fun r u H locs hp hw => ?_)
  have hw : Wd D A s [(ra, .inr (10, [.int rl, .ref ria])), (ria, .inl (d 0, rn, .inl RI)), oS sa ha ta gt gf gc tra gs, ((sa 1), .inl (d 3, 8, .inr (.inr (.inr (.inr RW)))))] H locs := hw
  subst r
  refine lv_if_eq (tgt := 14) hx hb dX0_copy_4 (by decide) (fun c4 => ?_) (fun c4 => ?_)
  · have hf := if_t hf c4
    refine lv_ldc (v := (-1000001)) hx hb hown (hts _ q350) dX0_copy_14 ?_
    have hf := sm_e hf
    subst hf
    exact x_retI cx hw rfl () rfl [0, 1, 2, 3] rfl rfl (Nat.le_of_ble_eq_true rfl) (Nat.le_of_ble_eq_true rfl) dX0_copy_16
  · have hf := if_f hf c4
    refine lv_iload_n hx hb dX0_copy_7 rfl (lv_at hl 3 rfl) ?_
    obtain ⟨q2, hcq2, hf⟩ := op_e hf
    refine x_SI (wr := [(ra, .inr (10, [.int rl, .ref ria])), (ria, .inl (d 0, rn, .inl RI)), oS sa ha ta gt gf gc tra gs, ((sa 1), .inl (d 3, 8, .inr (.inr (.inr (.inr RW)))))]) (rest := []) [.int p3] hX cx hw hl.1 (mX0_isRow l (XI D cs wi) hX D d  p3  q2 hcq2) (lw_S q342 q343 q82 q344) hd_X0_isRow ⟨(Nat.le_of_ble_eq_true rfl), (Nat.le_of_ble_eq_true rfl)⟩ rfl rfl (Nat.le_of_ble_eq_true rfl) dX0_copy_8 [] [0, 1, 2, 3] rfl rfl rfl rfl (by decide) ⟨(Nat.le_of_ble_eq_true rfl), (Nat.le_of_ble_eq_true rfl)⟩ (fun r u H locs hp hw => ?_)
    have hw : Wd D A s [(ra, .inr (10, [.int rl, .ref ria])), (ria, .inl (d 0, rn, .inl RI)), oS sa ha ta gt gf gc tra gs, ((sa 1), .inl (d 3, 8, .inr (.inr (.inr (.inr RW)))))] H locs := hw
    subst r
    refine lv_if_ne (tgt := 17) hx hb dX0_copy_11 (by decide) (fun c11 => ?_) (fun c11 => ?_)
    · have hf := if_f hf c11
      refine lv_aload_n hx hb dX0_copy_17 rfl (lv_at hl 0 rfl) ?_
      refine lv_iload_n hx hb dX0_copy_18 rfl (lv_at hl 1 rfl) ?_
      obtain ⟨r4, hcr4, hf⟩ := op_e hf
      rcases r4 with q5 | e6
      · refine x_VA (wr := [(ra, .inr (10, [.int rl, .ref ria])), (ria, .inl (d 0, rn, .inl RI))]) (rest := []) [.int p1] hX cx hw hl.1 (mX0_rowAt l D d cs wi ln lf dk dn him sa ha ta gt gf gc tra gs RW p1  q5 hcr4) (lw_V q446 q448 qs3 q82 q449) hd_X0_rowAt ⟨(Nat.le_of_ble_eq_true rfl), (Nat.le_of_ble_eq_true rfl)⟩ (va_recv hK hw.1 (ci := 1) (q0 := 2) rfl rfl) rfl rfl (Nat.le_of_ble_eq_true rfl) dX0_copy_19 [2, 3] [0, 1] rfl rfl rfl rfl (by decide) ⟨(Nat.le_of_ble_eq_true rfl), (Nat.le_of_ble_eq_true rfl)⟩ (fun u H locs hp hw => ?_)
        have hw : Wd D A s [(ra, .inr (10, [.int rl, .ref ria])), (ria, .inl (d 0, rn, .inl RI)), oS sa ha ta gt gf gc tra gs, ((sa 1), .inl (d 3, 8, .inr (.inr (.inr (.inr RW)))))] H locs := hw
        obtain ⟨g8, hgq, hf⟩ := op_e hf
        have hgq := eqa_spec hgq
        refine W.eq (g2 := F0 m 22 ls [.ref ra]) (by rw [hgq]) ?_
        refine lv_astore (lv' := [(6, .ref ra), (0, .ref (sa 0)), (1, .int p1), (2, .int p2), (3, .int p3), (4, .int p4), (5, .int p5)]) hx hb dX0_copy_22 hl (by decide) rfl (fun ls hl => ?_)
        refine lv_aload_n hx hb dX0_copy_24 rfl (lv_at hl 1 rfl) ?_
        refine lv_iload_n hx hb dX0_copy_25 rfl (lv_at hl 4 rfl) ?_
        obtain ⟨r10, hcr10, hf⟩ := op_e hf
        rcases r10 with q11 | e12
        · refine x_VA (wr := [(ra, .inr (10, [.int rl, .ref ria])), (ria, .inl (d 0, rn, .inl RI))]) (rest := []) [.int p3] hX cx hw hl.1 (mX0_rowAt l D d cs wi ln lf dk dn him sa ha ta gt gf gc tra gs RW p3  q11 hcr10) (lw_V q446 q448 qs3 q82 q449) hd_X0_rowAt ⟨(Nat.le_of_ble_eq_true rfl), (Nat.le_of_ble_eq_true rfl)⟩ (va_recv hK hw.1 (ci := 1) (q0 := 2) rfl rfl) rfl rfl (Nat.le_of_ble_eq_true rfl) dX0_copy_26 [2, 3] [0, 1] rfl rfl rfl rfl (by decide) ⟨(Nat.le_of_ble_eq_true rfl), (Nat.le_of_ble_eq_true rfl)⟩ (fun u H locs hp hw => ?_)
          have hw : Wd D A s [(ra, .inr (10, [.int rl, .ref ria])), (ria, .inl (d 0, rn, .inl RI)), oS sa ha ta gt gf gc tra gs, ((sa 1), .inl (d 3, 8, .inr (.inr (.inr (.inr RW)))))] H locs := hw
          obtain ⟨g14, hgq, hf⟩ := op_e hf
          have hgq := eqa_spec hgq
          refine W.eq (g2 := F0 m 29 ls [.ref ra]) (by rw [hgq]) ?_
          refine lv_astore (lv' := [(7, .ref ra), (6, .ref ra), (0, .ref (sa 0)), (1, .int p1), (2, .int p2), (3, .int p3), (4, .int p4), (5, .int p5)]) hx hb dX0_copy_29 hl (by decide) rfl (fun ls hl => ?_)
          refine lv_aload hx hb dX0_copy_31 (lv_at hl 1 rfl) ?_
          refine va_get (ci := 10) (C := RX11) (T := TX11) (N := 2) hx hb hts in_X11 hown hK hw.1 0 rfl rfl 0 (by decide) (hts _ q425) (fun _ h9 => h9) rfl dX0_copy_33 ?_
          refine lv_aload hx hb dX0_copy_36 (lv_at hl 0 rfl) ?_
          refine va_get (ci := 10) (C := RX11) (T := TX11) (N := 2) hx hb hts in_X11 hown hK hw.1 0 rfl rfl 0 (by decide) (hts _ q425) (fun _ h9 => h9) rfl dX0_copy_38 ?_
          obtain ⟨j15, hjA, hjR⟩ := op_e hf
          refine x_join (A := A) (D := D) (J := 49) (nL := 9) (cells' := 0) (slots' := 0) (st := [.int j15]) [(ra, .inr (10, [.int rl, .ref ria])), (ria, .inl (d 0, rn, .inl RI)), oS sa ha ta gt gf gc tra gs, ((sa 1), .inl (d 3, 8, .inr (.inr (.inr (.inr RW)))))] [(0, .ref (sa 0)), (2, .int p2), (4, .int p4), (5, .int p5), (6, .ref ra), (7, .ref ra)] (fun H locs ls hw hl => ?_) (fun hKj49_j15 => ?_)
          · have hf := hjR
            refine lv_iconst (v := 5) hx hb dX0_copy_49 (by decide) ?_
            obtain ⟨r17, hcr17, hf⟩ := op_e hf
            rcases r17 with q18 | e19
            · refine x_SV (wr := [(ra, .inr (10, [.int rl, .ref ria])), (ria, .inl (d 0, rn, .inl RI)), oS sa ha ta gt gf gc tra gs, ((sa 1), .inl (d 3, 8, .inr (.inr (.inr (.inr RW)))))]) (rest := []) [.int j15, .int 5] hX cx hw hl.1 (mX0_must l D d cs wi ln lf dk dn him j15 5  q18 hcr17) (lw_S q351 q352 q82 q353) hd_X0_must ⟨(Nat.le_of_ble_eq_true rfl), (Nat.le_of_ble_eq_true rfl)⟩ rfl rfl (Nat.le_of_ble_eq_true rfl) dX0_copy_50 [] [0, 1, 2, 3] rfl rfl rfl rfl (by decide) ⟨(Nat.le_of_ble_eq_true rfl), (Nat.le_of_ble_eq_true rfl)⟩ (fun u H locs hp hw => ?_)
              have hw : Wd D A s [(ra, .inr (10, [.int rl, .ref ria])), (ria, .inl (d 0, rn, .inl RI)), oS sa ha ta gt gf gc tra gs, ((sa 1), .inl (d 3, 8, .inr (.inr (.inr (.inr RW)))))] H locs := hw
              refine lv_aload hx hb dX0_copy_53 (lv_at hl 4 rfl) ?_
              refine va_get (ci := 10) (C := RX11) (T := TX11) (N := 2) hx hb hts in_X11 hown hK hw.1 0 rfl rfl 1 (by decide) (hts _ q427) (fun _ h9 => h9) rfl dX0_copy_55 ?_
              refine lv_iload_n hx hb dX0_copy_58 rfl (lv_at hl 1 rfl) ?_
              refine lv_aload hx hb dX0_copy_59 (lv_at hl 5 rfl) ?_
              refine va_get (ci := 10) (C := RX11) (T := TX11) (N := 2) hx hb hts in_X11 hown hK hw.1 0 rfl rfl 1 (by decide) (hts _ q427) (fun _ h9 => h9) rfl dX0_copy_61 ?_
              refine lv_iload hx hb dX0_copy_64 (lv_at hl 2 rfl) ?_
              refine lv_iload hx hb dX0_copy_66 (lv_at hl 3 rfl) ?_
              rcases hac : acp RI rn p2 RI rn p4 p5 with _ | w21
              · rw [hac] at hf
                refine x_acpx hfl hE cx hw hl.1 (q0 := 1) (q1 := 1) rfl rfl hrn hrn hac q492 (Nat.le_of_ble_eq_true rfl) (Nat.le_of_ble_eq_true rfl) (Nat.le_of_ble_eq_true rfl) (Nat.le_of_ble_eq_true rfl) dX0_copy_68 (fun H a22 ce hw g1 g2 g3 => ?_)
                refine vx_catch (E := "java/lang/ArrayIndexOutOfBoundsException") (ce := ce) hown [] ⟨53, 71, 74, 131⟩ [⟨17, 91, 92, 74⟩] hET (fun z hz => absurd hz List.not_mem_nil) rfl (by decide) (hts _ q458) (va_tabs rfl rfl (Tb.cast q1691 hXs.1)) g1 g2 g3 ?_
                refine W.eq (g2 := F0 m 74 ls [.ref a22]) rfl ?_
                refine W.widen (k := 3) (n := 454) (Nat.le_of_ble_eq_true rfl) (Nat.le_of_ble_eq_true rfl) ?_
                refine lv_astore (lv' := [(8, .ref a22), (0, .ref (sa 0)), (2, .int p2), (4, .int p4), (5, .int p5), (6, .ref ra), (7, .ref ra)]) hx hb dX0_copy_74 hl (by decide) rfl (fun ls hl => ?_)
                refine va_new (ci := 12) (fs := [.null, .null, .null, .null, .null, .int 0, .int 0]) (C := RX10) (T := TX10) (N := 7) hx hb hts in_X10 tyX10 tyX10_ok hown (hts _ q341) (hts _ q354) (hts _ q97) hK hw.1 hw.2.1 hw.2.2 hA rfl (fun j hj => match j, hj with | 0, _ => rfl | 1, _ => rfl | 2, _ => rfl | 3, _ => rfl | 4, _ => rfl | 5, _ => rfl | 6, _ => rfl | j + 7, hj => absurd hj (by omega)) (Nat.le_of_ble_eq_true rfl) (Nat.le_of_ble_eq_true rfl) dX0_copy_76 (fun a23 H hP hD hS => ?_)
                have hw : Wd D A s [(ra, .inr (10, [.int rl, .ref ria])), (ria, .inl (d 0, rn, .inl RI)), oS sa ha ta gt gf gc tra gs, ((sa 1), .inl (d 3, 8, .inr (.inr (.inr (.inr RW))))), (a23, .inr (12, [.null, .null, .null, .null, .null, .int 0, .int 0]))] H locs := ⟨hP, hD, hS⟩
                refine W.widen (k := 4) (n := 461) (Nat.le_of_ble_eq_true rfl) (Nat.le_of_ble_eq_true rfl) ?_
                refine lv_dup hx hb dX0_copy_79 rfl ?_
                refine lv_iconst (v := 2) hx hb dX0_copy_80 (by decide) ?_
                refine x_NV (wr := [(ra, .inr (10, [.int rl, .ref ria])), (ria, .inl (d 0, rn, .inl RI)), oS sa ha ta gt gf gc tra gs, ((sa 1), .inl (d 3, 8, .inr (.inr (.inr (.inr RW)))))]) (rest := [.ref a23]) [.int 2] hX cx hw hl.1 (mX10_init l cs wi D d a23 2 ) q395 q97 q393 q394 rfl hd_X10_init ⟨(Nat.le_of_ble_eq_true rfl), (Nat.le_of_ble_eq_true rfl)⟩ rfl rfl (Nat.le_of_ble_eq_true rfl) dX0_copy_81 [4] [0, 1, 2, 3] rfl rfl rfl rfl (by decide) ⟨(Nat.le_of_ble_eq_true rfl), (Nat.le_of_ble_eq_true rfl)⟩ (fun u H locs hp hw => ?_)
                have hw : Wd D A s [(ra, .inr (10, [.int rl, .ref ria])), (ria, .inl (d 0, rn, .inl RI)), oS sa ha ta gt gf gc tra gs, ((sa 1), .inl (d 3, 8, .inr (.inr (.inr (.inr RW))))), (a23, .inr (12, [.null, .null, .null, .null, .null, .int 0, .int 2]))] H locs := hw
                refine W.widen (k := 4) (n := 461) (Nat.le_of_ble_eq_true rfl) (Nat.le_of_ble_eq_true rfl) ?_
                refine vx_athrow hx hb dX0_copy_84 ?_
                obtain ⟨ce, g1, g2, g3⟩ := x_thrown cx hw (k := 4) rfl rfl
                refine vx_catch (E := "DishLift$Finding") (ce := ce) hown [⟨53, 71, 74, 131⟩] ⟨17, 91, 92, 74⟩ [] hET (fun z hz => Or.inl (by rcases List.mem_singleton.mp hz with rfl; rfl)) rfl (by decide) (hts _ q341) (va_tabs rfl rfl (Tb.cast q355 hXs.1)) g1 g2 g3 ?_
                refine W.eq (g2 := F0 m 92 ls [.ref a23]) rfl ?_
                refine lv_astore (lv' := [(6, .ref a23), (8, .ref a22), (0, .ref (sa 0)), (2, .int p2), (4, .int p4), (5, .int p5), (7, .ref ra)]) hx hb dX0_copy_92 hl (by decide) rfl (fun ls hl => ?_)
                refine lv_aload_n hx hb dX0_copy_94 rfl (lv_at hl 2 rfl) ?_
                refine lv_aload hx hb dX0_copy_95 (lv_at hl 0 rfl) ?_
                obtain ⟨q24, hcq24, hf⟩ := op_e hf
                refine x_VI (wr := [(ra, .inr (10, [.int rl, .ref ria])), (ria, .inl (d 0, rn, .inl RI)), ((sa 1), .inl (d 3, 8, .inr (.inr (.inr (.inr RW)))))]) (rest := []) [.ref a23] hX cx hw hl.1 (mX0_found l  D d cs wi ln lf dk dn him sa ha ta a23 gt gf gc tra gs 2  q24 hcq24) (lw_V q437 q439 qs2 q82 q440) hd_X0_found ⟨(Nat.le_of_ble_eq_true rfl), (Nat.le_of_ble_eq_true rfl)⟩ (va_recv hK hw.1 (ci := 1) (q0 := 2) rfl rfl) rfl rfl (Nat.le_of_ble_eq_true rfl) dX0_copy_97 [4, 2] [0, 1, 3] rfl rfl rfl rfl (by decide) ⟨(Nat.le_of_ble_eq_true rfl), (Nat.le_of_ble_eq_true rfl)⟩ (fun r u H locs hp hw => ?_)
                have hw : Wd D A s [(ra, .inr (10, [.int rl, .ref ria])), (ria, .inl (d 0, rn, .inl RI)), ((sa 1), .inl (d 3, 8, .inr (.inr (.inr (.inr RW))))), (a23, .inr (12, [.null, .null, .null, .null, .null, .int 0, .int 2])), oS sa ha ta gt gf gc tra q24.2] H locs := hw
                subst r
                have hf := sm_e hf
                subst hf
                exact x_retI cx hw rfl () rfl [0, 1, 4, 2] rfl rfl (Nat.le_of_ble_eq_true rfl) (Nat.le_of_ble_eq_true rfl) dX0_copy_100
              · rw [hac] at hf
                obtain ⟨ha1, ha2, ha3, ha4, ha5, haw⟩ := acp_spec hac
                refine va_copyi hx hb (hml.trans hl.1.symm) hown (hts _ q492) (hts _ q494) (hts _ q493) (hts _ q103) hK hw.1 hw.2.1 hw.2.2 1 1 0 0 rfl rfl rfl rfl rfl ha1 ha2 ha3 ha4 ha5 (fun _ _ => rfl) (Nat.le_of_ble_eq_true rfl) (Nat.le_of_ble_eq_true rfl) dX0_copy_68 (fun H locs hP hD hS => ?_)
                rw [haw] at hP hD
                have hw : Wd D A s [(ra, .inr (10, [.int rl, .ref ria])), (ria, .inl (d 0, rn, .inl w21)), oS sa ha ta gt gf gc tra gs, ((sa 1), .inl (d 3, 8, .inr (.inr (.inr (.inr RW)))))] H locs := ⟨hP, hD, hS⟩
                refine lv_goto (tgt := 85) hx hb dX0_copy_71 (by decide) ?_
                refine lv_aload_n hx hb dX0_copy_85 rfl (lv_at hl 0 rfl) ?_
                refine lv_iload hx hb dX0_copy_86 (lv_at hl 3 rfl) ?_
                obtain ⟨q25, hcq25, hf⟩ := op_e hf
                refine x_VI (wr := [(ra, .inr (10, [.int rl, .ref ria])), (ria, .inl (d 0, rn, .inl w21)), ((sa 1), .inl (d 3, 8, .inr (.inr (.inr (.inr RW)))))]) (rest := []) [.int p5] hX cx hw hl.1 (mX0_well l  D d cs wi ln lf dk dn him sa ha ta gt gf gc tra gs p5  q25 hcq25) (lw_V q433 q435 qs1 q82 q436) hd_X0_well ⟨(Nat.le_of_ble_eq_true rfl), (Nat.le_of_ble_eq_true rfl)⟩ (va_recv hK hw.1 (ci := 1) (q0 := 2) rfl rfl) rfl rfl (Nat.le_of_ble_eq_true rfl) dX0_copy_88 [2] [0, 1, 3] rfl rfl rfl rfl (by decide) ⟨(Nat.le_of_ble_eq_true rfl), (Nat.le_of_ble_eq_true rfl)⟩ (fun r u H locs hp hw => ?_)
                have hw : Wd D A s [(ra, .inr (10, [.int rl, .ref ria])), (ria, .inl (d 0, rn, .inl w21)), ((sa 1), .inl (d 3, 8, .inr (.inr (.inr (.inr RW))))), oS sa ha ta gt gf gc tra q25.2] H locs := hw
                subst r
                have hf := sm_e hf
                subst hf
                exact x_retI cx hw rfl () rfl [0, 1, 3, 2] rfl rfl (Nat.le_of_ble_eq_true rfl) (Nat.le_of_ble_eq_true rfl) dX0_copy_91
            · refine x_TS (wr := [(ra, .inr (10, [.int rl, .ref ria])), (ria, .inl (d 0, rn, .inl RI)), oS sa ha ta gt gf gc tra gs, ((sa 1), .inl (d 3, 8, .inr (.inr (.inr (.inr RW)))))]) (rest := []) [.int j15, .int 5] hX cx hw hl.1 (tX0_must l D d cs wi ln lf dk dn him j15 5  e19 hcr17) (lw_S q351 q352 q82 q353) hd_X0_must ⟨(Nat.le_of_ble_eq_true rfl), (Nat.le_of_ble_eq_true rfl)⟩ rfl rfl (Nat.le_of_ble_eq_true rfl) dX0_copy_50 [] [0, 1, 2, 3] rfl rfl rfl rfl (by decide) ⟨(Nat.le_of_ble_eq_true rfl), (Nat.le_of_ble_eq_true rfl)⟩ (fun a16 ce u H locs hw g1 g2 g3 => ?_)
              have hw : Wd D A s [(ra, .inr (10, [.int rl, .ref ria])), (ria, .inl (d 0, rn, .inl RI)), oS sa ha ta gt gf gc tra gs, ((sa 1), .inl (d 3, 8, .inr (.inr (.inr (.inr RW))))), (a16, .inr (12, [.null, .null, .null, .null, .null, .int 0, .int e19]))] H locs := hw
              refine vx_catch (E := "DishLift$Finding") (ce := ce) hown [⟨53, 71, 74, 131⟩] ⟨17, 91, 92, 74⟩ [] hET (fun z hz => Or.inl (by rcases List.mem_singleton.mp hz with rfl; rfl)) rfl (by decide) (hts _ q341) (va_tabs rfl rfl (Tb.cast q355 hXs.1)) g1 g2 g3 ?_
              refine W.eq (g2 := F0 m 92 ls [.ref a16]) rfl ?_
              refine W.widen (k := 1) (n := 7) (Nat.le_of_ble_eq_true rfl) (Nat.le_of_ble_eq_true rfl) ?_
              refine lv_astore (lv' := [(6, .ref a16), (0, .ref (sa 0)), (2, .int p2), (4, .int p4), (5, .int p5), (7, .ref ra)]) hx hb dX0_copy_92 hl (by decide) rfl (fun ls hl => ?_)
              refine lv_aload_n hx hb dX0_copy_94 rfl (lv_at hl 1 rfl) ?_
              refine lv_aload hx hb dX0_copy_95 (lv_at hl 0 rfl) ?_
              obtain ⟨q20, hcq20, hf⟩ := op_e hf
              refine x_VI (wr := [(ra, .inr (10, [.int rl, .ref ria])), (ria, .inl (d 0, rn, .inl RI)), ((sa 1), .inl (d 3, 8, .inr (.inr (.inr (.inr RW)))))]) (rest := []) [.ref a16] hX cx hw hl.1 (mX0_found l  D d cs wi ln lf dk dn him sa ha ta a16 gt gf gc tra gs e19  q20 hcq20) (lw_V q437 q439 qs2 q82 q440) hd_X0_found ⟨(Nat.le_of_ble_eq_true rfl), (Nat.le_of_ble_eq_true rfl)⟩ (va_recv hK hw.1 (ci := 1) (q0 := 2) rfl rfl) rfl rfl (Nat.le_of_ble_eq_true rfl) dX0_copy_97 [4, 2] [0, 1, 3] rfl rfl rfl rfl (by decide) ⟨(Nat.le_of_ble_eq_true rfl), (Nat.le_of_ble_eq_true rfl)⟩ (fun r u H locs hp hw => ?_)
              have hw : Wd D A s [(ra, .inr (10, [.int rl, .ref ria])), (ria, .inl (d 0, rn, .inl RI)), ((sa 1), .inl (d 3, 8, .inr (.inr (.inr (.inr RW))))), (a16, .inr (12, [.null, .null, .null, .null, .null, .int 0, .int e19])), oS sa ha ta gt gf gc tra q20.2] H locs := hw
              subst r
              have hf := sm_e hf
              subst hf
              exact x_retI cx hw rfl () rfl [0, 1, 4, 2] rfl rfl (Nat.le_of_ble_eq_true rfl) (Nat.le_of_ble_eq_true rfl) dX0_copy_100
          · have hf := hjA
            refine lv_icmp_ne (tgt := 48) hx hb dX0_copy_41 (by decide) (fun c41 => ?_) (fun c41 => ?_)
            · have hf := if_f hf c41
              refine lv_iconst (v := 0) hx hb dX0_copy_48 (by decide) ?_
              have hf := sm_e hf
              subst hf
              exact hKj49_j15 _ _ _ hw (lv_sub hl [2, 4, 6, 7, 1, 0] rfl)
            · have hf := if_t hf c41
              refine lv_iconst (v := 1) hx hb dX0_copy_44 (by decide) ?_
              refine lv_goto (tgt := 49) hx hb dX0_copy_45 (by decide) ?_
              have hf := sm_e hf
              subst hf
              exact hKj49_j15 _ _ _ hw (lv_sub hl [2, 4, 6, 7, 1, 0] rfl)
        · refine x_TV (wr := [(ra, .inr (10, [.int rl, .ref ria])), (ria, .inl (d 0, rn, .inl RI))]) (rest := []) [.int p3] hX cx hw hl.1 (tX0_rowAt l D d cs wi ln lf dk dn him sa ha ta gt gf gc tra gs RW p3  e12 hcr10) (lw_V q446 q448 qs3 q82 q449) hd_X0_rowAt ⟨(Nat.le_of_ble_eq_true rfl), (Nat.le_of_ble_eq_true rfl)⟩ (va_recv hK hw.1 (ci := 1) (q0 := 2) rfl rfl) rfl rfl (Nat.le_of_ble_eq_true rfl) dX0_copy_26 [2, 3] [0, 1] rfl rfl rfl rfl (by decide) ⟨(Nat.le_of_ble_eq_true rfl), (Nat.le_of_ble_eq_true rfl)⟩ (fun a9 ce u H locs hw g1 g2 g3 => ?_)
          have hw : Wd D A s [(ra, .inr (10, [.int rl, .ref ria])), (ria, .inl (d 0, rn, .inl RI)), oS sa ha ta gt gf gc tra gs, ((sa 1), .inl (d 3, 8, .inr (.inr (.inr (.inr RW))))), (a9, .inr (12, [.null, .null, .null, .null, .null, .int 0, .int e12]))] H locs := hw
          refine vx_catch (E := "DishLift$Finding") (ce := ce) hown [⟨53, 71, 74, 131⟩] ⟨17, 91, 92, 74⟩ [] hET (fun z hz => Or.inl (by rcases List.mem_singleton.mp hz with rfl; rfl)) rfl (by decide) (hts _ q341) (va_tabs rfl rfl (Tb.cast q355 hXs.1)) g1 g2 g3 ?_
          refine W.eq (g2 := F0 m 92 ls [.ref a9]) rfl ?_
          refine W.widen (k := 1) (n := 7) (Nat.le_of_ble_eq_true rfl) (Nat.le_of_ble_eq_true rfl) ?_
          refine lv_astore (lv' := [(6, .ref a9), (0, .ref (sa 0)), (1, .int p1), (2, .int p2), (3, .int p3), (4, .int p4), (5, .int p5)]) hx hb dX0_copy_92 hl (by decide) rfl (fun ls hl => ?_)
          refine lv_aload_n hx hb dX0_copy_94 rfl (lv_at hl 1 rfl) ?_
          refine lv_aload hx hb dX0_copy_95 (lv_at hl 0 rfl) ?_
          obtain ⟨q13, hcq13, hf⟩ := op_e hf
          refine x_VI (wr := [(ra, .inr (10, [.int rl, .ref ria])), (ria, .inl (d 0, rn, .inl RI)), ((sa 1), .inl (d 3, 8, .inr (.inr (.inr (.inr RW)))))]) (rest := []) [.ref a9] hX cx hw hl.1 (mX0_found l  D d cs wi ln lf dk dn him sa ha ta a9 gt gf gc tra gs e12  q13 hcq13) (lw_V q437 q439 qs2 q82 q440) hd_X0_found ⟨(Nat.le_of_ble_eq_true rfl), (Nat.le_of_ble_eq_true rfl)⟩ (va_recv hK hw.1 (ci := 1) (q0 := 2) rfl rfl) rfl rfl (Nat.le_of_ble_eq_true rfl) dX0_copy_97 [4, 2] [0, 1, 3] rfl rfl rfl rfl (by decide) ⟨(Nat.le_of_ble_eq_true rfl), (Nat.le_of_ble_eq_true rfl)⟩ (fun r u H locs hp hw => ?_)
          have hw : Wd D A s [(ra, .inr (10, [.int rl, .ref ria])), (ria, .inl (d 0, rn, .inl RI)), ((sa 1), .inl (d 3, 8, .inr (.inr (.inr (.inr RW))))), (a9, .inr (12, [.null, .null, .null, .null, .null, .int 0, .int e12])), oS sa ha ta gt gf gc tra q13.2] H locs := hw
          subst r
          have hf := sm_e hf
          subst hf
          exact x_retI cx hw rfl () rfl [0, 1, 4, 2] rfl rfl (Nat.le_of_ble_eq_true rfl) (Nat.le_of_ble_eq_true rfl) dX0_copy_100
      · refine x_TV (wr := [(ra, .inr (10, [.int rl, .ref ria])), (ria, .inl (d 0, rn, .inl RI))]) (rest := []) [.int p1] hX cx hw hl.1 (tX0_rowAt l D d cs wi ln lf dk dn him sa ha ta gt gf gc tra gs RW p1  e6 hcr4) (lw_V q446 q448 qs3 q82 q449) hd_X0_rowAt ⟨(Nat.le_of_ble_eq_true rfl), (Nat.le_of_ble_eq_true rfl)⟩ (va_recv hK hw.1 (ci := 1) (q0 := 2) rfl rfl) rfl rfl (Nat.le_of_ble_eq_true rfl) dX0_copy_19 [2, 3] [0, 1] rfl rfl rfl rfl (by decide) ⟨(Nat.le_of_ble_eq_true rfl), (Nat.le_of_ble_eq_true rfl)⟩ (fun a3 ce u H locs hw g1 g2 g3 => ?_)
        have hw : Wd D A s [(ra, .inr (10, [.int rl, .ref ria])), (ria, .inl (d 0, rn, .inl RI)), oS sa ha ta gt gf gc tra gs, ((sa 1), .inl (d 3, 8, .inr (.inr (.inr (.inr RW))))), (a3, .inr (12, [.null, .null, .null, .null, .null, .int 0, .int e6]))] H locs := hw
        refine vx_catch (E := "DishLift$Finding") (ce := ce) hown [⟨53, 71, 74, 131⟩] ⟨17, 91, 92, 74⟩ [] hET (fun z hz => Or.inl (by rcases List.mem_singleton.mp hz with rfl; rfl)) rfl (by decide) (hts _ q341) (va_tabs rfl rfl (Tb.cast q355 hXs.1)) g1 g2 g3 ?_
        refine W.eq (g2 := F0 m 92 ls [.ref a3]) rfl ?_
        refine W.widen (k := 1) (n := 7) (Nat.le_of_ble_eq_true rfl) (Nat.le_of_ble_eq_true rfl) ?_
        refine lv_astore (lv' := [(6, .ref a3), (0, .ref (sa 0)), (1, .int p1), (2, .int p2), (3, .int p3), (4, .int p4), (5, .int p5)]) hx hb dX0_copy_92 hl (by decide) rfl (fun ls hl => ?_)
        refine lv_aload_n hx hb dX0_copy_94 rfl (lv_at hl 1 rfl) ?_
        refine lv_aload hx hb dX0_copy_95 (lv_at hl 0 rfl) ?_
        obtain ⟨q7, hcq7, hf⟩ := op_e hf
        refine x_VI (wr := [(ra, .inr (10, [.int rl, .ref ria])), (ria, .inl (d 0, rn, .inl RI)), ((sa 1), .inl (d 3, 8, .inr (.inr (.inr (.inr RW)))))]) (rest := []) [.ref a3] hX cx hw hl.1 (mX0_found l  D d cs wi ln lf dk dn him sa ha ta a3 gt gf gc tra gs e6  q7 hcq7) (lw_V q437 q439 qs2 q82 q440) hd_X0_found ⟨(Nat.le_of_ble_eq_true rfl), (Nat.le_of_ble_eq_true rfl)⟩ (va_recv hK hw.1 (ci := 1) (q0 := 2) rfl rfl) rfl rfl (Nat.le_of_ble_eq_true rfl) dX0_copy_97 [4, 2] [0, 1, 3] rfl rfl rfl rfl (by decide) ⟨(Nat.le_of_ble_eq_true rfl), (Nat.le_of_ble_eq_true rfl)⟩ (fun r u H locs hp hw => ?_)
        have hw : Wd D A s [(ra, .inr (10, [.int rl, .ref ria])), (ria, .inl (d 0, rn, .inl RI)), ((sa 1), .inl (d 3, 8, .inr (.inr (.inr (.inr RW))))), (a3, .inr (12, [.null, .null, .null, .null, .null, .int 0, .int e6])), oS sa ha ta gt gf gc tra q7.2] H locs := hw
        subst r
        have hf := sm_e hf
        subst hf
        exact x_retI cx hw rfl () rfl [0, 1, 4, 2] rfl rfl (Nat.le_of_ble_eq_true rfl) (Nat.le_of_ble_eq_true rfl) dX0_copy_100
    · have hf := if_t hf c11
      refine lv_ldc (v := (-1000001)) hx hb hown (hts _ q350) dX0_copy_14 ?_
      have hf := sm_e hf
      subst hf
      exact x_retI cx hw rfl () rfl [0, 1, 2, 3] rfl rfl (Nat.le_of_ble_eq_true rfl) (Nat.le_of_ble_eq_true rfl) dX0_copy_16
set_option maxHeartbeats 4000000 in
theorem mX0_copy_2 (l : Launch) (D : va_G) (d : Nat → ClassId) (cs : Nat → Nat) (wi : va_W) (ln : Nat → Option Int32) (lf : Nat → Nat → Option Nat) (dk : Nat → Option Nat) (dn : Nat → Int32) (him : ImF d wi ln lf dk dn) (sa : Nat → Nat) (ha : Nat → Nat) (ta : Nat → Nat) (ra : Nat) (ua : Nat) (ria : Nat) (rn : Nat) (uia : Nat) (un : Nat) (gt : Int32) (gf : Int32) (gc : Int32) (tra : Nat) (gs : Int32) (RW : Nat → Option Nat) (rl : Int32) (ul : Int32) (RI : Nat → Int32) (UI : Nat → Int32) (p1 : Int32) (p2 : Int32) (p3 : Int32) (p4 : Int32) (p5 : Int32) (hfl : l.stackTraces = false) (hrn : rn ≤ 40) (hun : un ≤ 40) (res : Int32 × Int32 × (Nat → Int32)) (hf : fX0_copy_2 ra ua rn un gs RW rl ul RI UI p1 p2 p3 p4 p5 = some res) : MetI l yX0_copy (wsW_ yX0_copy cX0_copy 9 (some .int) [(53, 71, 74, 131), (17, 91, 92, 74)]) { frames := 9, cells := 5, slots := 475, locals := 10300 } [.ref (sa 0), .int p1, .int p2, .int p3, .int p4, .int p5] (XE D cs wi) D d [(ra, .inr (10, [.int rl, .ref ria])), (ria, .inl (d 0, rn, .inl RI)), oS sa ha ta gt gf gc tra gs, ((sa 1), .inl (d 3, 8, .inr (.inr (.inr (.inr RW))))), (ua, .inr (10, [.int ul, .ref uia])), (uia, .inl (d 0, un, .inl UI))] (fun r (_ : Unit) => r = res.1) (fun _ => [(ra, .inr (10, [.int rl, .ref ria])), (ria, .inl (d 0, rn, .inl RI)), oS sa ha ta gt gf gc tra res.2.1, ((sa 1), .inl (d 3, 8, .inr (.inr (.inr (.inr RW))))), (ua, .inr (10, [.int ul, .ref uia])), (uia, .inl (d 0, un, .inl res.2.2))]) := by
  have hX := XI.ok (D := D) (cs := cs) (wi := wi)
  refine MetI.ofH (by decide +kernel) (Nat.le_of_ble_eq_true rfl) ?_
  intro p e s m below meth c A cx hET hw ls hl
  obtain ⟨c1, c2, c3, c4, c5, c6, c7, c8, c9, c10, c11⟩ := cx
  have hE := c10.2
  have cx : Cx p s m _ meth c (XI D cs wi) D d A "DishLift" cX0_copy 9 (some .int) "copy" := ⟨c1, c2, c3, c4, c5, c6, c7, c8, c9, c10.1, c11⟩
  have cx : Cx p s m _ meth c (XI D cs wi) D d A "DishLift" cX0_copy 9 (some .int) "copy" := cx
  have cx' := cx
  obtain ⟨hx, hb, hr, hlk, hml, hown, hts, hK, hA, hXs, hnm⟩ := cx'
  have hl : lv_has ls 9 [(0, .ref (sa 0)), (1, .int p1), (2, .int p2), (3, .int p3), (4, .int p4), (5, .int p5)] := hl
  generalize hlo : ([] : List Loc) = locs at hw ⊢
  unfold fX0_copy_2 at hf
  refine lv_iload_n hx hb dX0_copy_0 rfl (lv_at hl 1 rfl) ?_
  obtain ⟨q1, hcq1, hf⟩ := op_e hf
  refine x_SI (wr := [(ra, .inr (10, [.int rl, .ref ria])), (ria, .inl (d 0, rn, .inl RI)), oS sa ha ta gt gf gc tra gs, ((sa 1), .inl (d 3, 8, .inr (.inr (.inr (.inr RW))))), (ua, .inr (10, [.int ul, .ref uia])), (uia, .inl (d 0, un, .inl UI))]) (rest := []) [.int p1] hX cx hw hl.1 (mX0_isRow l (XI D cs wi) hX D d  p1  q1 hcq1) (lw_S q342 q343 q82 q344) hd_X0_isRow ⟨(Nat.le_of_ble_eq_true rfl), (Nat.le_of_ble_eq_true rfl)⟩ rfl rfl (Nat.le_of_ble_eq_true rfl) dX0_copy_1 [] [0, 1, 2, 3, 4, 5] rfl rfl rfl rfl (by decide) ⟨(Nat.le_of_ble_eq_true rfl), (Nat.le_of_ble_eq_true rfl)⟩ (fun r u H locs hp hw => ?_)
  have hw : Wd D A s [(ra, .inr (10, [.int rl, .ref ria])), (ria, .inl (d 0, rn, .inl RI)), oS sa ha ta gt gf gc tra gs, ((sa 1), .inl (d 3, 8, .inr (.inr (.inr (.inr RW))))), (ua, .inr (10, [.int ul, .ref uia])), (uia, .inl (d 0, un, .inl UI))] H locs := hw
  subst r
  refine lv_if_eq (tgt := 14) hx hb dX0_copy_4 (by decide) (fun c4 => ?_) (fun c4 => ?_)
  · have hf := if_t hf c4
    refine lv_ldc (v := (-1000001)) hx hb hown (hts _ q350) dX0_copy_14 ?_
    have hf := sm_e hf
    subst hf
    exact x_retI cx hw rfl () rfl [0, 1, 2, 3, 4, 5] rfl rfl (Nat.le_of_ble_eq_true rfl) (Nat.le_of_ble_eq_true rfl) dX0_copy_16
  · have hf := if_f hf c4
    refine lv_iload_n hx hb dX0_copy_7 rfl (lv_at hl 3 rfl) ?_
    obtain ⟨q2, hcq2, hf⟩ := op_e hf
    refine x_SI (wr := [(ra, .inr (10, [.int rl, .ref ria])), (ria, .inl (d 0, rn, .inl RI)), oS sa ha ta gt gf gc tra gs, ((sa 1), .inl (d 3, 8, .inr (.inr (.inr (.inr RW))))), (ua, .inr (10, [.int ul, .ref uia])), (uia, .inl (d 0, un, .inl UI))]) (rest := []) [.int p3] hX cx hw hl.1 (mX0_isRow l (XI D cs wi) hX D d  p3  q2 hcq2) (lw_S q342 q343 q82 q344) hd_X0_isRow ⟨(Nat.le_of_ble_eq_true rfl), (Nat.le_of_ble_eq_true rfl)⟩ rfl rfl (Nat.le_of_ble_eq_true rfl) dX0_copy_8 [] [0, 1, 2, 3, 4, 5] rfl rfl rfl rfl (by decide) ⟨(Nat.le_of_ble_eq_true rfl), (Nat.le_of_ble_eq_true rfl)⟩ (fun r u H locs hp hw => ?_)
    have hw : Wd D A s [(ra, .inr (10, [.int rl, .ref ria])), (ria, .inl (d 0, rn, .inl RI)), oS sa ha ta gt gf gc tra gs, ((sa 1), .inl (d 3, 8, .inr (.inr (.inr (.inr RW))))), (ua, .inr (10, [.int ul, .ref uia])), (uia, .inl (d 0, un, .inl UI))] H locs := hw
    subst r
    refine lv_if_ne (tgt := 17) hx hb dX0_copy_11 (by decide) (fun c11 => ?_) (fun c11 => ?_)
    · have hf := if_f hf c11
      refine lv_aload_n hx hb dX0_copy_17 rfl (lv_at hl 0 rfl) ?_
      refine lv_iload_n hx hb dX0_copy_18 rfl (lv_at hl 1 rfl) ?_
      obtain ⟨r4, hcr4, hf⟩ := op_e hf
      rcases r4 with q5 | e6
      · refine x_VA (wr := [(ra, .inr (10, [.int rl, .ref ria])), (ria, .inl (d 0, rn, .inl RI)), (ua, .inr (10, [.int ul, .ref uia])), (uia, .inl (d 0, un, .inl UI))]) (rest := []) [.int p1] hX cx hw hl.1 (mX0_rowAt l D d cs wi ln lf dk dn him sa ha ta gt gf gc tra gs RW p1  q5 hcr4) (lw_V q446 q448 qs3 q82 q449) hd_X0_rowAt ⟨(Nat.le_of_ble_eq_true rfl), (Nat.le_of_ble_eq_true rfl)⟩ (va_recv hK hw.1 (ci := 1) (q0 := 2) rfl rfl) rfl rfl (Nat.le_of_ble_eq_true rfl) dX0_copy_19 [2, 3] [0, 1, 4, 5] rfl rfl rfl rfl (by decide) ⟨(Nat.le_of_ble_eq_true rfl), (Nat.le_of_ble_eq_true rfl)⟩ (fun u H locs hp hw => ?_)
        have hw : Wd D A s [(ra, .inr (10, [.int rl, .ref ria])), (ria, .inl (d 0, rn, .inl RI)), (ua, .inr (10, [.int ul, .ref uia])), (uia, .inl (d 0, un, .inl UI)), oS sa ha ta gt gf gc tra gs, ((sa 1), .inl (d 3, 8, .inr (.inr (.inr (.inr RW)))))] H locs := hw
        obtain ⟨g8, hgq, hf⟩ := op_e hf
        have hgq := eqa_spec hgq
        refine W.eq (g2 := F0 m 22 ls [.ref ra]) (by rw [hgq]) ?_
        refine lv_astore (lv' := [(6, .ref ra), (0, .ref (sa 0)), (1, .int p1), (2, .int p2), (3, .int p3), (4, .int p4), (5, .int p5)]) hx hb dX0_copy_22 hl (by decide) rfl (fun ls hl => ?_)
        refine lv_aload_n hx hb dX0_copy_24 rfl (lv_at hl 1 rfl) ?_
        refine lv_iload_n hx hb dX0_copy_25 rfl (lv_at hl 4 rfl) ?_
        obtain ⟨r10, hcr10, hf⟩ := op_e hf
        rcases r10 with q11 | e12
        · refine x_VA (wr := [(ra, .inr (10, [.int rl, .ref ria])), (ria, .inl (d 0, rn, .inl RI)), (ua, .inr (10, [.int ul, .ref uia])), (uia, .inl (d 0, un, .inl UI))]) (rest := []) [.int p3] hX cx hw hl.1 (mX0_rowAt l D d cs wi ln lf dk dn him sa ha ta gt gf gc tra gs RW p3  q11 hcr10) (lw_V q446 q448 qs3 q82 q449) hd_X0_rowAt ⟨(Nat.le_of_ble_eq_true rfl), (Nat.le_of_ble_eq_true rfl)⟩ (va_recv hK hw.1 (ci := 1) (q0 := 4) rfl rfl) rfl rfl (Nat.le_of_ble_eq_true rfl) dX0_copy_26 [4, 5] [0, 1, 2, 3] rfl rfl rfl rfl (by decide) ⟨(Nat.le_of_ble_eq_true rfl), (Nat.le_of_ble_eq_true rfl)⟩ (fun u H locs hp hw => ?_)
          have hw : Wd D A s [(ra, .inr (10, [.int rl, .ref ria])), (ria, .inl (d 0, rn, .inl RI)), (ua, .inr (10, [.int ul, .ref uia])), (uia, .inl (d 0, un, .inl UI)), oS sa ha ta gt gf gc tra gs, ((sa 1), .inl (d 3, 8, .inr (.inr (.inr (.inr RW)))))] H locs := hw
          obtain ⟨g14, hgq, hf⟩ := op_e hf
          have hgq := eqa_spec hgq
          refine W.eq (g2 := F0 m 29 ls [.ref ua]) (by rw [hgq]) ?_
          refine lv_astore (lv' := [(7, .ref ua), (6, .ref ra), (0, .ref (sa 0)), (1, .int p1), (2, .int p2), (3, .int p3), (4, .int p4), (5, .int p5)]) hx hb dX0_copy_29 hl (by decide) rfl (fun ls hl => ?_)
          refine lv_aload hx hb dX0_copy_31 (lv_at hl 1 rfl) ?_
          refine va_get (ci := 10) (C := RX11) (T := TX11) (N := 2) hx hb hts in_X11 hown hK hw.1 0 rfl rfl 0 (by decide) (hts _ q425) (fun _ h9 => h9) rfl dX0_copy_33 ?_
          refine lv_aload hx hb dX0_copy_36 (lv_at hl 0 rfl) ?_
          refine va_get (ci := 10) (C := RX11) (T := TX11) (N := 2) hx hb hts in_X11 hown hK hw.1 2 rfl rfl 0 (by decide) (hts _ q425) (fun _ h9 => h9) rfl dX0_copy_38 ?_
          obtain ⟨j15, hjA, hjR⟩ := op_e hf
          refine x_join (A := A) (D := D) (J := 49) (nL := 9) (cells' := 0) (slots' := 0) (st := [.int j15]) [(ra, .inr (10, [.int rl, .ref ria])), (ria, .inl (d 0, rn, .inl RI)), oS sa ha ta gt gf gc tra gs, ((sa 1), .inl (d 3, 8, .inr (.inr (.inr (.inr RW))))), (ua, .inr (10, [.int ul, .ref uia])), (uia, .inl (d 0, un, .inl UI))] [(0, .ref (sa 0)), (2, .int p2), (4, .int p4), (5, .int p5), (6, .ref ra), (7, .ref ua)] (fun H locs ls hw hl => ?_) (fun hKj49_j15 => ?_)
          · have hf := hjR
            refine lv_iconst (v := 5) hx hb dX0_copy_49 (by decide) ?_
            obtain ⟨r17, hcr17, hf⟩ := op_e hf
            rcases r17 with q18 | e19
            · refine x_SV (wr := [(ra, .inr (10, [.int rl, .ref ria])), (ria, .inl (d 0, rn, .inl RI)), oS sa ha ta gt gf gc tra gs, ((sa 1), .inl (d 3, 8, .inr (.inr (.inr (.inr RW))))), (ua, .inr (10, [.int ul, .ref uia])), (uia, .inl (d 0, un, .inl UI))]) (rest := []) [.int j15, .int 5] hX cx hw hl.1 (mX0_must l D d cs wi ln lf dk dn him j15 5  q18 hcr17) (lw_S q351 q352 q82 q353) hd_X0_must ⟨(Nat.le_of_ble_eq_true rfl), (Nat.le_of_ble_eq_true rfl)⟩ rfl rfl (Nat.le_of_ble_eq_true rfl) dX0_copy_50 [] [0, 1, 2, 3, 4, 5] rfl rfl rfl rfl (by decide) ⟨(Nat.le_of_ble_eq_true rfl), (Nat.le_of_ble_eq_true rfl)⟩ (fun u H locs hp hw => ?_)
              have hw : Wd D A s [(ra, .inr (10, [.int rl, .ref ria])), (ria, .inl (d 0, rn, .inl RI)), oS sa ha ta gt gf gc tra gs, ((sa 1), .inl (d 3, 8, .inr (.inr (.inr (.inr RW))))), (ua, .inr (10, [.int ul, .ref uia])), (uia, .inl (d 0, un, .inl UI))] H locs := hw
              refine lv_aload hx hb dX0_copy_53 (lv_at hl 4 rfl) ?_
              refine va_get (ci := 10) (C := RX11) (T := TX11) (N := 2) hx hb hts in_X11 hown hK hw.1 0 rfl rfl 1 (by decide) (hts _ q427) (fun _ h9 => h9) rfl dX0_copy_55 ?_
              refine lv_iload_n hx hb dX0_copy_58 rfl (lv_at hl 1 rfl) ?_
              refine lv_aload hx hb dX0_copy_59 (lv_at hl 5 rfl) ?_
              refine va_get (ci := 10) (C := RX11) (T := TX11) (N := 2) hx hb hts in_X11 hown hK hw.1 4 rfl rfl 1 (by decide) (hts _ q427) (fun _ h9 => h9) rfl dX0_copy_61 ?_
              refine lv_iload hx hb dX0_copy_64 (lv_at hl 2 rfl) ?_
              refine lv_iload hx hb dX0_copy_66 (lv_at hl 3 rfl) ?_
              rcases hac : acp RI rn p2 UI un p4 p5 with _ | w21
              · rw [hac] at hf
                refine x_acpx hfl hE cx hw hl.1 (q0 := 1) (q1 := 5) rfl rfl hrn hun hac q492 (Nat.le_of_ble_eq_true rfl) (Nat.le_of_ble_eq_true rfl) (Nat.le_of_ble_eq_true rfl) (Nat.le_of_ble_eq_true rfl) dX0_copy_68 (fun H a22 ce hw g1 g2 g3 => ?_)
                refine vx_catch (E := "java/lang/ArrayIndexOutOfBoundsException") (ce := ce) hown [] ⟨53, 71, 74, 131⟩ [⟨17, 91, 92, 74⟩] hET (fun z hz => absurd hz List.not_mem_nil) rfl (by decide) (hts _ q458) (va_tabs rfl rfl (Tb.cast q1691 hXs.1)) g1 g2 g3 ?_
                refine W.eq (g2 := F0 m 74 ls [.ref a22]) rfl ?_
                refine W.widen (k := 3) (n := 454) (Nat.le_of_ble_eq_true rfl) (Nat.le_of_ble_eq_true rfl) ?_
                refine lv_astore (lv' := [(8, .ref a22), (0, .ref (sa 0)), (2, .int p2), (4, .int p4), (5, .int p5), (6, .ref ra), (7, .ref ua)]) hx hb dX0_copy_74 hl (by decide) rfl (fun ls hl => ?_)
                refine va_new (ci := 12) (fs := [.null, .null, .null, .null, .null, .int 0, .int 0]) (C := RX10) (T := TX10) (N := 7) hx hb hts in_X10 tyX10 tyX10_ok hown (hts _ q341) (hts _ q354) (hts _ q97) hK hw.1 hw.2.1 hw.2.2 hA rfl (fun j hj => match j, hj with | 0, _ => rfl | 1, _ => rfl | 2, _ => rfl | 3, _ => rfl | 4, _ => rfl | 5, _ => rfl | 6, _ => rfl | j + 7, hj => absurd hj (by omega)) (Nat.le_of_ble_eq_true rfl) (Nat.le_of_ble_eq_true rfl) dX0_copy_76 (fun a23 H hP hD hS => ?_)
                have hw : Wd D A s [(ra, .inr (10, [.int rl, .ref ria])), (ria, .inl (d 0, rn, .inl RI)), oS sa ha ta gt gf gc tra gs, ((sa 1), .inl (d 3, 8, .inr (.inr (.inr (.inr RW))))), (ua, .inr (10, [.int ul, .ref uia])), (uia, .inl (d 0, un, .inl UI)), (a23, .inr (12, [.null, .null, .null, .null, .null, .int 0, .int 0]))] H locs := ⟨hP, hD, hS⟩
                refine W.widen (k := 4) (n := 461) (Nat.le_of_ble_eq_true rfl) (Nat.le_of_ble_eq_true rfl) ?_
                refine lv_dup hx hb dX0_copy_79 rfl ?_
                refine lv_iconst (v := 2) hx hb dX0_copy_80 (by decide) ?_
                refine x_NV (wr := [(ra, .inr (10, [.int rl, .ref ria])), (ria, .inl (d 0, rn, .inl RI)), oS sa ha ta gt gf gc tra gs, ((sa 1), .inl (d 3, 8, .inr (.inr (.inr (.inr RW))))), (ua, .inr (10, [.int ul, .ref uia])), (uia, .inl (d 0, un, .inl UI))]) (rest := [.ref a23]) [.int 2] hX cx hw hl.1 (mX10_init l cs wi D d a23 2 ) q395 q97 q393 q394 rfl hd_X10_init ⟨(Nat.le_of_ble_eq_true rfl), (Nat.le_of_ble_eq_true rfl)⟩ rfl rfl (Nat.le_of_ble_eq_true rfl) dX0_copy_81 [6] [0, 1, 2, 3, 4, 5] rfl rfl rfl rfl (by decide) ⟨(Nat.le_of_ble_eq_true rfl), (Nat.le_of_ble_eq_true rfl)⟩ (fun u H locs hp hw => ?_)
                have hw : Wd D A s [(ra, .inr (10, [.int rl, .ref ria])), (ria, .inl (d 0, rn, .inl RI)), oS sa ha ta gt gf gc tra gs, ((sa 1), .inl (d 3, 8, .inr (.inr (.inr (.inr RW))))), (ua, .inr (10, [.int ul, .ref uia])), (uia, .inl (d 0, un, .inl UI)), (a23, .inr (12, [.null, .null, .null, .null, .null, .int 0, .int 2]))] H locs := hw
                refine W.widen (k := 4) (n := 461) (Nat.le_of_ble_eq_true rfl) (Nat.le_of_ble_eq_true rfl) ?_
                refine vx_athrow hx hb dX0_copy_84 ?_
                obtain ⟨ce, g1, g2, g3⟩ := x_thrown cx hw (k := 6) rfl rfl
                refine vx_catch (E := "DishLift$Finding") (ce := ce) hown [⟨53, 71, 74, 131⟩] ⟨17, 91, 92, 74⟩ [] hET (fun z hz => Or.inl (by rcases List.mem_singleton.mp hz with rfl; rfl)) rfl (by decide) (hts _ q341) (va_tabs rfl rfl (Tb.cast q355 hXs.1)) g1 g2 g3 ?_
                refine W.eq (g2 := F0 m 92 ls [.ref a23]) rfl ?_
                refine lv_astore (lv' := [(6, .ref a23), (8, .ref a22), (0, .ref (sa 0)), (2, .int p2), (4, .int p4), (5, .int p5), (7, .ref ua)]) hx hb dX0_copy_92 hl (by decide) rfl (fun ls hl => ?_)
                refine lv_aload_n hx hb dX0_copy_94 rfl (lv_at hl 2 rfl) ?_
                refine lv_aload hx hb dX0_copy_95 (lv_at hl 0 rfl) ?_
                obtain ⟨q24, hcq24, hf⟩ := op_e hf
                refine x_VI (wr := [(ra, .inr (10, [.int rl, .ref ria])), (ria, .inl (d 0, rn, .inl RI)), ((sa 1), .inl (d 3, 8, .inr (.inr (.inr (.inr RW))))), (ua, .inr (10, [.int ul, .ref uia])), (uia, .inl (d 0, un, .inl UI))]) (rest := []) [.ref a23] hX cx hw hl.1 (mX0_found l  D d cs wi ln lf dk dn him sa ha ta a23 gt gf gc tra gs 2  q24 hcq24) (lw_V q437 q439 qs2 q82 q440) hd_X0_found ⟨(Nat.le_of_ble_eq_true rfl), (Nat.le_of_ble_eq_true rfl)⟩ (va_recv hK hw.1 (ci := 1) (q0 := 2) rfl rfl) rfl rfl (Nat.le_of_ble_eq_true rfl) dX0_copy_97 [6, 2] [0, 1, 3, 4, 5] rfl rfl rfl rfl (by decide) ⟨(Nat.le_of_ble_eq_true rfl), (Nat.le_of_ble_eq_true rfl)⟩ (fun r u H locs hp hw => ?_)
                have hw : Wd D A s [(ra, .inr (10, [.int rl, .ref ria])), (ria, .inl (d 0, rn, .inl RI)), ((sa 1), .inl (d 3, 8, .inr (.inr (.inr (.inr RW))))), (ua, .inr (10, [.int ul, .ref uia])), (uia, .inl (d 0, un, .inl UI)), (a23, .inr (12, [.null, .null, .null, .null, .null, .int 0, .int 2])), oS sa ha ta gt gf gc tra q24.2] H locs := hw
                subst r
                have hf := sm_e hf
                subst hf
                exact x_retI cx hw rfl () rfl [0, 1, 6, 2, 3, 4] rfl rfl (Nat.le_of_ble_eq_true rfl) (Nat.le_of_ble_eq_true rfl) dX0_copy_100
              · rw [hac] at hf
                obtain ⟨ha1, ha2, ha3, ha4, ha5, haw⟩ := acp_spec hac
                refine va_copyi hx hb (hml.trans hl.1.symm) hown (hts _ q492) (hts _ q494) (hts _ q493) (hts _ q103) hK hw.1 hw.2.1 hw.2.2 1 5 0 0 rfl rfl rfl rfl rfl ha1 ha2 ha3 ha4 ha5 (fun _ _ => rfl) (Nat.le_of_ble_eq_true rfl) (Nat.le_of_ble_eq_true rfl) dX0_copy_68 (fun H locs hP hD hS => ?_)
                rw [haw] at hP hD
                have hw : Wd D A s [(ra, .inr (10, [.int rl, .ref ria])), (ria, .inl (d 0, rn, .inl RI)), oS sa ha ta gt gf gc tra gs, ((sa 1), .inl (d 3, 8, .inr (.inr (.inr (.inr RW))))), (ua, .inr (10, [.int ul, .ref uia])), (uia, .inl (d 0, un, .inl w21))] H locs := ⟨hP, hD, hS⟩
                refine lv_goto (tgt := 85) hx hb dX0_copy_71 (by decide) ?_
                refine lv_aload_n hx hb dX0_copy_85 rfl (lv_at hl 0 rfl) ?_
                refine lv_iload hx hb dX0_copy_86 (lv_at hl 3 rfl) ?_
                obtain ⟨q25, hcq25, hf⟩ := op_e hf
                refine x_VI (wr := [(ra, .inr (10, [.int rl, .ref ria])), (ria, .inl (d 0, rn, .inl RI)), ((sa 1), .inl (d 3, 8, .inr (.inr (.inr (.inr RW))))), (ua, .inr (10, [.int ul, .ref uia])), (uia, .inl (d 0, un, .inl w21))]) (rest := []) [.int p5] hX cx hw hl.1 (mX0_well l  D d cs wi ln lf dk dn him sa ha ta gt gf gc tra gs p5  q25 hcq25) (lw_V q433 q435 qs1 q82 q436) hd_X0_well ⟨(Nat.le_of_ble_eq_true rfl), (Nat.le_of_ble_eq_true rfl)⟩ (va_recv hK hw.1 (ci := 1) (q0 := 2) rfl rfl) rfl rfl (Nat.le_of_ble_eq_true rfl) dX0_copy_88 [2] [0, 1, 3, 4, 5] rfl rfl rfl rfl (by decide) ⟨(Nat.le_of_ble_eq_true rfl), (Nat.le_of_ble_eq_true rfl)⟩ (fun r u H locs hp hw => ?_)
                have hw : Wd D A s [(ra, .inr (10, [.int rl, .ref ria])), (ria, .inl (d 0, rn, .inl RI)), ((sa 1), .inl (d 3, 8, .inr (.inr (.inr (.inr RW))))), (ua, .inr (10, [.int ul, .ref uia])), (uia, .inl (d 0, un, .inl w21)), oS sa ha ta gt gf gc tra q25.2] H locs := hw
                subst r
                have hf := sm_e hf
                subst hf
                exact x_retI cx hw rfl () rfl [0, 1, 5, 2, 3, 4] rfl rfl (Nat.le_of_ble_eq_true rfl) (Nat.le_of_ble_eq_true rfl) dX0_copy_91
            · refine x_TS (wr := [(ra, .inr (10, [.int rl, .ref ria])), (ria, .inl (d 0, rn, .inl RI)), oS sa ha ta gt gf gc tra gs, ((sa 1), .inl (d 3, 8, .inr (.inr (.inr (.inr RW))))), (ua, .inr (10, [.int ul, .ref uia])), (uia, .inl (d 0, un, .inl UI))]) (rest := []) [.int j15, .int 5] hX cx hw hl.1 (tX0_must l D d cs wi ln lf dk dn him j15 5  e19 hcr17) (lw_S q351 q352 q82 q353) hd_X0_must ⟨(Nat.le_of_ble_eq_true rfl), (Nat.le_of_ble_eq_true rfl)⟩ rfl rfl (Nat.le_of_ble_eq_true rfl) dX0_copy_50 [] [0, 1, 2, 3, 4, 5] rfl rfl rfl rfl (by decide) ⟨(Nat.le_of_ble_eq_true rfl), (Nat.le_of_ble_eq_true rfl)⟩ (fun a16 ce u H locs hw g1 g2 g3 => ?_)
              have hw : Wd D A s [(ra, .inr (10, [.int rl, .ref ria])), (ria, .inl (d 0, rn, .inl RI)), oS sa ha ta gt gf gc tra gs, ((sa 1), .inl (d 3, 8, .inr (.inr (.inr (.inr RW))))), (ua, .inr (10, [.int ul, .ref uia])), (uia, .inl (d 0, un, .inl UI)), (a16, .inr (12, [.null, .null, .null, .null, .null, .int 0, .int e19]))] H locs := hw
              refine vx_catch (E := "DishLift$Finding") (ce := ce) hown [⟨53, 71, 74, 131⟩] ⟨17, 91, 92, 74⟩ [] hET (fun z hz => Or.inl (by rcases List.mem_singleton.mp hz with rfl; rfl)) rfl (by decide) (hts _ q341) (va_tabs rfl rfl (Tb.cast q355 hXs.1)) g1 g2 g3 ?_
              refine W.eq (g2 := F0 m 92 ls [.ref a16]) rfl ?_
              refine W.widen (k := 1) (n := 7) (Nat.le_of_ble_eq_true rfl) (Nat.le_of_ble_eq_true rfl) ?_
              refine lv_astore (lv' := [(6, .ref a16), (0, .ref (sa 0)), (2, .int p2), (4, .int p4), (5, .int p5), (7, .ref ua)]) hx hb dX0_copy_92 hl (by decide) rfl (fun ls hl => ?_)
              refine lv_aload_n hx hb dX0_copy_94 rfl (lv_at hl 1 rfl) ?_
              refine lv_aload hx hb dX0_copy_95 (lv_at hl 0 rfl) ?_
              obtain ⟨q20, hcq20, hf⟩ := op_e hf
              refine x_VI (wr := [(ra, .inr (10, [.int rl, .ref ria])), (ria, .inl (d 0, rn, .inl RI)), ((sa 1), .inl (d 3, 8, .inr (.inr (.inr (.inr RW))))), (ua, .inr (10, [.int ul, .ref uia])), (uia, .inl (d 0, un, .inl UI))]) (rest := []) [.ref a16] hX cx hw hl.1 (mX0_found l  D d cs wi ln lf dk dn him sa ha ta a16 gt gf gc tra gs e19  q20 hcq20) (lw_V q437 q439 qs2 q82 q440) hd_X0_found ⟨(Nat.le_of_ble_eq_true rfl), (Nat.le_of_ble_eq_true rfl)⟩ (va_recv hK hw.1 (ci := 1) (q0 := 2) rfl rfl) rfl rfl (Nat.le_of_ble_eq_true rfl) dX0_copy_97 [6, 2] [0, 1, 3, 4, 5] rfl rfl rfl rfl (by decide) ⟨(Nat.le_of_ble_eq_true rfl), (Nat.le_of_ble_eq_true rfl)⟩ (fun r u H locs hp hw => ?_)
              have hw : Wd D A s [(ra, .inr (10, [.int rl, .ref ria])), (ria, .inl (d 0, rn, .inl RI)), ((sa 1), .inl (d 3, 8, .inr (.inr (.inr (.inr RW))))), (ua, .inr (10, [.int ul, .ref uia])), (uia, .inl (d 0, un, .inl UI)), (a16, .inr (12, [.null, .null, .null, .null, .null, .int 0, .int e19])), oS sa ha ta gt gf gc tra q20.2] H locs := hw
              subst r
              have hf := sm_e hf
              subst hf
              exact x_retI cx hw rfl () rfl [0, 1, 6, 2, 3, 4] rfl rfl (Nat.le_of_ble_eq_true rfl) (Nat.le_of_ble_eq_true rfl) dX0_copy_100
          · have hf := hjA
            refine lv_icmp_ne (tgt := 48) hx hb dX0_copy_41 (by decide) (fun c41 => ?_) (fun c41 => ?_)
            · have hf := if_f hf c41
              refine lv_iconst (v := 0) hx hb dX0_copy_48 (by decide) ?_
              have hf := sm_e hf
              subst hf
              exact hKj49_j15 _ _ _ (hw.sub [0, 1, 4, 5, 2, 3] rfl rfl) (lv_sub hl [2, 4, 6, 7, 1, 0] rfl)
            · have hf := if_t hf c41
              refine lv_iconst (v := 1) hx hb dX0_copy_44 (by decide) ?_
              refine lv_goto (tgt := 49) hx hb dX0_copy_45 (by decide) ?_
              have hf := sm_e hf
              subst hf
              exact hKj49_j15 _ _ _ (hw.sub [0, 1, 4, 5, 2, 3] rfl rfl) (lv_sub hl [2, 4, 6, 7, 1, 0] rfl)
        · refine x_TV (wr := [(ra, .inr (10, [.int rl, .ref ria])), (ria, .inl (d 0, rn, .inl RI)), (ua, .inr (10, [.int ul, .ref uia])), (uia, .inl (d 0, un, .inl UI))]) (rest := []) [.int p3] hX cx hw hl.1 (tX0_rowAt l D d cs wi ln lf dk dn him sa ha ta gt gf gc tra gs RW p3  e12 hcr10) (lw_V q446 q448 qs3 q82 q449) hd_X0_rowAt ⟨(Nat.le_of_ble_eq_true rfl), (Nat.le_of_ble_eq_true rfl)⟩ (va_recv hK hw.1 (ci := 1) (q0 := 4) rfl rfl) rfl rfl (Nat.le_of_ble_eq_true rfl) dX0_copy_26 [4, 5] [0, 1, 2, 3] rfl rfl rfl rfl (by decide) ⟨(Nat.le_of_ble_eq_true rfl), (Nat.le_of_ble_eq_true rfl)⟩ (fun a9 ce u H locs hw g1 g2 g3 => ?_)
          have hw : Wd D A s [(ra, .inr (10, [.int rl, .ref ria])), (ria, .inl (d 0, rn, .inl RI)), (ua, .inr (10, [.int ul, .ref uia])), (uia, .inl (d 0, un, .inl UI)), oS sa ha ta gt gf gc tra gs, ((sa 1), .inl (d 3, 8, .inr (.inr (.inr (.inr RW))))), (a9, .inr (12, [.null, .null, .null, .null, .null, .int 0, .int e12]))] H locs := hw
          refine vx_catch (E := "DishLift$Finding") (ce := ce) hown [⟨53, 71, 74, 131⟩] ⟨17, 91, 92, 74⟩ [] hET (fun z hz => Or.inl (by rcases List.mem_singleton.mp hz with rfl; rfl)) rfl (by decide) (hts _ q341) (va_tabs rfl rfl (Tb.cast q355 hXs.1)) g1 g2 g3 ?_
          refine W.eq (g2 := F0 m 92 ls [.ref a9]) rfl ?_
          refine W.widen (k := 1) (n := 7) (Nat.le_of_ble_eq_true rfl) (Nat.le_of_ble_eq_true rfl) ?_
          refine lv_astore (lv' := [(6, .ref a9), (0, .ref (sa 0)), (1, .int p1), (2, .int p2), (3, .int p3), (4, .int p4), (5, .int p5)]) hx hb dX0_copy_92 hl (by decide) rfl (fun ls hl => ?_)
          refine lv_aload_n hx hb dX0_copy_94 rfl (lv_at hl 1 rfl) ?_
          refine lv_aload hx hb dX0_copy_95 (lv_at hl 0 rfl) ?_
          obtain ⟨q13, hcq13, hf⟩ := op_e hf
          refine x_VI (wr := [(ra, .inr (10, [.int rl, .ref ria])), (ria, .inl (d 0, rn, .inl RI)), (ua, .inr (10, [.int ul, .ref uia])), (uia, .inl (d 0, un, .inl UI)), ((sa 1), .inl (d 3, 8, .inr (.inr (.inr (.inr RW)))))]) (rest := []) [.ref a9] hX cx hw hl.1 (mX0_found l  D d cs wi ln lf dk dn him sa ha ta a9 gt gf gc tra gs e12  q13 hcq13) (lw_V q437 q439 qs2 q82 q440) hd_X0_found ⟨(Nat.le_of_ble_eq_true rfl), (Nat.le_of_ble_eq_true rfl)⟩ (va_recv hK hw.1 (ci := 1) (q0 := 4) rfl rfl) rfl rfl (Nat.le_of_ble_eq_true rfl) dX0_copy_97 [6, 4] [0, 1, 2, 3, 5] rfl rfl rfl rfl (by decide) ⟨(Nat.le_of_ble_eq_true rfl), (Nat.le_of_ble_eq_true rfl)⟩ (fun r u H locs hp hw => ?_)
          have hw : Wd D A s [(ra, .inr (10, [.int rl, .ref ria])), (ria, .inl (d 0, rn, .inl RI)), (ua, .inr (10, [.int ul, .ref uia])), (uia, .inl (d 0, un, .inl UI)), ((sa 1), .inl (d 3, 8, .inr (.inr (.inr (.inr RW))))), (a9, .inr (12, [.null, .null, .null, .null, .null, .int 0, .int e12])), oS sa ha ta gt gf gc tra q13.2] H locs := hw
          subst r
          have hf := sm_e hf
          subst hf
          exact x_retI cx hw rfl () rfl [0, 1, 6, 4, 2, 3] rfl rfl (Nat.le_of_ble_eq_true rfl) (Nat.le_of_ble_eq_true rfl) dX0_copy_100
      · refine x_TV (wr := [(ra, .inr (10, [.int rl, .ref ria])), (ria, .inl (d 0, rn, .inl RI)), (ua, .inr (10, [.int ul, .ref uia])), (uia, .inl (d 0, un, .inl UI))]) (rest := []) [.int p1] hX cx hw hl.1 (tX0_rowAt l D d cs wi ln lf dk dn him sa ha ta gt gf gc tra gs RW p1  e6 hcr4) (lw_V q446 q448 qs3 q82 q449) hd_X0_rowAt ⟨(Nat.le_of_ble_eq_true rfl), (Nat.le_of_ble_eq_true rfl)⟩ (va_recv hK hw.1 (ci := 1) (q0 := 2) rfl rfl) rfl rfl (Nat.le_of_ble_eq_true rfl) dX0_copy_19 [2, 3] [0, 1, 4, 5] rfl rfl rfl rfl (by decide) ⟨(Nat.le_of_ble_eq_true rfl), (Nat.le_of_ble_eq_true rfl)⟩ (fun a3 ce u H locs hw g1 g2 g3 => ?_)
        have hw : Wd D A s [(ra, .inr (10, [.int rl, .ref ria])), (ria, .inl (d 0, rn, .inl RI)), (ua, .inr (10, [.int ul, .ref uia])), (uia, .inl (d 0, un, .inl UI)), oS sa ha ta gt gf gc tra gs, ((sa 1), .inl (d 3, 8, .inr (.inr (.inr (.inr RW))))), (a3, .inr (12, [.null, .null, .null, .null, .null, .int 0, .int e6]))] H locs := hw
        refine vx_catch (E := "DishLift$Finding") (ce := ce) hown [⟨53, 71, 74, 131⟩] ⟨17, 91, 92, 74⟩ [] hET (fun z hz => Or.inl (by rcases List.mem_singleton.mp hz with rfl; rfl)) rfl (by decide) (hts _ q341) (va_tabs rfl rfl (Tb.cast q355 hXs.1)) g1 g2 g3 ?_
        refine W.eq (g2 := F0 m 92 ls [.ref a3]) rfl ?_
        refine W.widen (k := 1) (n := 7) (Nat.le_of_ble_eq_true rfl) (Nat.le_of_ble_eq_true rfl) ?_
        refine lv_astore (lv' := [(6, .ref a3), (0, .ref (sa 0)), (1, .int p1), (2, .int p2), (3, .int p3), (4, .int p4), (5, .int p5)]) hx hb dX0_copy_92 hl (by decide) rfl (fun ls hl => ?_)
        refine lv_aload_n hx hb dX0_copy_94 rfl (lv_at hl 1 rfl) ?_
        refine lv_aload hx hb dX0_copy_95 (lv_at hl 0 rfl) ?_
        obtain ⟨q7, hcq7, hf⟩ := op_e hf
        refine x_VI (wr := [(ra, .inr (10, [.int rl, .ref ria])), (ria, .inl (d 0, rn, .inl RI)), (ua, .inr (10, [.int ul, .ref uia])), (uia, .inl (d 0, un, .inl UI)), ((sa 1), .inl (d 3, 8, .inr (.inr (.inr (.inr RW)))))]) (rest := []) [.ref a3] hX cx hw hl.1 (mX0_found l  D d cs wi ln lf dk dn him sa ha ta a3 gt gf gc tra gs e6  q7 hcq7) (lw_V q437 q439 qs2 q82 q440) hd_X0_found ⟨(Nat.le_of_ble_eq_true rfl), (Nat.le_of_ble_eq_true rfl)⟩ (va_recv hK hw.1 (ci := 1) (q0 := 4) rfl rfl) rfl rfl (Nat.le_of_ble_eq_true rfl) dX0_copy_97 [6, 4] [0, 1, 2, 3, 5] rfl rfl rfl rfl (by decide) ⟨(Nat.le_of_ble_eq_true rfl), (Nat.le_of_ble_eq_true rfl)⟩ (fun r u H locs hp hw => ?_)
        have hw : Wd D A s [(ra, .inr (10, [.int rl, .ref ria])), (ria, .inl (d 0, rn, .inl RI)), (ua, .inr (10, [.int ul, .ref uia])), (uia, .inl (d 0, un, .inl UI)), ((sa 1), .inl (d 3, 8, .inr (.inr (.inr (.inr RW))))), (a3, .inr (12, [.null, .null, .null, .null, .null, .int 0, .int e6])), oS sa ha ta gt gf gc tra q7.2] H locs := hw
        subst r
        have hf := sm_e hf
        subst hf
        exact x_retI cx hw rfl () rfl [0, 1, 6, 4, 2, 3] rfl rfl (Nat.le_of_ble_eq_true rfl) (Nat.le_of_ble_eq_true rfl) dX0_copy_100
    · have hf := if_t hf c11
      refine lv_ldc (v := (-1000001)) hx hb hown (hts _ q350) dX0_copy_14 ?_
      have hf := sm_e hf
      subst hf
      exact x_retI cx hw rfl () rfl [0, 1, 2, 3, 4, 5] rfl rfl (Nat.le_of_ble_eq_true rfl) (Nat.le_of_ble_eq_true rfl) dX0_copy_16
