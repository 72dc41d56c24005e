set_option maxRecDepth 100000
def fX12_must (rfr : Int32) (p1 : Int32) (p2 : Int32) : Option ((Unit) ⊕ (Int32 × Int32)) :=
  if p1 = 0 then
    some (.inr (p2, rfr))
  else
    some (.inl ())
def fX12_isLetter (rtk : Int32) (rva : Int32) (p1 : Int32) : Option (Int32) :=
  if rtk = 1 then
    if rva = p1 then
      some 1
    else
      some 0
  else
    some 0
def fX12_look (rz : Int32) (rat : Int32) (TA : Nat → Int32) : Option (Int32) :=
  if rz ≤ rat then
    some (-1000000)
  else
    (rd TA 110 rat).bind fun v1 =>
    some (v1 &&& 255)
def fX12_next_b51 (rz : Int32) (rat : Int32) (TA : Nat → Int32) (x51 : Int32 × Int32) : Option ((Int32 × Int32) ⊕ (Int32 × Int32)) :=
  (fX12_look rz x51.1 TA).bind fun q7 =>
  (fX0_isIn q7.toInt64 48 57).bind fun q8 =>
  if q8 = 0 then
    some (.inr (x51.1, x51.2))
  else
    (if 2 ≤ (x51.1 - rat) then
      some x51.2
    else
      (fX12_look rz x51.1 TA).bind fun q10 =>
      some (((10 * x51.2) + q10) - 48) : Option (Int32)).bind fun j9 =>
    some (.inl ((x51.1 + 1), j9))
def fX12_next (rz : Int32) (rat : Int32) (TA : Nat → Int32) : Option (Int32 × Int32 × Int32 × Int32) :=
  (fX12_look rz rat TA).bind fun q1 =>
  if q1 = (-1000000) then
    some (rat, 0, rat, q1)
  else
    (fX0_isIn q1.toInt64 48 57).bind fun q2 =>
    if q2 = 0 then
      (fX0_isIn q1.toInt64 97 122).bind fun q3 =>
      (if q3 = 0 then
        if q1 = 44 then
          some 3
        else
          if q1 = 59 then
            some 4
          else
            some 5
      else
        some 1 : Option (Int32)).bind fun j4 =>
      some ((rat + 1), j4, rat, q1)
    else
      (lp (fX12_next_b51 rz rat TA) FU (rat, 0)).bind fun r5 =>
      (if 2 < (r5.1 - rat) then
        some 5
      else
        some 2 : Option (Int32)).bind fun j6 =>
      some (r5.1, j6, rat, r5.2)
def fX12_figure (rz : Int32) (rat : Int32) (rtk : Int32) (rfr : Int32) (rva : Int32) (TA : Nat → Int32) (p1 : Int32) (p2 : Int32) : Option ((Int32 × Int32 × Int32 × Int32 × Int32) ⊕ (Int32 × Int32)) :=
  (if rtk = 2 then
    some 1
  else
    some 0 : Option (Int32)).bind fun j1 =>
  (fX12_must rfr j1 1).bind fun r3 =>
  match r3 with
  | .inr e5 => some (.inr e5)
  | .inl q4 =>
    (fX0_isIn rva.toInt64 p1.toInt64 p2.toInt64).bind fun q6 =>
    (fX12_must rfr q6 2).bind fun r8 =>
    match r8 with
    | .inr e10 => some (.inr e10)
    | .inl q9 =>
      (fX12_next rz rat TA).bind fun q11 =>
      some (.inl (rva, q11.1, q11.2.1, q11.2.2.1, q11.2.2.2))
def fX12_sign (rz : Int32) (rat : Int32) (rtk : Int32) (rfr : Int32) (TA : Nat → Int32) (p1 : Int32) : Option ((Int32 × Int32 × Int32 × Int32) ⊕ (Int32 × Int32)) :=
  (if rtk = p1 then
    some 1
  else
    some 0 : Option (Int32)).bind fun j1 =>
  (fX12_must rfr j1 1).bind fun r3 =>
  match r3 with
  | .inr e5 => some (.inr e5)
  | .inl q4 =>
    (fX12_next rz rat TA).bind fun q6 =>
    some (.inl (q6.1, q6.2.1, q6.2.2.1, q6.2.2.2))
def fX12_more (rz : Int32) (rat : Int32) (rtk : Int32) (rfr : Int32) (TA : Nat → Int32) (p1 : Int32) (p2 : Int32) : Option ((Int32 × Int32 × Int32 × Int32 × Int32) ⊕ (Int32 × Int32)) :=
  (fX12_sign rz rat rtk rfr TA 3).bind fun r2 =>
  match r2 with
  | .inr e4 => some (.inr e4)
  | .inl q3 =>
    (fX12_figure rz q3.1 q3.2.1 q3.2.2.1 q3.2.2.2 TA p1 p2).bind fun r6 =>
    match r6 with
    | .inr e8 => some (.inr e8)
    | .inl q7 =>
      some (.inl (q7.1, q7.2.1, q7.2.2.1, q7.2.2.2.1, q7.2.2.2.2))
def fX12_begin (rz : Int32) (rat : Int32) (rfr : Int32) (TA : Nat → Int32) (p1 : Int32) (p2 : Int32) : Option ((Int32 × Int32 × Int32 × Int32) ⊕ (Int32 × Int32)) :=
  (if p2 ≤ p1 then
    some 0
  else
    some 1 : Option (Int32)).bind fun j1 =>
  (fX12_must rfr j1 3).bind fun r3 =>
  match r3 with
  | .inr e5 => some (.inr e5)
  | .inl q4 =>
    (fX12_next rz rat TA).bind fun q6 =>
    some (.inl (q6.1, q6.2.1, q6.2.2.1, q6.2.2.2))
theorem hd_X12_must : yX12_must.cls = "DishLift$Reader" ∧ yX12_must.cls ≠ "java/lang/invoke/MethodHandle" ∧ yX12_must.cls ≠ "java/lang/invoke/VarHandle" ∧ (parseMethodDescriptor yX12_must.desc).map (fun d => d.parameters.length) = some 2 := by decide +kernel
set_option maxHeartbeats 4000000 in
theorem mX12_must (l : Launch) (D : va_G) (d : Nat → ClassId) (cs : Nat → Nat) (wi : va_W) (ln : Nat → Option Int32) (lf : Nat → Nat → Option Nat) (dk : Nat → Option Nat) (dn : Nat → Int32) (him : ImF d wi ln lf dk dn) (ra : Nat) (sa : Nat → Nat) (ma : Nat → Nat) (rz : Int32) (rat : Int32) (rtk : Int32) (rfr : Int32) (rva : Int32) (p1 : Int32) (p2 : Int32)  (res : Unit) (hf : fX12_must rfr p1 p2 = some (.inl res)) : MetV l yX12_must (ws_ yX12_must cX12_must 3 none) { frames := 4, cells := 0, slots := 0, locals := 110 } [.ref ra, .int p1, .int p2] (XI D cs wi) D d [(ra, .inr (11, [.ref (sa 2), .int rz, .int rat, .int rtk, .int rfr, .int rva, .ref (ma 0)]))] (fun (_ : Unit) => True) (fun _ => [(ra, .inr (11, [.ref (sa 2), .int rz, .int rat, .int rtk, .int rfr, .int rva, .ref (ma 0)]))]) := by
  have hX := XI.ok (D := D) (cs := cs) (wi := wi)
  refine MetV.of (by decide +kernel) (Nat.le_of_ble_eq_true rfl) ?_
  intro p e s m below meth c A cx hw ls hl
  have cx : Cx p s m _ meth c (XI D cs wi) D d A "DishLift$Reader" cX12_must 3 none "must" := cx
  have cx' := cx
  obtain ⟨hx, hb, hr, hlk, hml, hown, hts, hK, hA, hXs, hnm⟩ := cx'
  have hl : lv_has ls 3 [(0, .ref ra), (1, .int p1), (2, .int p2)] := hl
  generalize hlo : ([] : List Loc) = locs at hw ⊢
  unfold fX12_must at hf
  refine lv_iload_n hx hb dX12_must_0 rfl (lv_at hl 1 rfl) ?_
  refine lv_if_ne (tgt := 17) hx hb dX12_must_1 (by decide) (fun c1 => ?_) (fun c1 => ?_)
  · have hf := if_f hf c1
    have hf := Sum.inl.inj (sm_e hf)
    subst hf
    exact x_retV cx hw () trivial [0] rfl rfl (Nat.le_of_ble_eq_true rfl) (Nat.le_of_ble_eq_true rfl) dX12_must_17
  · have hf := if_t hf c1
    cases hf
set_option maxHeartbeats 4000000 in
theorem tX12_must (l : Launch) (D : va_G) (d : Nat → ClassId) (cs : Nat → Nat) (wi : va_W) (ln : Nat → Option Int32) (lf : Nat → Nat → Option Nat) (dk : Nat → Option Nat) (dn : Nat → Int32) (him : ImF d wi ln lf dk dn) (ra : Nat) (sa : Nat → Nat) (ma : Nat → Nat) (rz : Int32) (rat : Int32) (rtk : Int32) (rfr : Int32) (rva : Int32) (p1 : Int32) (p2 : Int32)  (res : Int32 × Int32) (hf : fX12_must rfr p1 p2 = some (.inr res)) : TMet l yX12_must (ws_ yX12_must cX12_must 3 none) { frames := 4, cells := 1, slots := 8, locals := 110 } [.ref ra, .int p1, .int p2] (XI D cs wi) D d [(ra, .inr (11, [.ref (sa 2), .int rz, .int rat, .int rtk, .int rfr, .int rva, .ref (ma 0)]))] "DishLift$Fault" (fun q9 (_ : Unit) => [(q9, .inr (13, [.null, .null, .null, .null, .null, .int 0, .int res.1, .int res.2]))]) := by
  have hX := XI.ok (D := D) (cs := cs) (wi := wi)
  refine TMet.of (by decide +kernel) (Nat.le_of_ble_eq_true rfl) ?_
  intro p e s m below meth c A cx hET hw ls hl
  have cx : Cx p s m _ meth c (XI D cs wi) D d A "DishLift$Reader" cX12_must 3 none "must" := cx
  have cx' := cx
  obtain ⟨hx, hb, hr, hlk, hml, hown, hts, hK, hA, hXs, hnm⟩ := cx'
  have hl : lv_has ls 3 [(0, .ref ra), (1, .int p1), (2, .int p2)] := hl
  generalize hlo : ([] : List Loc) = locs at hw ⊢
  unfold fX12_must at hf
  refine lv_iload_n hx hb dX12_must_0 rfl (lv_at hl 1 rfl) ?_
  refine lv_if_ne (tgt := 17) hx hb dX12_must_1 (by decide) (fun c1 => ?_) (fun c1 => ?_)
  · have hf := if_f hf c1
    cases hf
  · have hf := if_t hf c1
    refine va_new (ci := 13) (fs := [.null, .null, .null, .null, .null, .int 0, .int 0, .int 0]) (C := RX13) (T := TX13) (N := 8) hx hb hts in_X13 tyX13 tyX13_ok hown (hts _ q567) (hts _ q568) (hts _ q105) hK hw.1 hw.2.1 hw.2.2 hA rfl (fun j hj => match j, hj with | 0, _ => rfl | 1, _ => rfl | 2, _ => rfl | 3, _ => rfl | 4, _ => rfl | 5, _ => rfl | 6, _ => rfl | 7, _ => rfl | j + 8, hj => absurd hj (by omega)) (Nat.le_of_ble_eq_true rfl) (Nat.le_of_ble_eq_true rfl) dX12_must_4 (fun a1 H hP hD hS => ?_)
    have hw : Wd D A s [(ra, .inr (11, [.ref (sa 2), .int rz, .int rat, .int rtk, .int rfr, .int rva, .ref (ma 0)])), (a1, .inr (13, [.null, .null, .null, .null, .null, .int 0, .int 0, .int 0]))] H locs := ⟨hP, hD, hS⟩
    refine W.widen (k := 1) (n := 8) (Nat.le_of_ble_eq_true rfl) (Nat.le_of_ble_eq_true rfl) ?_
    refine lv_dup hx hb dX12_must_7 rfl ?_
    refine lv_iload_n hx hb dX12_must_8 rfl (lv_at hl 2 rfl) ?_
    refine lv_aload_n hx hb dX12_must_9 rfl (lv_at hl 0 rfl) ?_
    refine va_get (ci := 11) (C := RX12) (T := TX12) (N := 7) hx hb hts in_X12 hown hK hw.1 0 rfl rfl 4 (by decide) (hts _ q522) (fun _ h9 => h9) rfl dX12_must_10 ?_
    refine x_NV (wr := [(ra, .inr (11, [.ref (sa 2), .int rz, .int rat, .int rtk, .int rfr, .int rva, .ref (ma 0)]))]) (rest := [.ref a1]) [.int p2, .int rfr] hX cx hw hl.1 (mX13_init l cs wi D d a1 p2 rfr ) q578 q105 q576 q577 rfl hd_X13_init ⟨(Nat.le_of_ble_eq_true rfl), (Nat.le_of_ble_eq_true rfl)⟩ rfl rfl (Nat.le_of_ble_eq_true rfl) dX12_must_13 [1] [0] rfl rfl rfl rfl (by decide) ⟨(Nat.le_of_ble_eq_true rfl), (Nat.le_of_ble_eq_true rfl)⟩ (fun u H locs hp hw => ?_)
    have hw : Wd D A s [(ra, .inr (11, [.ref (sa 2), .int rz, .int rat, .int rtk, .int rfr, .int rva, .ref (ma 0)])), (a1, .inr (13, [.null, .null, .null, .null, .null, .int 0, .int p2, .int rfr]))] H locs := hw
    refine W.widen (k := 1) (n := 8) (Nat.le_of_ble_eq_true rfl) (Nat.le_of_ble_eq_true rfl) ?_
    have hf := Sum.inr.inj (sm_e hf)
    subst hf
    refine vx_athrow hx hb dX12_must_16 ?_
    obtain ⟨ce, g1, g2, g3⟩ := x_thrown cx hw (k := 1) rfl rfl
    exact x_out cx hET hw () g1 g2 g3 [1] rfl rfl (Nat.le_of_ble_eq_true rfl) (Nat.le_of_ble_eq_true rfl)
theorem hd_X12_isLetter : yX12_isLetter.cls = "DishLift$Reader" ∧ yX12_isLetter.cls ≠ "java/lang/invoke/MethodHandle" ∧ yX12_isLetter.cls ≠ "java/lang/invoke/VarHandle" ∧ (parseMethodDescriptor yX12_isLetter.desc).map (fun d => d.parameters.length) = some 1 := by decide +kernel
set_option maxHeartbeats 4000000 in
theorem mX12_isLetter (l : Launch) (D : va_G) (d : Nat → ClassId) (cs : Nat → Nat) (wi : va_W) (ln : Nat → Option Int32) (lf : Nat → Nat → Option Nat) (dk : Nat → Option Nat) (dn : Nat → Int32) (him : ImF d wi ln lf dk dn) (ra : Nat) (sa : Nat → Nat) (ma : Nat → Nat) (rz : Int32) (rat : Int32) (rtk : Int32) (rfr : Int32) (rva : Int32) (p1 : Int32)  (res : Int32) (hf : fX12_isLetter rtk rva p1 = some res) : MetI l yX12_isLetter (ws_ yX12_isLetter cX12_isLetter 2 (some .boolean)) { frames := 0, cells := 0, slots := 0, locals := 0 } [.ref ra, .int p1] (XI D cs wi) D d [(ra, .inr (11, [.ref (sa 2), .int rz, .int rat, .int rtk, .int rfr, .int rva, .ref (ma 0)]))] (fun r (_ : Unit) => r = res) (fun _ => [(ra, .inr (11, [.ref (sa 2), .int rz, .int rat, .int rtk, .int rfr, .int rva, .ref (ma 0)]))]) := by
  have hX := XI.ok (D := D) (cs := cs) (wi := wi)
  refine MetI.of (by decide +kernel) (Nat.le_of_ble_eq_true rfl) ?_
  intro p e s m below meth c A cx hw ls hl
  have cx : Cx p s m _ meth c (XI D cs wi) D d A "DishLift$Reader" cX12_isLetter 2 (some .boolean) "isLetter" := cx
  have cx' := cx
  obtain ⟨hx, hb, hr, hlk, hml, hown, hts, hK, hA, hXs, hnm⟩ := cx'
  have hl : lv_has ls 2 [(0, .ref ra), (1, .int p1)] := hl
  generalize hlo : ([] : List Loc) = locs at hw ⊢
  unfold fX12_isLetter at hf
  refine lv_aload_n hx hb dX12_isLetter_0 rfl (lv_at hl 0 rfl) ?_
  refine va_get (ci := 11) (C := RX12) (T := TX12) (N := 7) hx hb hts in_X12 hown hK hw.1 0 rfl rfl 3 (by decide) (hts _ q521) (fun _ h9 => h9) rfl dX12_isLetter_1 ?_
  refine lv_iconst (v := 1) hx hb dX12_isLetter_4 (by decide) ?_
  refine lv_icmp_ne (tgt := 20) hx hb dX12_isLetter_5 (by decide) (fun c5 => ?_) (fun c5 => ?_)
  · have hf := if_f hf c5
    refine lv_iconst (v := 0) hx hb dX12_isLetter_20 (by decide) ?_
    have hf := sm_e hf
    subst hf
    exact x_retI cx hw rfl () rfl [0] rfl rfl (Nat.le_of_ble_eq_true rfl) (Nat.le_of_ble_eq_true rfl) dX12_isLetter_21
  · have hf := if_t hf c5
    refine lv_aload_n hx hb dX12_isLetter_8 rfl (lv_at hl 0 rfl) ?_
    refine va_get (ci := 11) (C := RX12) (T := TX12) (N := 7) hx hb hts in_X12 hown hK hw.1 0 rfl rfl 5 (by decide) (hts _ q523) (fun _ h9 => h9) rfl dX12_isLetter_9 ?_
    refine lv_iload_n hx hb dX12_isLetter_12 rfl (lv_at hl 1 rfl) ?_
    refine lv_icmp_ne (tgt := 20) hx hb dX12_isLetter_13 (by decide) (fun c13 => ?_) (fun c13 => ?_)
    · have hf := if_f hf c13
      refine lv_iconst (v := 0) hx hb dX12_isLetter_20 (by decide) ?_
      have hf := sm_e hf
      subst hf
      exact x_retI cx hw rfl () rfl [0] rfl rfl (Nat.le_of_ble_eq_true rfl) (Nat.le_of_ble_eq_true rfl) dX12_isLetter_21
    · have hf := if_t hf c13
      refine lv_iconst (v := 1) hx hb dX12_isLetter_16 (by decide) ?_
      refine lv_goto (tgt := 21) hx hb dX12_isLetter_17 (by decide) ?_
      have hf := sm_e hf
      subst hf
      exact x_retI cx hw rfl () rfl [0] rfl rfl (Nat.le_of_ble_eq_true rfl) (Nat.le_of_ble_eq_true rfl) dX12_isLetter_21
theorem hd_X12_look : yX12_look.cls = "DishLift$Reader" ∧ yX12_look.cls ≠ "java/lang/invoke/MethodHandle" ∧ yX12_look.cls ≠ "java/lang/invoke/VarHandle" ∧ (parseMethodDescriptor yX12_look.desc).map (fun d => d.parameters.length) = some 0 := by decide +kernel
set_option maxHeartbeats 4000000 in
theorem mX12_look (l : Launch) (D : va_G) (d : Nat → ClassId) (cs : Nat → Nat) (wi : va_W) (ln : Nat → Option Int32) (lf : Nat → Nat → Option Nat) (dk : Nat → Option Nat) (dn : Nat → Int32) (him : ImF d wi ln lf dk dn) (ra : Nat) (sa : Nat → Nat) (ma : Nat → Nat) (rz : Int32) (rat : Int32) (rtk : Int32) (rfr : Int32) (rva : Int32) (TA : Nat → Int32)  (res : Int32) (hf : fX12_look rz rat TA = some res) : MetI l yX12_look (ws_ yX12_look cX12_look 1 (some .int)) { frames := 0, cells := 0, slots := 0, locals := 0 } [.ref ra] (XI D cs wi) D d [(ra, .inr (11, [.ref (sa 2), .int rz, .int rat, .int rtk, .int rfr, .int rva, .ref (ma 0)])), ((sa 2), .inl (d 1, 110, .inl TA))] (fun r (_ : Unit) => r = res) (fun _ => [(ra, .inr (11, [.ref (sa 2), .int rz, .int rat, .int rtk, .int rfr, .int rva, .ref (ma 0)])), ((sa 2), .inl (d 1, 110, .inl TA))]) := by
  have hX := XI.ok (D := D) (cs := cs) (wi := wi)
  refine MetI.of (by decide +kernel) (Nat.le_of_ble_eq_true rfl) ?_
  intro p e s m below meth c A cx hw ls hl
  have cx : Cx p s m _ meth c (XI D cs wi) D d A "DishLift$Reader" cX12_look 1 (some .int) "look" := cx
  have cx' := cx
  obtain ⟨hx, hb, hr, hlk, hml, hown, hts, hK, hA, hXs, hnm⟩ := cx'
  have hl : lv_has ls 1 [(0, .ref ra)] := hl
  generalize hlo : ([] : List Loc) = locs at hw ⊢
  unfold fX12_look at hf
  refine lv_aload_n hx hb dX12_look_0 rfl (lv_at hl 0 rfl) ?_
  refine va_get (ci := 11) (C := RX12) (T := TX12) (N := 7) hx hb hts in_X12 hown hK hw.1 0 rfl rfl 2 (by decide) (hts _ q520) (fun _ h9 => h9) rfl dX12_look_1 ?_
  refine lv_aload_n hx hb dX12_look_4 rfl (lv_at hl 0 rfl) ?_
  refine va_get (ci := 11) (C := RX12) (T := TX12) (N := 7) hx hb hts in_X12 hown hK hw.1 0 rfl rfl 1 (by decide) (hts _ q519) (fun _ h9 => h9) rfl dX12_look_5 ?_
  refine lv_icmp_ge (tgt := 27) hx hb dX12_look_8 (by decide) (fun c8 => ?_) (fun c8 => ?_)
  · have hf := if_t hf c8
    refine lv_ldc (v := (-1000000)) hx hb hown (hts _ q553) dX12_look_27 ?_
    have hf := sm_e hf
    subst hf
    exact x_retI cx hw rfl () rfl [0, 1] rfl rfl (Nat.le_of_ble_eq_true rfl) (Nat.le_of_ble_eq_true rfl) dX12_look_29
  · have hf := if_f hf c8
    refine lv_aload_n hx hb dX12_look_11 rfl (lv_at hl 0 rfl) ?_
    refine va_get (ci := 11) (C := RX12) (T := TX12) (N := 7) hx hb hts in_X12 hown hK hw.1 0 rfl rfl 0 (by decide) (hts _ q518) (fun _ h9 => h9) rfl dX12_look_12 ?_
    refine lv_aload_n hx hb dX12_look_15 rfl (lv_at hl 0 rfl) ?_
    refine va_get (ci := 11) (C := RX12) (T := TX12) (N := 7) hx hb hts in_X12 hown hK hw.1 0 rfl rfl 2 (by decide) (hts _ q520) (fun _ h9 => h9) rfl dX12_look_16 ?_
    obtain ⟨v1, hrd, hf⟩ := op_e hf
    refine x_bald (q0 := 1) cx hw rfl hrd dX12_look_19 ?_
    refine lv_sipush (v := 255) hx hb dX12_look_20 (by decide) ?_
    refine lv_iand hx hb dX12_look_23 ?_
    refine lv_goto (tgt := 29) hx hb dX12_look_24 (by decide) ?_
    have hf := sm_e hf
    subst hf
    exact x_retI cx hw rfl () rfl [0, 1] rfl rfl (Nat.le_of_ble_eq_true rfl) (Nat.le_of_ble_eq_true rfl) dX12_look_29
theorem hd_X12_next : yX12_next.cls = "DishLift$Reader" ∧ yX12_next.cls ≠ "java/lang/invoke/MethodHandle" ∧ yX12_next.cls ≠ "java/lang/invoke/VarHandle" ∧ (parseMethodDescriptor yX12_next.desc).map (fun d => d.parameters.length) = some 0 := by decide +kernel
set_option maxHeartbeats 4000000 in
theorem mX12_next (l : Launch) (D : va_G) (d : Nat → ClassId) (cs : Nat → Nat) (wi : va_W) (ln : Nat → Option Int32) (lf : Nat → Nat → Option Nat) (dk : Nat → Option Nat) (dn : Nat → Int32) (him : ImF d wi ln lf dk dn) (ra : Nat) (sa : Nat → Nat) (ma : Nat → Nat) (rz : Int32) (rat : Int32) (rtk : Int32) (rfr : Int32) (rva : Int32) (TA : Nat → Int32)  (res : Int32 × Int32 × Int32 × Int32) (hf : fX12_next rz rat TA = some res) : MetV l yX12_next (ws_ yX12_next cX12_next 2 none) { frames := 1, cells := 0, slots := 0, locals := 25 } [.ref ra] (XI D cs wi) D d [(ra, .inr (11, [.ref (sa 2), .int rz, .int rat, .int rtk, .int rfr, .int rva, .ref (ma 0)])), ((sa 2), .inl (d 1, 110, .inl TA))] (fun (_ : Unit) => True) (fun _ => [(ra, .inr (11, [.ref (sa 2), .int rz, .int res.1, .int res.2.1, .int res.2.2.1, .int res.2.2.2, .ref (ma 0)])), ((sa 2), .inl (d 1, 110, .inl TA))]) := by
  have hX := XI.ok (D := D) (cs := cs) (wi := wi)
  refine MetV.of (by decide +kernel) (Nat.le_of_ble_eq_true rfl) ?_
  intro p e s m below meth c A cx hw ls hl
  have cx : Cx p s m _ meth c (XI D cs wi) D d A "DishLift$Reader" cX12_next 2 none "next" := cx
  have cx' := cx
  obtain ⟨hx, hb, hr, hlk, hml, hown, hts, hK, hA, hXs, hnm⟩ := cx'
  have hl : lv_has ls 2 [(0, .ref ra)] := hl
  generalize hlo : ([] : List Loc) = locs at hw ⊢
  unfold fX12_next at hf
  refine lv_aload_n hx hb dX12_next_0 rfl (lv_at hl 0 rfl) ?_
  refine lv_aload_n hx hb dX12_next_1 rfl (lv_at hl 0 rfl) ?_
  refine va_get (ci := 11) (C := RX12) (T := TX12) (N := 7) hx hb hts in_X12 hown hK hw.1 0 rfl rfl 2 (by decide) (hts _ q520) (fun _ h9 => h9) rfl dX12_next_2 ?_
  refine va_put (ci := 11) (v := .int rat) (ty := .int) (C := RX12) (T := TX12) (N := 7) hx hb hts in_X12 tyX12 tyX12_ok nmX12 hown hK hw.1 hw.2.1 hw.2.2 0 rfl rfl 4 (by decide) (hts _ q522) (fun _ h9 => h9) rfl (by decide +kernel) rfl rfl (Nat.le_of_ble_eq_true rfl) dX12_next_5 (fun H locs hP hD hS => ?_)
  have hw : Wd D A s [(ra, .inr (11, [.ref (sa 2), .int rz, .int rat, .int rtk, .int rat, .int rva, .ref (ma 0)])), ((sa 2), .inl (d 1, 110, .inl TA))] H locs := ⟨hP, hD, hS⟩
  refine lv_aload_n hx hb dX12_next_8 rfl (lv_at hl 0 rfl) ?_
  obtain ⟨q1, hcq1, hf⟩ := op_e hf
  refine x_VI (wr := []) (rest := []) [] hX cx hw hl.1 (mX12_look l  D d cs wi ln lf dk dn him ra sa ma rz rat rtk rat rva TA  q1 hcq1) (lw_V q549 q551 qs5 q104 q552) hd_X12_look ⟨(Nat.le_of_ble_eq_true rfl), (Nat.le_of_ble_eq_true rfl)⟩ (va_recv hK hw.1 (ci := 11) (q0 := 0) rfl rfl) rfl rfl (Nat.le_of_ble_eq_true rfl) dX12_next_9 [0, 1] [] rfl rfl rfl rfl (by decide) ⟨(Nat.le_of_ble_eq_true rfl), (Nat.le_of_ble_eq_true rfl)⟩ (fun r u H locs hp hw => ?_)
  have hw : Wd D A s [(ra, .inr (11, [.ref (sa 2), .int rz, .int rat, .int rtk, .int rat, .int rva, .ref (ma 0)])), ((sa 2), .inl (d 1, 110, .inl TA))] H locs := hw
  subst r
  refine lv_istore_n (lv' := [(1, .int q1), (0, .ref ra)]) hx hb dX12_next_12 rfl hl (by decide) rfl (fun ls hl => ?_)
  refine lv_aload_n hx hb dX12_next_13 rfl (lv_at hl 1 rfl) ?_
  refine lv_iload_n hx hb dX12_next_14 rfl (lv_at hl 0 rfl) ?_
  refine va_put (ci := 11) (v := .int q1) (ty := .int) (C := RX12) (T := TX12) (N := 7) hx hb hts in_X12 tyX12 tyX12_ok nmX12 hown hK hw.1 hw.2.1 hw.2.2 0 rfl rfl 5 (by decide) (hts _ q523) (fun _ h9 => h9) rfl (by decide +kernel) rfl rfl (Nat.le_of_ble_eq_true rfl) dX12_next_15 (fun H locs hP hD hS => ?_)
  have hw : Wd D A s [(ra, .inr (11, [.ref (sa 2), .int rz, .int rat, .int rtk, .int rat, .int q1, .ref (ma 0)])), ((sa 2), .inl (d 1, 110, .inl TA))] H locs := ⟨hP, hD, hS⟩
  refine lv_iload_n hx hb dX12_next_18 rfl (lv_at hl 0 rfl) ?_
  refine lv_ldc (v := (-1000000)) hx hb hown (hts _ q553) dX12_next_19 ?_
  refine lv_icmp_ne (tgt := 32) hx hb dX12_next_21 (by decide) (fun c21 => ?_) (fun c21 => ?_)
  · have hf := if_f hf c21
    refine lv_iload_n hx hb dX12_next_32 rfl (lv_at hl 0 rfl) ?_
    refine lv_i2l (v := q1.toInt64) hx hb dX12_next_33 rfl ?_
    refine lv_ldc2 (v := 48) hx hb hown (hts _ q554) dX12_next_34 ?_
    refine lv_ldc2 (v := 57) hx hb hown (hts _ q555) dX12_next_37 ?_
    obtain ⟨q2, hcq2, hf⟩ := op_e hf
    refine x_SNI (wr := [(ra, .inr (11, [.ref (sa 2), .int rz, .int rat, .int rtk, .int rat, .int q1, .ref (ma 0)])), ((sa 2), .inl (d 1, 110, .inl TA))]) (rest := []) [.long q1.toInt64, .long 48, .long 57] hX cx hw hl.1 (mX0_isIn l (XI D cs wi) hX D d  q1.toInt64 48 57  q2 hcq2) q348 (Tb.nestM q556 hXs.1) q347 q82 hd_X0_isIn ⟨(Nat.le_of_ble_eq_true rfl), (Nat.le_of_ble_eq_true rfl)⟩ rfl rfl (Nat.le_of_ble_eq_true rfl) dX12_next_40 [] [0, 1] rfl rfl rfl rfl (by decide) ⟨(Nat.le_of_ble_eq_true rfl), (Nat.le_of_ble_eq_true rfl)⟩ (fun r u H locs hp hw => ?_)
    have hw : Wd D A s [(ra, .inr (11, [.ref (sa 2), .int rz, .int rat, .int rtk, .int rat, .int q1, .ref (ma 0)])), ((sa 2), .inl (d 1, 110, .inl TA))] H locs := hw
    subst r
    refine lv_if_eq (tgt := 145) hx hb dX12_next_43 (by decide) (fun c43 => ?_) (fun c43 => ?_)
    · have hf := if_t hf c43
      refine lv_aload_n hx hb dX12_next_145 rfl (lv_at hl 1 rfl) ?_
      refine lv_dup hx hb dX12_next_146 rfl ?_
      refine va_get (ci := 11) (C := RX12) (T := TX12) (N := 7) hx hb hts in_X12 hown hK hw.1 0 rfl rfl 2 (by decide) (hts _ q520) (fun _ h9 => h9) rfl dX12_next_147 ?_
      refine lv_iconst (v := 1) hx hb dX12_next_150 (by decide) ?_
      refine lv_iadd hx hb dX12_next_151 ?_
      refine va_put (ci := 11) (v := .int (rat + 1)) (ty := .int) (C := RX12) (T := TX12) (N := 7) hx hb hts in_X12 tyX12 tyX12_ok nmX12 hown hK hw.1 hw.2.1 hw.2.2 0 rfl rfl 2 (by decide) (hts _ q520) (fun _ h9 => h9) rfl (by decide +kernel) rfl rfl (Nat.le_of_ble_eq_true rfl) dX12_next_152 (fun H locs hP hD hS => ?_)
      have hw : Wd D A s [(ra, .inr (11, [.ref (sa 2), .int rz, .int (rat + 1), .int rtk, .int rat, .int q1, .ref (ma 0)])), ((sa 2), .inl (d 1, 110, .inl TA))] H locs := ⟨hP, hD, hS⟩
      refine lv_aload_n hx hb dX12_next_155 rfl (lv_at hl 1 rfl) ?_
      refine lv_iload_n hx hb dX12_next_156 rfl (lv_at hl 0 rfl) ?_
      refine lv_i2l (v := q1.toInt64) hx hb dX12_next_157 rfl ?_
      refine lv_ldc2 (v := 97) hx hb hown (hts _ q557) dX12_next_158 ?_
      refine lv_ldc2 (v := 122) hx hb hown (hts _ q558) dX12_next_161 ?_
      obtain ⟨q3, hcq3, hf⟩ := op_e hf
      refine x_SNI (wr := [(ra, .inr (11, [.ref (sa 2), .int rz, .int (rat + 1), .int rtk, .int rat, .int q1, .ref (ma 0)])), ((sa 2), .inl (d 1, 110, .inl TA))]) (rest := [.ref ra]) [.long q1.toInt64, .long 97, .long 122] hX cx hw hl.1 (mX0_isIn l (XI D cs wi) hX D d  q1.toInt64 97 122  q3 hcq3) q348 (Tb.nestM q556 hXs.1) q347 q82 hd_X0_isIn ⟨(Nat.le_of_ble_eq_true rfl), (Nat.le_of_ble_eq_true rfl)⟩ rfl rfl (Nat.le_of_ble_eq_true rfl) dX12_next_164 [] [0, 1] rfl rfl rfl rfl (by decide) ⟨(Nat.le_of_ble_eq_true rfl), (Nat.le_of_ble_eq_true rfl)⟩ (fun r u H locs hp hw => ?_)
      have hw : Wd D A s [(ra, .inr (11, [.ref (sa 2), .int rz, .int (rat + 1), .int rtk, .int rat, .int q1, .ref (ma 0)])), ((sa 2), .inl (d 1, 110, .inl TA))] H locs := hw
      subst r
      obtain ⟨j4, hjA, hjR⟩ := op_e hf
      refine x_join (A := A) (D := D) (J := 195) (nL := 2) (cells' := 0) (slots' := 0) (st := [.int j4, .ref ra]) [(ra, .inr (11, [.ref (sa 2), .int rz, .int (rat + 1), .int rtk, .int rat, .int q1, .ref (ma 0)])), ((sa 2), .inl (d 1, 110, .inl TA))] [] (fun H locs ls hw hl => ?_) (fun hKj195_j4 => ?_)
      · have hf := hjR
        refine va_put (ci := 11) (v := .int j4) (ty := .int) (C := RX12) (T := TX12) (N := 7) hx hb hts in_X12 tyX12 tyX12_ok nmX12 hown hK hw.1 hw.2.1 hw.2.2 0 rfl rfl 3 (by decide) (hts _ q521) (fun _ h9 => h9) rfl (by decide +kernel) rfl rfl (Nat.le_of_ble_eq_true rfl) dX12_next_195 (fun H locs hP hD hS => ?_)
        have hw : Wd D A s [(ra, .inr (11, [.ref (sa 2), .int rz, .int (rat + 1), .int j4, .int rat, .int q1, .ref (ma 0)])), ((sa 2), .inl (d 1, 110, .inl TA))] H locs := ⟨hP, hD, hS⟩
        have hf := sm_e hf
        subst hf
        exact x_retV cx hw () trivial [0, 1] rfl rfl (Nat.le_of_ble_eq_true rfl) (Nat.le_of_ble_eq_true rfl) dX12_next_198
      · have hf := hjA
        refine lv_if_eq (tgt := 174) hx hb dX12_next_167 (by decide) (fun c167 => ?_) (fun c167 => ?_)
        · have hf := if_t hf c167
          refine lv_iload_n hx hb dX12_next_174 rfl (lv_at hl 0 rfl) ?_
          refine lv_bipush (v := 44) hx hb dX12_next_175 (by decide) ?_
          refine lv_icmp_ne (tgt := 184) hx hb dX12_next_177 (by decide) (fun c177 => ?_) (fun c177 => ?_)
          · have hf := if_f hf c177
            refine lv_iload_n hx hb dX12_next_184 rfl (lv_at hl 0 rfl) ?_
            refine lv_bipush (v := 59) hx hb dX12_next_185 (by decide) ?_
            refine lv_icmp_ne (tgt := 194) hx hb dX12_next_187 (by decide) (fun c187 => ?_) (fun c187 => ?_)
            · have hf := if_f hf c187
              refine lv_iconst (v := 5) hx hb dX12_next_194 (by decide) ?_
              have hf := sm_e hf
              subst hf
              exact hKj195_j4 _ _ _ hw (lv_sub hl [] rfl)
            · have hf := if_t hf c187
              refine lv_iconst (v := 4) hx hb dX12_next_190 (by decide) ?_
              refine lv_goto (tgt := 195) hx hb dX12_next_191 (by decide) ?_
              have hf := sm_e hf
              subst hf
              exact hKj195_j4 _ _ _ hw (lv_sub hl [] rfl)
          · have hf := if_t hf c177
            refine lv_iconst (v := 3) hx hb dX12_next_180 (by decide) ?_
            refine lv_goto (tgt := 195) hx hb dX12_next_181 (by decide) ?_
            have hf := sm_e hf
            subst hf
            exact hKj195_j4 _ _ _ hw (lv_sub hl [] rfl)
        · have hf := if_f hf c167
          refine lv_iconst (v := 1) hx hb dX12_next_170 (by decide) ?_
          refine lv_goto (tgt := 195) hx hb dX12_next_171 (by decide) ?_
          have hf := sm_e hf
          subst hf
          exact hKj195_j4 _ _ _ hw (lv_sub hl [] rfl)
    · have hf := if_f hf c43
      refine lv_aload_n hx hb dX12_next_46 rfl (lv_at hl 1 rfl) ?_
      refine lv_iconst (v := 0) hx hb dX12_next_47 (by decide) ?_
      refine va_put (ci := 11) (v := .int 0) (ty := .int) (C := RX12) (T := TX12) (N := 7) hx hb hts in_X12 tyX12 tyX12_ok nmX12 hown hK hw.1 hw.2.1 hw.2.2 0 rfl rfl 5 (by decide) (hts _ q523) (fun _ h9 => h9) rfl (by decide +kernel) rfl rfl (Nat.le_of_ble_eq_true rfl) dX12_next_48 (fun H locs hP hD hS => ?_)
      have hw : Wd D A s [(ra, .inr (11, [.ref (sa 2), .int rz, .int rat, .int rtk, .int rat, .int 0, .ref (ma 0)])), ((sa 2), .inl (d 1, 110, .inl TA))] H locs := ⟨hP, hD, hS⟩
      obtain ⟨r5, hlp51, hf⟩ := op_e hf
      refine x_join (A := A) (D := D) (J := 120) (nL := 2) (cells' := 0) (slots' := 0) (st := []) [(ra, .inr (11, [.ref (sa 2), .int rz, .int r5.1, .int rtk, .int rat, .int r5.2, .ref (ma 0)])), ((sa 2), .inl (d 1, 110, .inl TA))] [(0, .ref ra)] (fun H locs ls hw hl => ?_) (fun hK51 => ?_)
      · refine lv_aload_n hx hb dX12_next_120 rfl (lv_at hl 0 rfl) ?_
        refine lv_aload_n hx hb dX12_next_121 rfl (lv_at hl 0 rfl) ?_
        refine va_get (ci := 11) (C := RX12) (T := TX12) (N := 7) hx hb hts in_X12 hown hK hw.1 0 rfl rfl 2 (by decide) (hts _ q520) (fun _ h9 => h9) rfl dX12_next_122 ?_
        refine lv_aload_n hx hb dX12_next_125 rfl (lv_at hl 0 rfl) ?_
        refine va_get (ci := 11) (C := RX12) (T := TX12) (N := 7) hx hb hts in_X12 hown hK hw.1 0 rfl rfl 4 (by decide) (hts _ q522) (fun _ h9 => h9) rfl dX12_next_126 ?_
        refine lv_isub hx hb dX12_next_129 ?_
        refine lv_iconst (v := 2) hx hb dX12_next_130 (by decide) ?_
        obtain ⟨j6, hjA, hjR⟩ := op_e hf
        refine x_join (A := A) (D := D) (J := 139) (nL := 2) (cells' := 0) (slots' := 0) (st := [.int j6, .ref ra]) [(ra, .inr (11, [.ref (sa 2), .int rz, .int r5.1, .int rtk, .int rat, .int r5.2, .ref (ma 0)])), ((sa 2), .inl (d 1, 110, .inl TA))] [] (fun H locs ls hw hl => ?_) (fun hKj139_j6 => ?_)
        · have hf := hjR
          refine va_put (ci := 11) (v := .int j6) (ty := .int) (C := RX12) (T := TX12) (N := 7) hx hb hts in_X12 tyX12 tyX12_ok nmX12 hown hK hw.1 hw.2.1 hw.2.2 0 rfl rfl 3 (by decide) (hts _ q521) (fun _ h9 => h9) rfl (by decide +kernel) rfl rfl (Nat.le_of_ble_eq_true rfl) dX12_next_139 (fun H locs hP hD hS => ?_)
          have hw : Wd D A s [(ra, .inr (11, [.ref (sa 2), .int rz, .int r5.1, .int j6, .int rat, .int r5.2, .ref (ma 0)])), ((sa 2), .inl (d 1, 110, .inl TA))] H locs := ⟨hP, hD, hS⟩
          refine lv_goto (tgt := 198) hx hb dX12_next_142 (by decide) ?_
          have hf := sm_e hf
          subst hf
          exact x_retV cx hw () trivial [0, 1] rfl rfl (Nat.le_of_ble_eq_true rfl) (Nat.le_of_ble_eq_true rfl) dX12_next_198
        · have hf := hjA
          refine lv_icmp_gt (tgt := 138) hx hb dX12_next_131 (by decide) (fun c131 => ?_) (fun c131 => ?_)
          · have hf := if_t hf c131
            refine lv_iconst (v := 5) hx hb dX12_next_138 (by decide) ?_
            have hf := sm_e hf
            subst hf
            exact hKj139_j6 _ _ _ hw (lv_sub hl [] rfl)
          · have hf := if_f hf c131
            refine lv_iconst (v := 2) hx hb dX12_next_134 (by decide) ?_
            refine lv_goto (tgt := 139) hx hb dX12_next_135 (by decide) ?_
            have hf := sm_e hf
            subst hf
            exact hKj139_j6 _ _ _ hw (lv_sub hl [] rfl)
      · refine x_lp hlp51 (fun x51 => [(ra, .inr (11, [.ref (sa 2), .int rz, .int x51.1, .int rtk, .int rat, .int x51.2, .ref (ma 0)])), ((sa 2), .inl (d 1, 110, .inl TA))]) (fun x51 => [(0, .ref ra)]) hw (lv_sub hl [1] rfl) (fun x51 y51 hf hin51 hout51 H locs ls hw hl => ?_)
        have hw : Wd D A s [(ra, .inr (11, [.ref (sa 2), .int rz, .int x51.1, .int rtk, .int rat, .int x51.2, .ref (ma 0)])), ((sa 2), .inl (d 1, 110, .inl TA))] H locs := hw
        have hl : lv_has ls 2 [(0, .ref ra)] := hl
        refine lv_aload_n hx hb dX12_next_51 rfl (lv_at hl 0 rfl) ?_
        obtain ⟨q7, hcq7, hf⟩ := op_e hf
        refine x_VI (wr := []) (rest := []) [] hX cx hw hl.1 (mX12_look l  D d cs wi ln lf dk dn him ra sa ma rz x51.1 rtk rat x51.2 TA  q7 hcq7) (lw_V q549 q551 qs5 q104 q552) hd_X12_look ⟨(Nat.le_of_ble_eq_true rfl), (Nat.le_of_ble_eq_true rfl)⟩ (va_recv hK hw.1 (ci := 11) (q0 := 0) rfl rfl) rfl rfl (Nat.le_of_ble_eq_true rfl) dX12_next_52 [0, 1] [] rfl rfl rfl rfl (by decide) ⟨(Nat.le_of_ble_eq_true rfl), (Nat.le_of_ble_eq_true rfl)⟩ (fun r u H locs hp hw => ?_)
        have hw : Wd D A s [(ra, .inr (11, [.ref (sa 2), .int rz, .int x51.1, .int rtk, .int rat, .int x51.2, .ref (ma 0)])), ((sa 2), .inl (d 1, 110, .inl TA))] H locs := hw
        subst r
        refine lv_i2l (v := q7.toInt64) hx hb dX12_next_55 rfl ?_
        refine lv_ldc2 (v := 48) hx hb hown (hts _ q554) dX12_next_56 ?_
        refine lv_ldc2 (v := 57) hx hb hown (hts _ q555) dX12_next_59 ?_
        obtain ⟨q8, hcq8, hf⟩ := op_e hf
        refine x_SNI (wr := [(ra, .inr (11, [.ref (sa 2), .int rz, .int x51.1, .int rtk, .int rat, .int x51.2, .ref (ma 0)])), ((sa 2), .inl (d 1, 110, .inl TA))]) (rest := []) [.long q7.toInt64, .long 48, .long 57] hX cx hw hl.1 (mX0_isIn l (XI D cs wi) hX D d  q7.toInt64 48 57  q8 hcq8) q348 (Tb.nestM q556 hXs.1) q347 q82 hd_X0_isIn ⟨(Nat.le_of_ble_eq_true rfl), (Nat.le_of_ble_eq_true rfl)⟩ rfl rfl (Nat.le_of_ble_eq_true rfl) dX12_next_62 [] [0, 1] rfl rfl rfl rfl (by decide) ⟨(Nat.le_of_ble_eq_true rfl), (Nat.le_of_ble_eq_true rfl)⟩ (fun r u H locs hp hw => ?_)
        have hw : Wd D A s [(ra, .inr (11, [.ref (sa 2), .int rz, .int x51.1, .int rtk, .int rat, .int x51.2, .ref (ma 0)])), ((sa 2), .inl (d 1, 110, .inl TA))] H locs := hw
        subst r
        refine lv_if_eq (tgt := 120) hx hb dX12_next_65 (by decide) (fun c65 => ?_) (fun c65 => ?_)
        · have hf := if_t hf c65
          have hf := sm_e hf
          subst hf
          have hz := hout51 _ rfl
          subst hz
          exact hK51 _ _ _ hw hl
        · have hf := if_f hf c65
          refine lv_aload_n hx hb dX12_next_68 rfl (lv_at hl 0 rfl) ?_
          refine lv_aload_n hx hb dX12_next_69 rfl (lv_at hl 0 rfl) ?_
          refine va_get (ci := 11) (C := RX12) (T := TX12) (N := 7) hx hb hts in_X12 hown hK hw.1 0 rfl rfl 2 (by decide) (hts _ q520) (fun _ h9 => h9) rfl dX12_next_70 ?_
          refine lv_aload_n hx hb dX12_next_73 rfl (lv_at hl 0 rfl) ?_
          refine va_get (ci := 11) (C := RX12) (T := TX12) (N := 7) hx hb hts in_X12 hown hK hw.1 0 rfl rfl 4 (by decide) (hts _ q522) (fun _ h9 => h9) rfl dX12_next_74 ?_
          refine lv_isub hx hb dX12_next_77 ?_
          refine lv_iconst (v := 2) hx hb dX12_next_78 (by decide) ?_
          obtain ⟨j9, hjA, hjR⟩ := op_e hf
          refine x_join (A := A) (D := D) (J := 104) (nL := 2) (cells' := 0) (slots' := 0) (st := [.int j9, .ref ra]) [(ra, .inr (11, [.ref (sa 2), .int rz, .int x51.1, .int rtk, .int rat, .int x51.2, .ref (ma 0)])), ((sa 2), .inl (d 1, 110, .inl TA))] [(0, .ref ra)] (fun H locs ls hw hl => ?_) (fun hKj104_j9 => ?_)
          · have hf := hjR
            refine va_put (ci := 11) (v := .int j9) (ty := .int) (C := RX12) (T := TX12) (N := 7) hx hb hts in_X12 tyX12 tyX12_ok nmX12 hown hK hw.1 hw.2.1 hw.2.2 0 rfl rfl 5 (by decide) (hts _ q523) (fun _ h9 => h9) rfl (by decide +kernel) rfl rfl (Nat.le_of_ble_eq_true rfl) dX12_next_104 (fun H locs hP hD hS => ?_)
            have hw : Wd D A s [(ra, .inr (11, [.ref (sa 2), .int rz, .int x51.1, .int rtk, .int rat, .int j9, .ref (ma 0)])), ((sa 2), .inl (d 1, 110, .inl TA))] H locs := ⟨hP, hD, hS⟩
            refine lv_aload_n hx hb dX12_next_107 rfl (lv_at hl 0 rfl) ?_
            refine lv_dup hx hb dX12_next_108 rfl ?_
            refine va_get (ci := 11) (C := RX12) (T := TX12) (N := 7) hx hb hts in_X12 hown hK hw.1 0 rfl rfl 2 (by decide) (hts _ q520) (fun _ h9 => h9) rfl dX12_next_109 ?_
            refine lv_iconst (v := 1) hx hb dX12_next_112 (by decide) ?_
            refine lv_iadd hx hb dX12_next_113 ?_
            refine va_put (ci := 11) (v := .int (x51.1 + 1)) (ty := .int) (C := RX12) (T := TX12) (N := 7) hx hb hts in_X12 tyX12 tyX12_ok nmX12 hown hK hw.1 hw.2.1 hw.2.2 0 rfl rfl 2 (by decide) (hts _ q520) (fun _ h9 => h9) rfl (by decide +kernel) rfl rfl (Nat.le_of_ble_eq_true rfl) dX12_next_114 (fun H locs hP hD hS => ?_)
            have hw : Wd D A s [(ra, .inr (11, [.ref (sa 2), .int rz, .int (x51.1 + 1), .int rtk, .int rat, .int j9, .ref (ma 0)])), ((sa 2), .inl (d 1, 110, .inl TA))] H locs := ⟨hP, hD, hS⟩
            refine lv_goto (tgt := 51) hx hb dX12_next_117 (by decide) ?_
            have hf := sm_e hf
            subst hf
            exact hin51 _ rfl _ _ _ hw hl
          · have hf := hjA
            refine lv_icmp_ge (tgt := 100) hx hb dX12_next_79 (by decide) (fun c79 => ?_) (fun c79 => ?_)
            · have hf := if_t hf c79
              refine lv_aload_n hx hb dX12_next_100 rfl (lv_at hl 0 rfl) ?_
              refine va_get (ci := 11) (C := RX12) (T := TX12) (N := 7) hx hb hts in_X12 hown hK hw.1 0 rfl rfl 5 (by decide) (hts _ q523) (fun _ h9 => h9) rfl dX12_next_101 ?_
              have hf := sm_e hf
              subst hf
              exact hKj104_j9 _ _ _ hw hl
            · have hf := if_f hf c79
              refine lv_bipush (v := 10) hx hb dX12_next_82 (by decide) ?_
              refine lv_aload_n hx hb dX12_next_84 rfl (lv_at hl 0 rfl) ?_
              refine va_get (ci := 11) (C := RX12) (T := TX12) (N := 7) hx hb hts in_X12 hown hK hw.1 0 rfl rfl 5 (by decide) (hts _ q523) (fun _ h9 => h9) rfl dX12_next_85 ?_
              refine lv_imul hx hb dX12_next_88 ?_
              refine lv_aload_n hx hb dX12_next_89 rfl (lv_at hl 0 rfl) ?_
              obtain ⟨q10, hcq10, hf⟩ := op_e hf
              refine x_VI (wr := []) (rest := [.int (10 * x51.2), .ref ra]) [] hX cx hw hl.1 (mX12_look l  D d cs wi ln lf dk dn him ra sa ma rz x51.1 rtk rat x51.2 TA  q10 hcq10) (lw_V q549 q551 qs5 q104 q552) hd_X12_look ⟨(Nat.le_of_ble_eq_true rfl), (Nat.le_of_ble_eq_true rfl)⟩ (va_recv hK hw.1 (ci := 11) (q0 := 0) rfl rfl) rfl rfl (Nat.le_of_ble_eq_true rfl) dX12_next_90 [0, 1] [] rfl rfl rfl rfl (by decide) ⟨(Nat.le_of_ble_eq_true rfl), (Nat.le_of_ble_eq_true rfl)⟩ (fun r u H locs hp hw => ?_)
              have hw : Wd D A s [(ra, .inr (11, [.ref (sa 2), .int rz, .int x51.1, .int rtk, .int rat, .int x51.2, .ref (ma 0)])), ((sa 2), .inl (d 1, 110, .inl TA))] H locs := hw
              subst r
              refine lv_iadd hx hb dX12_next_93 ?_
              refine lv_bipush (v := 48) hx hb dX12_next_94 (by decide) ?_
              refine lv_isub hx hb dX12_next_96 ?_
              refine lv_goto (tgt := 104) hx hb dX12_next_97 (by decide) ?_
              have hf := sm_e hf
              subst hf
              exact hKj104_j9 _ _ _ hw hl
  · have hf := if_t hf c21
    refine lv_aload_n hx hb dX12_next_24 rfl (lv_at hl 1 rfl) ?_
    refine lv_iconst (v := 0) hx hb dX12_next_25 (by decide) ?_
    refine va_put (ci := 11) (v := .int 0) (ty := .int) (C := RX12) (T := TX12) (N := 7) hx hb hts in_X12 tyX12 tyX12_ok nmX12 hown hK hw.1 hw.2.1 hw.2.2 0 rfl rfl 3 (by decide) (hts _ q521) (fun _ h9 => h9) rfl (by decide +kernel) rfl rfl (Nat.le_of_ble_eq_true rfl) dX12_next_26 (fun H locs hP hD hS => ?_)
    have hw : Wd D A s [(ra, .inr (11, [.ref (sa 2), .int rz, .int rat, .int 0, .int rat, .int q1, .ref (ma 0)])), ((sa 2), .inl (d 1, 110, .inl TA))] H locs := ⟨hP, hD, hS⟩
    refine lv_goto (tgt := 198) hx hb dX12_next_29 (by decide) ?_
    have hf := sm_e hf
    subst hf
    exact x_retV cx hw () trivial [0, 1] rfl rfl (Nat.le_of_ble_eq_true rfl) (Nat.le_of_ble_eq_true rfl) dX12_next_198
theorem hd_X12_figure : yX12_figure.cls = "DishLift$Reader" ∧ yX12_figure.cls ≠ "java/lang/invoke/MethodHandle" ∧ yX12_figure.cls ≠ "java/lang/invoke/VarHandle" ∧ (parseMethodDescriptor yX12_figure.desc).map (fun d => d.parameters.length) = some 2 := by decide +kernel
set_option maxHeartbeats 4000000 in
theorem mX12_figure (l : Launch) (D : va_G) (d : Nat → ClassId) (cs : Nat → Nat) (wi : va_W) (ln : Nat → Option Int32) (lf : Nat → Nat → Option Nat) (dk : Nat → Option Nat) (dn : Nat → Int32) (him : ImF d wi ln lf dk dn) (ra : Nat) (sa : Nat → Nat) (ma : Nat → Nat) (rz : Int32) (rat : Int32) (rtk : Int32) (rfr : Int32) (rva : Int32) (TA : Nat → Int32) (p1 : Int32) (p2 : Int32)  (res : Int32 × Int32 × Int32 × Int32 × Int32) (hf : fX12_figure rz rat rtk rfr rva TA p1 p2 = some (.inl res)) : MetI l yX12_figure (ws_ yX12_figure cX12_figure 4 (some .int)) { frames := 5, cells := 0, slots := 0, locals := 132 } [.ref ra, .int p1, .int p2] (XI D cs wi) D d [(ra, .inr (11, [.ref (sa 2), .int rz, .int rat, .int rtk, .int rfr, .int rva, .ref (ma 0)])), ((sa 2), .inl (d 1, 110, .inl TA))] (fun r (_ : Unit) => r = res.1) (fun _ => [(ra, .inr (11, [.ref (sa 2), .int rz, .int res.2.1, .int res.2.2.1, .int res.2.2.2.1, .int res.2.2.2.2, .ref (ma 0)])), ((sa 2), .inl (d 1, 110, .inl TA))]) := by
  have hX := XI.ok (D := D) (cs := cs) (wi := wi)
  refine MetI.of (by decide +kernel) (Nat.le_of_ble_eq_true rfl) ?_
  intro p e s m below meth c A cx hw ls hl
  have cx : Cx p s m _ meth c (XI D cs wi) D d A "DishLift$Reader" cX12_figure 4 (some .int) "figure" := cx
  have cx' := cx
  obtain ⟨hx, hb, hr, hlk, hml, hown, hts, hK, hA, hXs, hnm⟩ := cx'
  have hl : lv_has ls 4 [(0, .ref ra), (1, .int p1), (2, .int p2)] := hl
  generalize hlo : ([] : List Loc) = locs at hw ⊢
  unfold fX12_figure at hf
  refine lv_aload_n hx hb dX12_figure_0 rfl (lv_at hl 0 rfl) ?_
  refine lv_aload_n hx hb dX12_figure_1 rfl (lv_at hl 0 rfl) ?_
  refine va_get (ci := 11) (C := RX12) (T := TX12) (N := 7) hx hb hts in_X12 hown hK hw.1 0 rfl rfl 3 (by decide) (hts _ q521) (fun _ h9 => h9) rfl dX12_figure_2 ?_
  refine lv_iconst (v := 2) hx hb dX12_figure_5 (by decide) ?_
  obtain ⟨j1, hjA, hjR⟩ := op_e hf
  refine x_join (A := A) (D := D) (J := 14) (nL := 4) (cells' := 0) (slots' := 0) (st := [.int j1, .ref ra]) [(ra, .inr (11, [.ref (sa 2), .int rz, .int rat, .int rtk, .int rfr, .int rva, .ref (ma 0)])), ((sa 2), .inl (d 1, 110, .inl TA))] [(0, .ref ra), (1, .int p1), (2, .int p2)] (fun H locs ls hw hl => ?_) (fun hKj14_j1 => ?_)
  · have hf := hjR
    refine lv_iconst (v := 1) hx hb dX12_figure_14 (by decide) ?_
    obtain ⟨r3, hcr3, hf⟩ := op_e hf
    rcases r3 with q4 | e5
    · refine x_VV (wr := [((sa 2), .inl (d 1, 110, .inl TA))]) (rest := []) [.int j1, .int 1] hX cx hw hl.1 (mX12_must l D d cs wi ln lf dk dn him ra sa ma rz rat rtk rfr rva j1 1  q4 hcr3) (lw_V q563 q565 qs7 q104 q566) hd_X12_must ⟨(Nat.le_of_ble_eq_true rfl), (Nat.le_of_ble_eq_true rfl)⟩ (va_recv hK hw.1 (ci := 11) (q0 := 0) rfl rfl) rfl rfl (Nat.le_of_ble_eq_true rfl) dX12_figure_15 [0] [1] rfl rfl rfl rfl (by decide) ⟨(Nat.le_of_ble_eq_true rfl), (Nat.le_of_ble_eq_true rfl)⟩ (fun u H locs hp hw => ?_)
      have hw : Wd D A s [((sa 2), .inl (d 1, 110, .inl TA)), (ra, .inr (11, [.ref (sa 2), .int rz, .int rat, .int rtk, .int rfr, .int rva, .ref (ma 0)]))] H locs := hw
      refine lv_aload_n hx hb dX12_figure_18 rfl (lv_at hl 0 rfl) ?_
      refine lv_aload_n hx hb dX12_figure_19 rfl (lv_at hl 0 rfl) ?_
      refine va_get (ci := 11) (C := RX12) (T := TX12) (N := 7) hx hb hts in_X12 hown hK hw.1 1 rfl rfl 5 (by decide) (hts _ q523) (fun _ h9 => h9) rfl dX12_figure_20 ?_
      refine lv_i2l (v := rva.toInt64) hx hb dX12_figure_23 rfl ?_
      refine lv_iload_n hx hb dX12_figure_24 rfl (lv_at hl 1 rfl) ?_
      refine lv_i2l (v := p1.toInt64) hx hb dX12_figure_25 rfl ?_
      refine lv_iload_n hx hb dX12_figure_26 rfl (lv_at hl 2 rfl) ?_
      refine lv_i2l (v := p2.toInt64) hx hb dX12_figure_27 rfl ?_
      obtain ⟨q6, hcq6, hf⟩ := op_e hf
      refine x_SNI (wr := [((sa 2), .inl (d 1, 110, .inl TA)), (ra, .inr (11, [.ref (sa 2), .int rz, .int rat, .int rtk, .int rfr, .int rva, .ref (ma 0)]))]) (rest := [.ref ra]) [.long rva.toInt64, .long p1.toInt64, .long p2.toInt64] hX cx hw hl.1 (mX0_isIn l (XI D cs wi) hX D d  rva.toInt64 p1.toInt64 p2.toInt64  q6 hcq6) q348 (Tb.nestM q556 hXs.1) q347 q82 hd_X0_isIn ⟨(Nat.le_of_ble_eq_true rfl), (Nat.le_of_ble_eq_true rfl)⟩ rfl rfl (Nat.le_of_ble_eq_true rfl) dX12_figure_28 [] [0, 1] rfl rfl rfl rfl (by decide) ⟨(Nat.le_of_ble_eq_true rfl), (Nat.le_of_ble_eq_true rfl)⟩ (fun r u H locs hp hw => ?_)
      have hw : Wd D A s [((sa 2), .inl (d 1, 110, .inl TA)), (ra, .inr (11, [.ref (sa 2), .int rz, .int rat, .int rtk, .int rfr, .int rva, .ref (ma 0)]))] H locs := hw
      subst r
      refine lv_iconst (v := 2) hx hb dX12_figure_31 (by decide) ?_
      obtain ⟨r8, hcr8, hf⟩ := op_e hf
      rcases r8 with q9 | e10
      · refine x_VV (wr := [((sa 2), .inl (d 1, 110, .inl TA))]) (rest := []) [.int q6, .int 2] hX cx hw hl.1 (mX12_must l D d cs wi ln lf dk dn him ra sa ma rz rat rtk rfr rva q6 2  q9 hcr8) (lw_V q563 q565 qs7 q104 q566) hd_X12_must ⟨(Nat.le_of_ble_eq_true rfl), (Nat.le_of_ble_eq_true rfl)⟩ (va_recv hK hw.1 (ci := 11) (q0 := 1) rfl rfl) rfl rfl (Nat.le_of_ble_eq_true rfl) dX12_figure_32 [1] [0] rfl rfl rfl rfl (by decide) ⟨(Nat.le_of_ble_eq_true rfl), (Nat.le_of_ble_eq_true rfl)⟩ (fun u H locs hp hw => ?_)
        have hw : Wd D A s [((sa 2), .inl (d 1, 110, .inl TA)), (ra, .inr (11, [.ref (sa 2), .int rz, .int rat, .int rtk, .int rfr, .int rva, .ref (ma 0)]))] H locs := hw
        refine lv_aload_n hx hb dX12_figure_35 rfl (lv_at hl 0 rfl) ?_
        refine va_get (ci := 11) (C := RX12) (T := TX12) (N := 7) hx hb hts in_X12 hown hK hw.1 1 rfl rfl 5 (by decide) (hts _ q523) (fun _ h9 => h9) rfl dX12_figure_36 ?_
        refine lv_istore_n (lv' := [(3, .int rva), (0, .ref ra), (1, .int p1), (2, .int p2)]) hx hb dX12_figure_39 rfl hl (by decide) rfl (fun ls hl => ?_)
        refine lv_aload_n hx hb dX12_figure_40 rfl (lv_at hl 1 rfl) ?_
        obtain ⟨q11, hcq11, hf⟩ := op_e hf
        refine x_VV (wr := []) (rest := []) [] hX cx hw hl.1 (mX12_next l  D d cs wi ln lf dk dn him ra sa ma rz rat rtk rfr rva TA  q11 hcq11) (lw_V q545 q547 qs4 q104 q548) hd_X12_next ⟨(Nat.le_of_ble_eq_true rfl), (Nat.le_of_ble_eq_true rfl)⟩ (va_recv hK hw.1 (ci := 11) (q0 := 1) rfl rfl) rfl rfl (Nat.le_of_ble_eq_true rfl) dX12_figure_41 [1, 0] [] rfl rfl rfl rfl (by decide) ⟨(Nat.le_of_ble_eq_true rfl), (Nat.le_of_ble_eq_true rfl)⟩ (fun u H locs hp hw => ?_)
        have hw : Wd D A s [(ra, .inr (11, [.ref (sa 2), .int rz, .int q11.1, .int q11.2.1, .int q11.2.2.1, .int q11.2.2.2, .ref (ma 0)])), ((sa 2), .inl (d 1, 110, .inl TA))] H locs := hw
        refine lv_iload_n hx hb dX12_figure_44 rfl (lv_at hl 0 rfl) ?_
        have hf := Sum.inl.inj (sm_e hf)
        subst hf
        exact x_retI cx hw rfl () rfl [0, 1] rfl rfl (Nat.le_of_ble_eq_true rfl) (Nat.le_of_ble_eq_true rfl) dX12_figure_45
      · have hf : (some (.inr e10) : Option ((Int32 × Int32 × Int32 × Int32 × Int32) ⊕ (Int32 × Int32))) = some (.inl res) := hf
        cases hf
    · have hf : (some (.inr e5) : Option ((Int32 × Int32 × Int32 × Int32 × Int32) ⊕ (Int32 × Int32))) = some (.inl res) := hf
      cases hf
  · have hf := hjA
    refine lv_icmp_ne (tgt := 13) hx hb dX12_figure_6 (by decide) (fun c6 => ?_) (fun c6 => ?_)
    · have hf := if_f hf c6
      refine lv_iconst (v := 0) hx hb dX12_figure_13 (by decide) ?_
      have hf := sm_e hf
      subst hf
      exact hKj14_j1 _ _ _ hw hl
    · have hf := if_t hf c6
      refine lv_iconst (v := 1) hx hb dX12_figure_9 (by decide) ?_
      refine lv_goto (tgt := 14) hx hb dX12_figure_10 (by decide) ?_
      have hf := sm_e hf
      subst hf
      exact hKj14_j1 _ _ _ hw hl
set_option maxHeartbeats 4000000 in
theorem tX12_figure (l : Launch) (D : va_G) (d : Nat → ClassId) (cs : Nat → Nat) (wi : va_W) (ln : Nat → Option Int32) (lf : Nat → Nat → Option Nat) (dk : Nat → Option Nat) (dn : Nat → Int32) (him : ImF d wi ln lf dk dn) (ra : Nat) (sa : Nat → Nat) (ma : Nat → Nat) (rz : Int32) (rat : Int32) (rtk : Int32) (rfr : Int32) (rva : Int32) (TA : Nat → Int32) (p1 : Int32) (p2 : Int32)  (res : Int32 × Int32) (hf : fX12_figure rz rat rtk rfr rva TA p1 p2 = some (.inr res)) : TMet l yX12_figure (ws_ yX12_figure cX12_figure 4 (some .int)) { frames := 5, cells := 1, slots := 8, locals := 132 } [.ref ra, .int p1, .int p2] (XI D cs wi) D d [(ra, .inr (11, [.ref (sa 2), .int rz, .int rat, .int rtk, .int rfr, .int rva, .ref (ma 0)])), ((sa 2), .inl (d 1, 110, .inl TA))] "DishLift$Fault" (fun q9 (_ : Unit) => [((sa 2), .inl (d 1, 110, .inl TA)), (q9, .inr (13, [.null, .null, .null, .null, .null, .int 0, .int res.1, .int res.2]))]) := by
  have hX := XI.ok (D := D) (cs := cs) (wi := wi)
  refine TMet.of (by decide +kernel) (Nat.le_of_ble_eq_true rfl) ?_
  intro p e s m below meth c A cx hET hw ls hl
  have cx : Cx p s m _ meth c (XI D cs wi) D d A "DishLift$Reader" cX12_figure 4 (some .int) "figure" := cx
  have cx' := cx
  obtain ⟨hx, hb, hr, hlk, hml, hown, hts, hK, hA, hXs, hnm⟩ := cx'
  have hl : lv_has ls 4 [(0, .ref ra), (1, .int p1), (2, .int p2)] := hl
  generalize hlo : ([] : List Loc) = locs at hw ⊢
  unfold fX12_figure at hf
  refine lv_aload_n hx hb dX12_figure_0 rfl (lv_at hl 0 rfl) ?_
  refine lv_aload_n hx hb dX12_figure_1 rfl (lv_at hl 0 rfl) ?_
  refine va_get (ci := 11) (C := RX12) (T := TX12) (N := 7) hx hb hts in_X12 hown hK hw.1 0 rfl rfl 3 (by decide) (hts _ q521) (fun _ h9 => h9) rfl dX12_figure_2 ?_
  refine lv_iconst (v := 2) hx hb dX12_figure_5 (by decide) ?_
  obtain ⟨j1, hjA, hjR⟩ := op_e hf
  refine x_join (A := A) (D := D) (J := 14) (nL := 4) (cells' := 0) (slots' := 0) (st := [.int j1, .ref ra]) [(ra, .inr (11, [.ref (sa 2), .int rz, .int rat, .int rtk, .int rfr, .int rva, .ref (ma 0)])), ((sa 2), .inl (d 1, 110, .inl TA))] [(0, .ref ra), (1, .int p1), (2, .int p2)] (fun H locs ls hw hl => ?_) (fun hKj14_j1 => ?_)
  · have hf := hjR
    refine lv_iconst (v := 1) hx hb dX12_figure_14 (by decide) ?_
    obtain ⟨r3, hcr3, hf⟩ := op_e hf
    rcases r3 with q4 | e5
    · refine x_VV (wr := [((sa 2), .inl (d 1, 110, .inl TA))]) (rest := []) [.int j1, .int 1] hX cx hw hl.1 (mX12_must l D d cs wi ln lf dk dn him ra sa ma rz rat rtk rfr rva j1 1  q4 hcr3) (lw_V q563 q565 qs7 q104 q566) hd_X12_must ⟨(Nat.le_of_ble_eq_true rfl), (Nat.le_of_ble_eq_true rfl)⟩ (va_recv hK hw.1 (ci := 11) (q0 := 0) rfl rfl) rfl rfl (Nat.le_of_ble_eq_true rfl) dX12_figure_15 [0] [1] rfl rfl rfl rfl (by decide) ⟨(Nat.le_of_ble_eq_true rfl), (Nat.le_of_ble_eq_true rfl)⟩ (fun u H locs hp hw => ?_)
      have hw : Wd D A s [((sa 2), .inl (d 1, 110, .inl TA)), (ra, .inr (11, [.ref (sa 2), .int rz, .int rat, .int rtk, .int rfr, .int rva, .ref (ma 0)]))] H locs := hw
      refine lv_aload_n hx hb dX12_figure_18 rfl (lv_at hl 0 rfl) ?_
      refine lv_aload_n hx hb dX12_figure_19 rfl (lv_at hl 0 rfl) ?_
      refine va_get (ci := 11) (C := RX12) (T := TX12) (N := 7) hx hb hts in_X12 hown hK hw.1 1 rfl rfl 5 (by decide) (hts _ q523) (fun _ h9 => h9) rfl dX12_figure_20 ?_
      refine lv_i2l (v := rva.toInt64) hx hb dX12_figure_23 rfl ?_
      refine lv_iload_n hx hb dX12_figure_24 rfl (lv_at hl 1 rfl) ?_
      refine lv_i2l (v := p1.toInt64) hx hb dX12_figure_25 rfl ?_
      refine lv_iload_n hx hb dX12_figure_26 rfl (lv_at hl 2 rfl) ?_
      refine lv_i2l (v := p2.toInt64) hx hb dX12_figure_27 rfl ?_
      obtain ⟨q6, hcq6, hf⟩ := op_e hf
      refine x_SNI (wr := [((sa 2), .inl (d 1, 110, .inl TA)), (ra, .inr (11, [.ref (sa 2), .int rz, .int rat, .int rtk, .int rfr, .int rva, .ref (ma 0)]))]) (rest := [.ref ra]) [.long rva.toInt64, .long p1.toInt64, .long p2.toInt64] hX cx hw hl.1 (mX0_isIn l (XI D cs wi) hX D d  rva.toInt64 p1.toInt64 p2.toInt64  q6 hcq6) q348 (Tb.nestM q556 hXs.1) q347 q82 hd_X0_isIn ⟨(Nat.le_of_ble_eq_true rfl), (Nat.le_of_ble_eq_true rfl)⟩ rfl rfl (Nat.le_of_ble_eq_true rfl) dX12_figure_28 [] [0, 1] rfl rfl rfl rfl (by decide) ⟨(Nat.le_of_ble_eq_true rfl), (Nat.le_of_ble_eq_true rfl)⟩ (fun r u H locs hp hw => ?_)
      have hw : Wd D A s [((sa 2), .inl (d 1, 110, .inl TA)), (ra, .inr (11, [.ref (sa 2), .int rz, .int rat, .int rtk, .int rfr, .int rva, .ref (ma 0)]))] H locs := hw
      subst r
      refine lv_iconst (v := 2) hx hb dX12_figure_31 (by decide) ?_
      obtain ⟨r8, hcr8, hf⟩ := op_e hf
      rcases r8 with q9 | e10
      · refine x_VV (wr := [((sa 2), .inl (d 1, 110, .inl TA))]) (rest := []) [.int q6, .int 2] hX cx hw hl.1 (mX12_must l D d cs wi ln lf dk dn him ra sa ma rz rat rtk rfr rva q6 2  q9 hcr8) (lw_V q563 q565 qs7 q104 q566) hd_X12_must ⟨(Nat.le_of_ble_eq_true rfl), (Nat.le_of_ble_eq_true rfl)⟩ (va_recv hK hw.1 (ci := 11) (q0 := 1) rfl rfl) rfl rfl (Nat.le_of_ble_eq_true rfl) dX12_figure_32 [1] [0] rfl rfl rfl rfl (by decide) ⟨(Nat.le_of_ble_eq_true rfl), (Nat.le_of_ble_eq_true rfl)⟩ (fun u H locs hp hw => ?_)
        have hw : Wd D A s [((sa 2), .inl (d 1, 110, .inl TA)), (ra, .inr (11, [.ref (sa 2), .int rz, .int rat, .int rtk, .int rfr, .int rva, .ref (ma 0)]))] H locs := hw
        refine lv_aload_n hx hb dX12_figure_35 rfl (lv_at hl 0 rfl) ?_
        refine va_get (ci := 11) (C := RX12) (T := TX12) (N := 7) hx hb hts in_X12 hown hK hw.1 1 rfl rfl 5 (by decide) (hts _ q523) (fun _ h9 => h9) rfl dX12_figure_36 ?_
        refine lv_istore_n (lv' := [(3, .int rva), (0, .ref ra), (1, .int p1), (2, .int p2)]) hx hb dX12_figure_39 rfl hl (by decide) rfl (fun ls hl => ?_)
        refine lv_aload_n hx hb dX12_figure_40 rfl (lv_at hl 1 rfl) ?_
        obtain ⟨q11, hcq11, hf⟩ := op_e hf
        refine x_VV (wr := []) (rest := []) [] hX cx hw hl.1 (mX12_next l  D d cs wi ln lf dk dn him ra sa ma rz rat rtk rfr rva TA  q11 hcq11) (lw_V q545 q547 qs4 q104 q548) hd_X12_next ⟨(Nat.le_of_ble_eq_true rfl), (Nat.le_of_ble_eq_true rfl)⟩ (va_recv hK hw.1 (ci := 11) (q0 := 1) rfl rfl) rfl rfl (Nat.le_of_ble_eq_true rfl) dX12_figure_41 [1, 0] [] rfl rfl rfl rfl (by decide) ⟨(Nat.le_of_ble_eq_true rfl), (Nat.le_of_ble_eq_true rfl)⟩ (fun u H locs hp hw => ?_)
        have hw : Wd D A s [(ra, .inr (11, [.ref (sa 2), .int rz, .int q11.1, .int q11.2.1, .int q11.2.2.1, .int q11.2.2.2, .ref (ma 0)])), ((sa 2), .inl (d 1, 110, .inl TA))] H locs := hw
        cases hf
      · have hf : (some (.inr e10) : Option ((Int32 × Int32 × Int32 × Int32 × Int32) ⊕ (Int32 × Int32))) = some (.inr res) := hf
        have hf := Sum.inr.inj (sm_e hf)
        subst hf
        refine x_TV (wr := [((sa 2), .inl (d 1, 110, .inl TA))]) (rest := []) [.int q6, .int 2] hX cx hw hl.1 (tX12_must l D d cs wi ln lf dk dn him ra sa ma rz rat rtk rfr rva q6 2  e10 hcr8) (lw_V q563 q565 qs7 q104 q566) hd_X12_must ⟨(Nat.le_of_ble_eq_true rfl), (Nat.le_of_ble_eq_true rfl)⟩ (va_recv hK hw.1 (ci := 11) (q0 := 1) rfl rfl) rfl rfl (Nat.le_of_ble_eq_true rfl) dX12_figure_32 [1] [0] rfl rfl rfl rfl (by decide) ⟨(Nat.le_of_ble_eq_true rfl), (Nat.le_of_ble_eq_true rfl)⟩ (fun a7 ce u H locs hw g1 g2 g3 => ?_)
        have hw : Wd D A s [((sa 2), .inl (d 1, 110, .inl TA)), (a7, .inr (13, [.null, .null, .null, .null, .null, .int 0, .int e10.1, .int e10.2]))] H locs := hw
        exact x_out cx hET hw () g1 g2 g3 [0, 1] rfl rfl (Nat.le_of_ble_eq_true rfl) (Nat.le_of_ble_eq_true rfl)
    · have hf : (some (.inr e5) : Option ((Int32 × Int32 × Int32 × Int32 × Int32) ⊕ (Int32 × Int32))) = some (.inr res) := hf
      have hf := Sum.inr.inj (sm_e hf)
      subst hf
      refine x_TV (wr := [((sa 2), .inl (d 1, 110, .inl TA))]) (rest := []) [.int j1, .int 1] hX cx hw hl.1 (tX12_must l D d cs wi ln lf dk dn him ra sa ma rz rat rtk rfr rva j1 1  e5 hcr3) (lw_V q563 q565 qs7 q104 q566) hd_X12_must ⟨(Nat.le_of_ble_eq_true rfl), (Nat.le_of_ble_eq_true rfl)⟩ (va_recv hK hw.1 (ci := 11) (q0 := 0) rfl rfl) rfl rfl (Nat.le_of_ble_eq_true rfl) dX12_figure_15 [0] [1] rfl rfl rfl rfl (by decide) ⟨(Nat.le_of_ble_eq_true rfl), (Nat.le_of_ble_eq_true rfl)⟩ (fun a2 ce u H locs hw g1 g2 g3 => ?_)
      have hw : Wd D A s [((sa 2), .inl (d 1, 110, .inl TA)), (a2, .inr (13, [.null, .null, .null, .null, .null, .int 0, .int e5.1, .int e5.2]))] H locs := hw
      exact x_out cx hET hw () g1 g2 g3 [0, 1] rfl rfl (Nat.le_of_ble_eq_true rfl) (Nat.le_of_ble_eq_true rfl)
  · have hf := hjA
    refine lv_icmp_ne (tgt := 13) hx hb dX12_figure_6 (by decide) (fun c6 => ?_) (fun c6 => ?_)
    · have hf := if_f hf c6
      refine lv_iconst (v := 0) hx hb dX12_figure_13 (by decide) ?_
      have hf := sm_e hf
      subst hf
      exact hKj14_j1 _ _ _ hw hl
    · have hf := if_t hf c6
      refine lv_iconst (v := 1) hx hb dX12_figure_9 (by decide) ?_
      refine lv_goto (tgt := 14) hx hb dX12_figure_10 (by decide) ?_
      have hf := sm_e hf
      subst hf
      exact hKj14_j1 _ _ _ hw hl
theorem hd_X12_sign : yX12_sign.cls = "DishLift$Reader" ∧ yX12_sign.cls ≠ "java/lang/invoke/MethodHandle" ∧ yX12_sign.cls ≠ "java/lang/invoke/VarHandle" ∧ (parseMethodDescriptor yX12_sign.desc).map (fun d => d.parameters.length) = some 1 := by decide +kernel
set_option maxHeartbeats 4000000 in
theorem mX12_sign (l : Launch) (D : va_G) (d : Nat → ClassId) (cs : Nat → Nat) (wi : va_W) (ln : Nat → Option Int32) (lf : Nat → Nat → Option Nat) (dk : Nat → Option Nat) (dn : Nat → Int32) (him : ImF d wi ln lf dk dn) (ra : Nat) (sa : Nat → Nat) (ma : Nat → Nat) (rz : Int32) (rat : Int32) (rtk : Int32) (rfr : Int32) (rva : Int32) (TA : Nat → Int32) (p1 : Int32)  (res : Int32 × Int32 × Int32 × Int32) (hf : fX12_sign rz rat rtk rfr TA p1 = some (.inl res)) : MetV l yX12_sign (ws_ yX12_sign cX12_sign 2 none) { frames := 5, cells := 0, slots := 0, locals := 132 } [.ref ra, .int p1] (XI D cs wi) D d [(ra, .inr (11, [.ref (sa 2), .int rz, .int rat, .int rtk, .int rfr, .int rva, .ref (ma 0)])), ((sa 2), .inl (d 1, 110, .inl TA))] (fun (_ : Unit) => True) (fun _ => [(ra, .inr (11, [.ref (sa 2), .int rz, .int res.1, .int res.2.1, .int res.2.2.1, .int res.2.2.2, .ref (ma 0)])), ((sa 2), .inl (d 1, 110, .inl TA))]) := by
  have hX := XI.ok (D := D) (cs := cs) (wi := wi)
  refine MetV.of (by decide +kernel) (Nat.le_of_ble_eq_true rfl) ?_
  intro p e s m below meth c A cx hw ls hl
  have cx : Cx p s m _ meth c (XI D cs wi) D d A "DishLift$Reader" cX12_sign 2 none "sign" := cx
  have cx' := cx
  obtain ⟨hx, hb, hr, hlk, hml, hown, hts, hK, hA, hXs, hnm⟩ := cx'
  have hl : lv_has ls 2 [(0, .ref ra), (1, .int p1)] := hl
  generalize hlo : ([] : List Loc) = locs at hw ⊢
  unfold fX12_sign at hf
  refine lv_aload_n hx hb dX12_sign_0 rfl (lv_at hl 0 rfl) ?_
  refine lv_aload_n hx hb dX12_sign_1 rfl (lv_at hl 0 rfl) ?_
  refine va_get (ci := 11) (C := RX12) (T := TX12) (N := 7) hx hb hts in_X12 hown hK hw.1 0 rfl rfl 3 (by decide) (hts _ q521) (fun _ h9 => h9) rfl dX12_sign_2 ?_
  refine lv_iload_n hx hb dX12_sign_5 rfl (lv_at hl 1 rfl) ?_
  obtain ⟨j1, hjA, hjR⟩ := op_e hf
  refine x_join (A := A) (D := D) (J := 14) (nL := 2) (cells' := 0) (slots' := 0) (st := [.int j1, .ref ra]) [(ra, .inr (11, [.ref (sa 2), .int rz, .int rat, .int rtk, .int rfr, .int rva, .ref (ma 0)])), ((sa 2), .inl (d 1, 110, .inl TA))] [(0, .ref ra)] (fun H locs ls hw hl => ?_) (fun hKj14_j1 => ?_)
  · have hf := hjR
    refine lv_iconst (v := 1) hx hb dX12_sign_14 (by decide) ?_
    obtain ⟨r3, hcr3, hf⟩ := op_e hf
    rcases r3 with q4 | e5
    · refine x_VV (wr := [((sa 2), .inl (d 1, 110, .inl TA))]) (rest := []) [.int j1, .int 1] hX cx hw hl.1 (mX12_must l D d cs wi ln lf dk dn him ra sa ma rz rat rtk rfr rva j1 1  q4 hcr3) (lw_V q563 q565 qs7 q104 q566) hd_X12_must ⟨(Nat.le_of_ble_eq_true rfl), (Nat.le_of_ble_eq_true rfl)⟩ (va_recv hK hw.1 (ci := 11) (q0 := 0) rfl rfl) rfl rfl (Nat.le_of_ble_eq_true rfl) dX12_sign_15 [0] [1] rfl rfl rfl rfl (by decide) ⟨(Nat.le_of_ble_eq_true rfl), (Nat.le_of_ble_eq_true rfl)⟩ (fun u H locs hp hw => ?_)
      have hw : Wd D A s [((sa 2), .inl (d 1, 110, .inl TA)), (ra, .inr (11, [.ref (sa 2), .int rz, .int rat, .int rtk, .int rfr, .int rva, .ref (ma 0)]))] H locs := hw
      refine lv_aload_n hx hb dX12_sign_18 rfl (lv_at hl 0 rfl) ?_
      obtain ⟨q6, hcq6, hf⟩ := op_e hf
      refine x_VV (wr := []) (rest := []) [] hX cx hw hl.1 (mX12_next l  D d cs wi ln lf dk dn him ra sa ma rz rat rtk rfr rva TA  q6 hcq6) (lw_V q545 q547 qs4 q104 q548) hd_X12_next ⟨(Nat.le_of_ble_eq_true rfl), (Nat.le_of_ble_eq_true rfl)⟩ (va_recv hK hw.1 (ci := 11) (q0 := 1) rfl rfl) rfl rfl (Nat.le_of_ble_eq_true rfl) dX12_sign_19 [1, 0] [] rfl rfl rfl rfl (by decide) ⟨(Nat.le_of_ble_eq_true rfl), (Nat.le_of_ble_eq_true rfl)⟩ (fun u H locs hp hw => ?_)
      have hw : Wd D A s [(ra, .inr (11, [.ref (sa 2), .int rz, .int q6.1, .int q6.2.1, .int q6.2.2.1, .int q6.2.2.2, .ref (ma 0)])), ((sa 2), .inl (d 1, 110, .inl TA))] H locs := hw
      have hf := Sum.inl.inj (sm_e hf)
      subst hf
      exact x_retV cx hw () trivial [0, 1] rfl rfl (Nat.le_of_ble_eq_true rfl) (Nat.le_of_ble_eq_true rfl) dX12_sign_22
    · have hf : (some (.inr e5) : Option ((Int32 × Int32 × Int32 × Int32) ⊕ (Int32 × Int32))) = some (.inl res) := hf
      cases hf
  · have hf := hjA
    refine lv_icmp_ne (tgt := 13) hx hb dX12_sign_6 (by decide) (fun c6 => ?_) (fun c6 => ?_)
    · have hf := if_f hf c6
      refine lv_iconst (v := 0) hx hb dX12_sign_13 (by decide) ?_
      have hf := sm_e hf
      subst hf
      exact hKj14_j1 _ _ _ hw (lv_sub hl [0] rfl)
    · have hf := if_t hf c6
      refine lv_iconst (v := 1) hx hb dX12_sign_9 (by decide) ?_
      refine lv_goto (tgt := 14) hx hb dX12_sign_10 (by decide) ?_
      have hf := sm_e hf
      subst hf
      exact hKj14_j1 _ _ _ hw (lv_sub hl [0] rfl)
set_option maxHeartbeats 4000000 in
theorem tX12_sign (l : Launch) (D : va_G) (d : Nat → ClassId) (cs : Nat → Nat) (wi : va_W) (ln : Nat → Option Int32) (lf : Nat → Nat → Option Nat) (dk : Nat → Option Nat) (dn : Nat → Int32) (him : ImF d wi ln lf dk dn) (ra : Nat) (sa : Nat → Nat) (ma : Nat → Nat) (rz : Int32) (rat : Int32) (rtk : Int32) (rfr : Int32) (rva : Int32) (TA : Nat → Int32) (p1 : Int32)  (res : Int32 × Int32) (hf : fX12_sign rz rat rtk rfr TA p1 = some (.inr res)) : TMet l yX12_sign (ws_ yX12_sign cX12_sign 2 none) { frames := 5, cells := 1, slots := 8, locals := 132 } [.ref ra, .int p1] (XI D cs wi) D d [(ra, .inr (11, [.ref (sa 2), .int rz, .int rat, .int rtk, .int rfr, .int rva, .ref (ma 0)])), ((sa 2), .inl (d 1, 110, .inl TA))] "DishLift$Fault" (fun q9 (_ : Unit) => [((sa 2), .inl (d 1, 110, .inl TA)), (q9, .inr (13, [.null, .null, .null, .null, .null, .int 0, .int res.1, .int res.2]))]) := by
  have hX := XI.ok (D := D) (cs := cs) (wi := wi)
  refine TMet.of (by decide +kernel) (Nat.le_of_ble_eq_true rfl) ?_
  intro p e s m below meth c A cx hET hw ls hl
  have cx : Cx p s m _ meth c (XI D cs wi) D d A "DishLift$Reader" cX12_sign 2 none "sign" := cx
  have cx' := cx
  obtain ⟨hx, hb, hr, hlk, hml, hown, hts, hK, hA, hXs, hnm⟩ := cx'
  have hl : lv_has ls 2 [(0, .ref ra), (1, .int p1)] := hl
  generalize hlo : ([] : List Loc) = locs at hw ⊢
  unfold fX12_sign at hf
  refine lv_aload_n hx hb dX12_sign_0 rfl (lv_at hl 0 rfl) ?_
  refine lv_aload_n hx hb dX12_sign_1 rfl (lv_at hl 0 rfl) ?_
  refine va_get (ci := 11) (C := RX12) (T := TX12) (N := 7) hx hb hts in_X12 hown hK hw.1 0 rfl rfl 3 (by decide) (hts _ q521) (fun _ h9 => h9) rfl dX12_sign_2 ?_
  refine lv_iload_n hx hb dX12_sign_5 rfl (lv_at hl 1 rfl) ?_
  obtain ⟨j1, hjA, hjR⟩ := op_e hf
  refine x_join (A := A) (D := D) (J := 14) (nL := 2) (cells' := 0) (slots' := 0) (st := [.int j1, .ref ra]) [(ra, .inr (11, [.ref (sa 2), .int rz, .int rat, .int rtk, .int rfr, .int rva, .ref (ma 0)])), ((sa 2), .inl (d 1, 110, .inl TA))] [(0, .ref ra)] (fun H locs ls hw hl => ?_) (fun hKj14_j1 => ?_)
  · have hf := hjR
    refine lv_iconst (v := 1) hx hb dX12_sign_14 (by decide) ?_
    obtain ⟨r3, hcr3, hf⟩ := op_e hf
    rcases r3 with q4 | e5
    · refine x_VV (wr := [((sa 2), .inl (d 1, 110, .inl TA))]) (rest := []) [.int j1, .int 1] hX cx hw hl.1 (mX12_must l D d cs wi ln lf dk dn him ra sa ma rz rat rtk rfr rva j1 1  q4 hcr3) (lw_V q563 q565 qs7 q104 q566) hd_X12_must ⟨(Nat.le_of_ble_eq_true rfl), (Nat.le_of_ble_eq_true rfl)⟩ (va_recv hK hw.1 (ci := 11) (q0 := 0) rfl rfl) rfl rfl (Nat.le_of_ble_eq_true rfl) dX12_sign_15 [0] [1] rfl rfl rfl rfl (by decide) ⟨(Nat.le_of_ble_eq_true rfl), (Nat.le_of_ble_eq_true rfl)⟩ (fun u H locs hp hw => ?_)
      have hw : Wd D A s [((sa 2), .inl (d 1, 110, .inl TA)), (ra, .inr (11, [.ref (sa 2), .int rz, .int rat, .int rtk, .int rfr, .int rva, .ref (ma 0)]))] H locs := hw
      refine lv_aload_n hx hb dX12_sign_18 rfl (lv_at hl 0 rfl) ?_
      obtain ⟨q6, hcq6, hf⟩ := op_e hf
      refine x_VV (wr := []) (rest := []) [] hX cx hw hl.1 (mX12_next l  D d cs wi ln lf dk dn him ra sa ma rz rat rtk rfr rva TA  q6 hcq6) (lw_V q545 q547 qs4 q104 q548) hd_X12_next ⟨(Nat.le_of_ble_eq_true rfl), (Nat.le_of_ble_eq_true rfl)⟩ (va_recv hK hw.1 (ci := 11) (q0 := 1) rfl rfl) rfl rfl (Nat.le_of_ble_eq_true rfl) dX12_sign_19 [1, 0] [] rfl rfl rfl rfl (by decide) ⟨(Nat.le_of_ble_eq_true rfl), (Nat.le_of_ble_eq_true rfl)⟩ (fun u H locs hp hw => ?_)
      have hw : Wd D A s [(ra, .inr (11, [.ref (sa 2), .int rz, .int q6.1, .int q6.2.1, .int q6.2.2.1, .int q6.2.2.2, .ref (ma 0)])), ((sa 2), .inl (d 1, 110, .inl TA))] H locs := hw
      cases hf
    · have hf : (some (.inr e5) : Option ((Int32 × Int32 × Int32 × Int32) ⊕ (Int32 × Int32))) = some (.inr res) := hf
      have hf := Sum.inr.inj (sm_e hf)
      subst hf
      refine x_TV (wr := [((sa 2), .inl (d 1, 110, .inl TA))]) (rest := []) [.int j1, .int 1] hX cx hw hl.1 (tX12_must l D d cs wi ln lf dk dn him ra sa ma rz rat rtk rfr rva j1 1  e5 hcr3) (lw_V q563 q565 qs7 q104 q566) hd_X12_must ⟨(Nat.le_of_ble_eq_true rfl), (Nat.le_of_ble_eq_true rfl)⟩ (va_recv hK hw.1 (ci := 11) (q0 := 0) rfl rfl) rfl rfl (Nat.le_of_ble_eq_true rfl) dX12_sign_15 [0] [1] rfl rfl rfl rfl (by decide) ⟨(Nat.le_of_ble_eq_true rfl), (Nat.le_of_ble_eq_true rfl)⟩ (fun a2 ce u H locs hw g1 g2 g3 => ?_)
      have hw : Wd D A s [((sa 2), .inl (d 1, 110, .inl TA)), (a2, .inr (13, [.null, .null, .null, .null, .null, .int 0, .int e5.1, .int e5.2]))] H locs := hw
      exact x_out cx hET hw () g1 g2 g3 [0, 1] rfl rfl (Nat.le_of_ble_eq_true rfl) (Nat.le_of_ble_eq_true rfl)
  · have hf := hjA
    refine lv_icmp_ne (tgt := 13) hx hb dX12_sign_6 (by decide) (fun c6 => ?_) (fun c6 => ?_)
    · have hf := if_f hf c6
      refine lv_iconst (v := 0) hx hb dX12_sign_13 (by decide) ?_
      have hf := sm_e hf
      subst hf
      exact hKj14_j1 _ _ _ hw (lv_sub hl [0] rfl)
    · have hf := if_t hf c6
      refine lv_iconst (v := 1) hx hb dX12_sign_9 (by decide) ?_
      refine lv_goto (tgt := 14) hx hb dX12_sign_10 (by decide) ?_
      have hf := sm_e hf
      subst hf
      exact hKj14_j1 _ _ _ hw (lv_sub hl [0] rfl)
theorem hd_X12_more : yX12_more.cls = "DishLift$Reader" ∧ yX12_more.cls ≠ "java/lang/invoke/MethodHandle" ∧ yX12_more.cls ≠ "java/lang/invoke/VarHandle" ∧ (parseMethodDescriptor yX12_more.desc).map (fun d => d.parameters.length) = some 2 := by decide +kernel
set_option maxHeartbeats 4000000 in
theorem mX12_more (l : Launch) (D : va_G) (d : Nat → ClassId) (cs : Nat → Nat) (wi : va_W) (ln : Nat → Option Int32) (lf : Nat → Nat → Option Nat) (dk : Nat → Option Nat) (dn : Nat → Int32) (him : ImF d wi ln lf dk dn) (ra : Nat) (sa : Nat → Nat) (ma : Nat → Nat) (rz : Int32) (rat : Int32) (rtk : Int32) (rfr : Int32) (rva : Int32) (TA : Nat → Int32) (p1 : Int32) (p2 : Int32)  (res : Int32 × Int32 × Int32 × Int32 × Int32) (hf : fX12_more rz rat rtk rfr TA p1 p2 = some (.inl res)) : MetI l yX12_more (ws_ yX12_more cX12_more 3 (some .int)) { frames := 6, cells := 0, slots := 0, locals := 155 } [.ref ra, .int p1, .int p2] (XI D cs wi) D d [(ra, .inr (11, [.ref (sa 2), .int rz, .int rat, .int rtk, .int rfr, .int rva, .ref (ma 0)])), ((sa 2), .inl (d 1, 110, .inl TA))] (fun r (_ : Unit) => r = res.1) (fun _ => [(ra, .inr (11, [.ref (sa 2), .int rz, .int res.2.1, .int res.2.2.1, .int res.2.2.2.1, .int res.2.2.2.2, .ref (ma 0)])), ((sa 2), .inl (d 1, 110, .inl TA))]) := by
  have hX := XI.ok (D := D) (cs := cs) (wi := wi)
  refine MetI.of (by decide +kernel) (Nat.le_of_ble_eq_true rfl) ?_
  intro p e s m below meth c A cx hw ls hl
  have cx : Cx p s m _ meth c (XI D cs wi) D d A "DishLift$Reader" cX12_more 3 (some .int) "more" := cx
  have cx' := cx
  obtain ⟨hx, hb, hr, hlk, hml, hown, hts, hK, hA, hXs, hnm⟩ := cx'
  have hl : lv_has ls 3 [(0, .ref ra), (1, .int p1), (2, .int p2)] := hl
  generalize hlo : ([] : List Loc) = locs at hw ⊢
  unfold fX12_more at hf
  refine lv_aload_n hx hb dX12_more_0 rfl (lv_at hl 0 rfl) ?_
  refine lv_iconst (v := 3) hx hb dX12_more_1 (by decide) ?_
  obtain ⟨r2, hcr2, hf⟩ := op_e hf
  rcases r2 with q3 | e4
  · refine x_VV (wr := []) (rest := []) [.int 3] hX cx hw hl.1 (mX12_sign l D d cs wi ln lf dk dn him ra sa ma rz rat rtk rfr rva TA 3  q3 hcr2) (lw_V q598 q600 qs10 q104 q601) hd_X12_sign ⟨(Nat.le_of_ble_eq_true rfl), (Nat.le_of_ble_eq_true rfl)⟩ (va_recv hK hw.1 (ci := 11) (q0 := 0) rfl rfl) rfl rfl (Nat.le_of_ble_eq_true rfl) dX12_more_2 [0, 1] [] rfl rfl rfl rfl (by decide) ⟨(Nat.le_of_ble_eq_true rfl), (Nat.le_of_ble_eq_true rfl)⟩ (fun u H locs hp hw => ?_)
    have hw : Wd D A s [(ra, .inr (11, [.ref (sa 2), .int rz, .int q3.1, .int q3.2.1, .int q3.2.2.1, .int q3.2.2.2, .ref (ma 0)])), ((sa 2), .inl (d 1, 110, .inl TA))] H locs := hw
    refine lv_aload_n hx hb dX12_more_5 rfl (lv_at hl 0 rfl) ?_
    refine lv_iload_n hx hb dX12_more_6 rfl (lv_at hl 1 rfl) ?_
    refine lv_iload_n hx hb dX12_more_7 rfl (lv_at hl 2 rfl) ?_
    obtain ⟨r6, hcr6, hf⟩ := op_e hf
    rcases r6 with q7 | e8
    · refine x_VI (wr := []) (rest := []) [.int p1, .int p2] hX cx hw hl.1 (mX12_figure l D d cs wi ln lf dk dn him ra sa ma rz q3.1 q3.2.1 q3.2.2.1 q3.2.2.2 TA p1 p2  q7 hcr6) (lw_V q590 q592 qs8 q104 q593) hd_X12_figure ⟨(Nat.le_of_ble_eq_true rfl), (Nat.le_of_ble_eq_true rfl)⟩ (va_recv hK hw.1 (ci := 11) (q0 := 0) rfl rfl) rfl rfl (Nat.le_of_ble_eq_true rfl) dX12_more_8 [0, 1] [] rfl rfl rfl rfl (by decide) ⟨(Nat.le_of_ble_eq_true rfl), (Nat.le_of_ble_eq_true rfl)⟩ (fun r u H locs hp hw => ?_)
      have hw : Wd D A s [(ra, .inr (11, [.ref (sa 2), .int rz, .int q7.2.1, .int q7.2.2.1, .int q7.2.2.2.1, .int q7.2.2.2.2, .ref (ma 0)])), ((sa 2), .inl (d 1, 110, .inl TA))] H locs := hw
      subst r
      have hf := Sum.inl.inj (sm_e hf)
      subst hf
      exact x_retI cx hw rfl () rfl [0, 1] rfl rfl (Nat.le_of_ble_eq_true rfl) (Nat.le_of_ble_eq_true rfl) dX12_more_11
    · have hf : (some (.inr e8) : Option ((Int32 × Int32 × Int32 × Int32 × Int32) ⊕ (Int32 × Int32))) = some (.inl res) := hf
      cases hf
  · have hf : (some (.inr e4) : Option ((Int32 × Int32 × Int32 × Int32 × Int32) ⊕ (Int32 × Int32))) = some (.inl res) := hf
    cases hf
set_option maxHeartbeats 4000000 in
theorem tX12_more (l : Launch) (D : va_G) (d : Nat → ClassId) (cs : Nat → Nat) (wi : va_W) (ln : Nat → Option Int32) (lf : Nat → Nat → Option Nat) (dk : Nat → Option Nat) (dn : Nat → Int32) (him : ImF d wi ln lf dk dn) (ra : Nat) (sa : Nat → Nat) (ma : Nat → Nat) (rz : Int32) (rat : Int32) (rtk : Int32) (rfr : Int32) (rva : Int32) (TA : Nat → Int32) (p1 : Int32) (p2 : Int32)  (res : Int32 × Int32) (hf : fX12_more rz rat rtk rfr TA p1 p2 = some (.inr res)) : TMet l yX12_more (ws_ yX12_more cX12_more 3 (some .int)) { frames := 6, cells := 1, slots := 8, locals := 155 } [.ref ra, .int p1, .int p2] (XI D cs wi) D d [(ra, .inr (11, [.ref (sa 2), .int rz, .int rat, .int rtk, .int rfr, .int rva, .ref (ma 0)])), ((sa 2), .inl (d 1, 110, .inl TA))] "DishLift$Fault" (fun q9 (_ : Unit) => [((sa 2), .inl (d 1, 110, .inl TA)), (q9, .inr (13, [.null, .null, .null, .null, .null, .int 0, .int res.1, .int res.2]))]) := by
  have hX := XI.ok (D := D) (cs := cs) (wi := wi)
  refine TMet.of (by decide +kernel) (Nat.le_of_ble_eq_true rfl) ?_
  intro p e s m below meth c A cx hET hw ls hl
  have cx : Cx p s m _ meth c (XI D cs wi) D d A "DishLift$Reader" cX12_more 3 (some .int) "more" := cx
  have cx' := cx
  obtain ⟨hx, hb, hr, hlk, hml, hown, hts, hK, hA, hXs, hnm⟩ := cx'
  have hl : lv_has ls 3 [(0, .ref ra), (1, .int p1), (2, .int p2)] := hl
  generalize hlo : ([] : List Loc) = locs at hw ⊢
  unfold fX12_more at hf
  refine lv_aload_n hx hb dX12_more_0 rfl (lv_at hl 0 rfl) ?_
  refine lv_iconst (v := 3) hx hb dX12_more_1 (by decide) ?_
  obtain ⟨r2, hcr2, hf⟩ := op_e hf
  rcases r2 with q3 | e4
  · refine x_VV (wr := []) (rest := []) [.int 3] hX cx hw hl.1 (mX12_sign l D d cs wi ln lf dk dn him ra sa ma rz rat rtk rfr rva TA 3  q3 hcr2) (lw_V q598 q600 qs10 q104 q601) hd_X12_sign ⟨(Nat.le_of_ble_eq_true rfl), (Nat.le_of_ble_eq_true rfl)⟩ (va_recv hK hw.1 (ci := 11) (q0 := 0) rfl rfl) rfl rfl (Nat.le_of_ble_eq_true rfl) dX12_more_2 [0, 1] [] rfl rfl rfl rfl (by decide) ⟨(Nat.le_of_ble_eq_true rfl), (Nat.le_of_ble_eq_true rfl)⟩ (fun u H locs hp hw => ?_)
    have hw : Wd D A s [(ra, .inr (11, [.ref (sa 2), .int rz, .int q3.1, .int q3.2.1, .int q3.2.2.1, .int q3.2.2.2, .ref (ma 0)])), ((sa 2), .inl (d 1, 110, .inl TA))] H locs := hw
    refine lv_aload_n hx hb dX12_more_5 rfl (lv_at hl 0 rfl) ?_
    refine lv_iload_n hx hb dX12_more_6 rfl (lv_at hl 1 rfl) ?_
    refine lv_iload_n hx hb dX12_more_7 rfl (lv_at hl 2 rfl) ?_
    obtain ⟨r6, hcr6, hf⟩ := op_e hf
    rcases r6 with q7 | e8
    · refine x_VI (wr := []) (rest := []) [.int p1, .int p2] hX cx hw hl.1 (mX12_figure l D d cs wi ln lf dk dn him ra sa ma rz q3.1 q3.2.1 q3.2.2.1 q3.2.2.2 TA p1 p2  q7 hcr6) (lw_V q590 q592 qs8 q104 q593) hd_X12_figure ⟨(Nat.le_of_ble_eq_true rfl), (Nat.le_of_ble_eq_true rfl)⟩ (va_recv hK hw.1 (ci := 11) (q0 := 0) rfl rfl) rfl rfl (Nat.le_of_ble_eq_true rfl) dX12_more_8 [0, 1] [] rfl rfl rfl rfl (by decide) ⟨(Nat.le_of_ble_eq_true rfl), (Nat.le_of_ble_eq_true rfl)⟩ (fun r u H locs hp hw => ?_)
      have hw : Wd D A s [(ra, .inr (11, [.ref (sa 2), .int rz, .int q7.2.1, .int q7.2.2.1, .int q7.2.2.2.1, .int q7.2.2.2.2, .ref (ma 0)])), ((sa 2), .inl (d 1, 110, .inl TA))] H locs := hw
      subst r
      cases hf
    · have hf : (some (.inr e8) : Option ((Int32 × Int32 × Int32 × Int32 × Int32) ⊕ (Int32 × Int32))) = some (.inr res) := hf
      have hf := Sum.inr.inj (sm_e hf)
      subst hf
      refine x_TV (wr := []) (rest := []) [.int p1, .int p2] hX cx hw hl.1 (tX12_figure l D d cs wi ln lf dk dn him ra sa ma rz q3.1 q3.2.1 q3.2.2.1 q3.2.2.2 TA p1 p2  e8 hcr6) (lw_V q590 q592 qs8 q104 q593) hd_X12_figure ⟨(Nat.le_of_ble_eq_true rfl), (Nat.le_of_ble_eq_true rfl)⟩ (va_recv hK hw.1 (ci := 11) (q0 := 0) rfl rfl) rfl rfl (Nat.le_of_ble_eq_true rfl) dX12_more_8 [0, 1] [] rfl rfl rfl rfl (by decide) ⟨(Nat.le_of_ble_eq_true rfl), (Nat.le_of_ble_eq_true rfl)⟩ (fun a5 ce u H locs hw g1 g2 g3 => ?_)
      have hw : Wd D A s [((sa 2), .inl (d 1, 110, .inl TA)), (a5, .inr (13, [.null, .null, .null, .null, .null, .int 0, .int e8.1, .int e8.2]))] H locs := hw
      exact x_out cx hET hw () g1 g2 g3 [0, 1] rfl rfl (Nat.le_of_ble_eq_true rfl) (Nat.le_of_ble_eq_true rfl)
  · have hf : (some (.inr e4) : Option ((Int32 × Int32 × Int32 × Int32 × Int32) ⊕ (Int32 × Int32))) = some (.inr res) := hf
    have hf := Sum.inr.inj (sm_e hf)
    subst hf
    refine x_TV (wr := []) (rest := []) [.int 3] hX cx hw hl.1 (tX12_sign l D d cs wi ln lf dk dn him ra sa ma rz rat rtk rfr rva TA 3  e4 hcr2) (lw_V q598 q600 qs10 q104 q601) hd_X12_sign ⟨(Nat.le_of_ble_eq_true rfl), (Nat.le_of_ble_eq_true rfl)⟩ (va_recv hK hw.1 (ci := 11) (q0 := 0) rfl rfl) rfl rfl (Nat.le_of_ble_eq_true rfl) dX12_more_2 [0, 1] [] rfl rfl rfl rfl (by decide) ⟨(Nat.le_of_ble_eq_true rfl), (Nat.le_of_ble_eq_true rfl)⟩ (fun a1 ce u H locs hw g1 g2 g3 => ?_)
    have hw : Wd D A s [((sa 2), .inl (d 1, 110, .inl TA)), (a1, .inr (13, [.null, .null, .null, .null, .null, .int 0, .int e4.1, .int e4.2]))] H locs := hw
    exact x_out cx hET hw () g1 g2 g3 [0, 1] rfl rfl (Nat.le_of_ble_eq_true rfl) (Nat.le_of_ble_eq_true rfl)
theorem hd_X12_begin : yX12_begin.cls = "DishLift$Reader" ∧ yX12_begin.cls ≠ "java/lang/invoke/MethodHandle" ∧ yX12_begin.cls ≠ "java/lang/invoke/VarHandle" ∧ (parseMethodDescriptor yX12_begin.desc).map (fun d => d.parameters.length) = some 2 := by decide +kernel
set_option maxHeartbeats 4000000 in
theorem mX12_begin (l : Launch) (D : va_G) (d : Nat → ClassId) (cs : Nat → Nat) (wi : va_W) (ln : Nat → Option Int32) (lf : Nat → Nat → Option Nat) (dk : Nat → Option Nat) (dn : Nat → Int32) (him : ImF d wi ln lf dk dn) (ra : Nat) (sa : Nat → Nat) (ma : Nat → Nat) (rz : Int32) (rat : Int32) (rtk : Int32) (rfr : Int32) (rva : Int32) (TA : Nat → Int32) (p1 : Int32) (p2 : Int32)  (res : Int32 × Int32 × Int32 × Int32) (hf : fX12_begin rz rat rfr TA p1 p2 = some (.inl res)) : MetV l yX12_begin (ws_ yX12_begin cX12_begin 3 none) { frames := 5, cells := 0, slots := 0, locals := 132 } [.ref ra, .int p1, .int p2] (XI D cs wi) D d [(ra, .inr (11, [.ref (sa 2), .int rz, .int rat, .int rtk, .int rfr, .int rva, .ref (ma 0)])), ((sa 2), .inl (d 1, 110, .inl TA))] (fun (_ : Unit) => True) (fun _ => [(ra, .inr (11, [.ref (sa 2), .int rz, .int res.1, .int res.2.1, .int res.2.2.1, .int res.2.2.2, .ref (ma 0)])), ((sa 2), .inl (d 1, 110, .inl TA))]) := by
  have hX := XI.ok (D := D) (cs := cs) (wi := wi)
  refine MetV.of (by decide +kernel) (Nat.le_of_ble_eq_true rfl) ?_
  intro p e s m below meth c A cx hw ls hl
  have cx : Cx p s m _ meth c (XI D cs wi) D d A "DishLift$Reader" cX12_begin 3 none "begin" := cx
  have cx' := cx
  obtain ⟨hx, hb, hr, hlk, hml, hown, hts, hK, hA, hXs, hnm⟩ := cx'
  have hl : lv_has ls 3 [(0, .ref ra), (1, .int p1), (2, .int p2)] := hl
  generalize hlo : ([] : List Loc) = locs at hw ⊢
  unfold fX12_begin at hf
  refine lv_aload_n hx hb dX12_begin_0 rfl (lv_at hl 0 rfl) ?_
  refine lv_iload_n hx hb dX12_begin_1 rfl (lv_at hl 1 rfl) ?_
  refine lv_iload_n hx hb dX12_begin_2 rfl (lv_at hl 2 rfl) ?_
  obtain ⟨j1, hjA, hjR⟩ := op_e hf
  refine x_join (A := A) (D := D) (J := 11) (nL := 3) (cells' := 0) (slots' := 0) (st := [.int j1, .ref ra]) [(ra, .inr (11, [.ref (sa 2), .int rz, .int rat, .int rtk, .int rfr, .int rva, .ref (ma 0)])), ((sa 2), .inl (d 1, 110, .inl TA))] [(0, .ref ra)] (fun H locs ls hw hl => ?_) (fun hKj11_j1 => ?_)
  · have hf := hjR
    refine lv_iconst (v := 3) hx hb dX12_begin_11 (by decide) ?_
    obtain ⟨r3, hcr3, hf⟩ := op_e hf
    rcases r3 with q4 | e5
    · refine x_VV (wr := [((sa 2), .inl (d 1, 110, .inl TA))]) (rest := []) [.int j1, .int 3] hX cx hw hl.1 (mX12_must l D d cs wi ln lf dk dn him ra sa ma rz rat rtk rfr rva j1 3  q4 hcr3) (lw_V q563 q565 qs7 q104 q566) hd_X12_must ⟨(Nat.le_of_ble_eq_true rfl), (Nat.le_of_ble_eq_true rfl)⟩ (va_recv hK hw.1 (ci := 11) (q0 := 0) rfl rfl) rfl rfl (Nat.le_of_ble_eq_true rfl) dX12_begin_12 [0] [1] rfl rfl rfl rfl (by decide) ⟨(Nat.le_of_ble_eq_true rfl), (Nat.le_of_ble_eq_true rfl)⟩ (fun u H locs hp hw => ?_)
      have hw : Wd D A s [((sa 2), .inl (d 1, 110, .inl TA)), (ra, .inr (11, [.ref (sa 2), .int rz, .int rat, .int rtk, .int rfr, .int rva, .ref (ma 0)]))] H locs := hw
      refine lv_aload_n hx hb dX12_begin_15 rfl (lv_at hl 0 rfl) ?_
      obtain ⟨q6, hcq6, hf⟩ := op_e hf
      refine x_VV (wr := []) (rest := []) [] hX cx hw hl.1 (mX12_next l  D d cs wi ln lf dk dn him ra sa ma rz rat rtk rfr rva TA  q6 hcq6) (lw_V q545 q547 qs4 q104 q548) hd_X12_next ⟨(Nat.le_of_ble_eq_true rfl), (Nat.le_of_ble_eq_true rfl)⟩ (va_recv hK hw.1 (ci := 11) (q0 := 1) rfl rfl) rfl rfl (Nat.le_of_ble_eq_true rfl) dX12_begin_16 [1, 0] [] rfl rfl rfl rfl (by decide) ⟨(Nat.le_of_ble_eq_true rfl), (Nat.le_of_ble_eq_true rfl)⟩ (fun u H locs hp hw => ?_)
      have hw : Wd D A s [(ra, .inr (11, [.ref (sa 2), .int rz, .int q6.1, .int q6.2.1, .int q6.2.2.1, .int q6.2.2.2, .ref (ma 0)])), ((sa 2), .inl (d 1, 110, .inl TA))] H locs := hw
      have hf := Sum.inl.inj (sm_e hf)
      subst hf
      exact x_retV cx hw () trivial [0, 1] rfl rfl (Nat.le_of_ble_eq_true rfl) (Nat.le_of_ble_eq_true rfl) dX12_begin_19
    · have hf : (some (.inr e5) : Option ((Int32 × Int32 × Int32 × Int32) ⊕ (Int32 × Int32))) = some (.inl res) := hf
      cases hf
  · have hf := hjA
    refine lv_icmp_ge (tgt := 10) hx hb dX12_begin_3 (by decide) (fun c3 => ?_) (fun c3 => ?_)
    · have hf := if_t hf c3
      refine lv_iconst (v := 0) hx hb dX12_begin_10 (by decide) ?_
      have hf := sm_e hf
      subst hf
      exact hKj11_j1 _ _ _ hw (lv_sub hl [0] rfl)
    · have hf := if_f hf c3
      refine lv_iconst (v := 1) hx hb dX12_begin_6 (by decide) ?_
      refine lv_goto (tgt := 11) hx hb dX12_begin_7 (by decide) ?_
      have hf := sm_e hf
      subst hf
      exact hKj11_j1 _ _ _ hw (lv_sub hl [0] rfl)
set_option maxHeartbeats 4000000 in
theorem tX12_begin (l : Launch) (D : va_G) (d : Nat → ClassId) (cs : Nat → Nat) (wi : va_W) (ln : Nat → Option Int32) (lf : Nat → Nat → Option Nat) (dk : Nat → Option Nat) (dn : Nat → Int32) (him : ImF d wi ln lf dk dn) (ra : Nat) (sa : Nat → Nat) (ma : Nat → Nat) (rz : Int32) (rat : Int32) (rtk : Int32) (rfr : Int32) (rva : Int32) (TA : Nat → Int32) (p1 : Int32) (p2 : Int32)  (res : Int32 × Int32) (hf : fX12_begin rz rat rfr TA p1 p2 = some (.inr res)) : TMet l yX12_begin (ws_ yX12_begin cX12_begin 3 none) { frames := 5, cells := 1, slots := 8, locals := 132 } [.ref ra, .int p1, .int p2] (XI D cs wi) D d [(ra, .inr (11, [.ref (sa 2), .int rz, .int rat, .int rtk, .int rfr, .int rva, .ref (ma 0)])), ((sa 2), .inl (d 1, 110, .inl TA))] "DishLift$Fault" (fun q9 (_ : Unit) => [((sa 2), .inl (d 1, 110, .inl TA)), (q9, .inr (13, [.null, .null, .null, .null, .null, .int 0, .int res.1, .int res.2]))]) := by
  have hX := XI.ok (D := D) (cs := cs) (wi := wi)
  refine TMet.of (by decide +kernel) (Nat.le_of_ble_eq_true rfl) ?_
  intro p e s m below meth c A cx hET hw ls hl
  have cx : Cx p s m _ meth c (XI D cs wi) D d A "DishLift$Reader" cX12_begin 3 none "begin" := cx
  have cx' := cx
  obtain ⟨hx, hb, hr, hlk, hml, hown, hts, hK, hA, hXs, hnm⟩ := cx'
  have hl : lv_has ls 3 [(0, .ref ra), (1, .int p1), (2, .int p2)] := hl
  generalize hlo : ([] : List Loc) = locs at hw ⊢
  unfold fX12_begin at hf
  refine lv_aload_n hx hb dX12_begin_0 rfl (lv_at hl 0 rfl) ?_
  refine lv_iload_n hx hb dX12_begin_1 rfl (lv_at hl 1 rfl) ?_
  refine lv_iload_n hx hb dX12_begin_2 rfl (lv_at hl 2 rfl) ?_
  obtain ⟨j1, hjA, hjR⟩ := op_e hf
  refine x_join (A := A) (D := D) (J := 11) (nL := 3) (cells' := 0) (slots' := 0) (st := [.int j1, .ref ra]) [(ra, .inr (11, [.ref (sa 2), .int rz, .int rat, .int rtk, .int rfr, .int rva, .ref (ma 0)])), ((sa 2), .inl (d 1, 110, .inl TA))] [(0, .ref ra)] (fun H locs ls hw hl => ?_) (fun hKj11_j1 => ?_)
  · have hf := hjR
    refine lv_iconst (v := 3) hx hb dX12_begin_11 (by decide) ?_
    obtain ⟨r3, hcr3, hf⟩ := op_e hf
    rcases r3 with q4 | e5
    · refine x_VV (wr := [((sa 2), .inl (d 1, 110, .inl TA))]) (rest := []) [.int j1, .int 3] hX cx hw hl.1 (mX12_must l D d cs wi ln lf dk dn him ra sa ma rz rat rtk rfr rva j1 3  q4 hcr3) (lw_V q563 q565 qs7 q104 q566) hd_X12_must ⟨(Nat.le_of_ble_eq_true rfl), (Nat.le_of_ble_eq_true rfl)⟩ (va_recv hK hw.1 (ci := 11) (q0 := 0) rfl rfl) rfl rfl (Nat.le_of_ble_eq_true rfl) dX12_begin_12 [0] [1] rfl rfl rfl rfl (by decide) ⟨(Nat.le_of_ble_eq_true rfl), (Nat.le_of_ble_eq_true rfl)⟩ (fun u H locs hp hw => ?_)
      have hw : Wd D A s [((sa 2), .inl (d 1, 110, .inl TA)), (ra, .inr (11, [.ref (sa 2), .int rz, .int rat, .int rtk, .int rfr, .int rva, .ref (ma 0)]))] H locs := hw
      refine lv_aload_n hx hb dX12_begin_15 rfl (lv_at hl 0 rfl) ?_
      obtain ⟨q6, hcq6, hf⟩ := op_e hf
      refine x_VV (wr := []) (rest := []) [] hX cx hw hl.1 (mX12_next l  D d cs wi ln lf dk dn him ra sa ma rz rat rtk rfr rva TA  q6 hcq6) (lw_V q545 q547 qs4 q104 q548) hd_X12_next ⟨(Nat.le_of_ble_eq_true rfl), (Nat.le_of_ble_eq_true rfl)⟩ (va_recv hK hw.1 (ci := 11) (q0 := 1) rfl rfl) rfl rfl (Nat.le_of_ble_eq_true rfl) dX12_begin_16 [1, 0] [] rfl rfl rfl rfl (by decide) ⟨(Nat.le_of_ble_eq_true rfl), (Nat.le_of_ble_eq_true rfl)⟩ (fun u H locs hp hw => ?_)
      have hw : Wd D A s [(ra, .inr (11, [.ref (sa 2), .int rz, .int q6.1, .int q6.2.1, .int q6.2.2.1, .int q6.2.2.2, .ref (ma 0)])), ((sa 2), .inl (d 1, 110, .inl TA))] H locs := hw
      cases hf
    · have hf : (some (.inr e5) : Option ((Int32 × Int32 × Int32 × Int32) ⊕ (Int32 × Int32))) = some (.inr res) := hf
      have hf := Sum.inr.inj (sm_e hf)
      subst hf
      refine x_TV (wr := [((sa 2), .inl (d 1, 110, .inl TA))]) (rest := []) [.int j1, .int 3] hX cx hw hl.1 (tX12_must l D d cs wi ln lf dk dn him ra sa ma rz rat rtk rfr rva j1 3  e5 hcr3) (lw_V q563 q565 qs7 q104 q566) hd_X12_must ⟨(Nat.le_of_ble_eq_true rfl), (Nat.le_of_ble_eq_true rfl)⟩ (va_recv hK hw.1 (ci := 11) (q0 := 0) rfl rfl) rfl rfl (Nat.le_of_ble_eq_true rfl) dX12_begin_12 [0] [1] rfl rfl rfl rfl (by decide) ⟨(Nat.le_of_ble_eq_true rfl), (Nat.le_of_ble_eq_true rfl)⟩ (fun a2 ce u H locs hw g1 g2 g3 => ?_)
      have hw : Wd D A s [((sa 2), .inl (d 1, 110, .inl TA)), (a2, .inr (13, [.null, .null, .null, .null, .null, .int 0, .int e5.1, .int e5.2]))] H locs := hw
      exact x_out cx hET hw () g1 g2 g3 [0, 1] rfl rfl (Nat.le_of_ble_eq_true rfl) (Nat.le_of_ble_eq_true rfl)
  · have hf := hjA
    refine lv_icmp_ge (tgt := 10) hx hb dX12_begin_3 (by decide) (fun c3 => ?_) (fun c3 => ?_)
    · have hf := if_t hf c3
      refine lv_iconst (v := 0) hx hb dX12_begin_10 (by decide) ?_
      have hf := sm_e hf
      subst hf
      exact hKj11_j1 _ _ _ hw (lv_sub hl [0] rfl)
    · have hf := if_f hf c3
      refine lv_iconst (v := 1) hx hb dX12_begin_6 (by decide) ?_
      refine lv_goto (tgt := 11) hx hb dX12_begin_7 (by decide) ?_
      have hf := sm_e hf
      subst hf
      exact hKj11_j1 _ _ _ hw (lv_sub hl [0] rfl)
