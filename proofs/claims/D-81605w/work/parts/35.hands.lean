set_option maxRecDepth 100000
/-! METHODS WITH HANDLERS -/
def eqa (a b : Nat) : Option Unit := if a = b then some () else none
theorem eqa_spec {a b : Nat} {u : Unit} (h : eqa a b = some u) : a = b := by
  unfold eqa at h
  split at h
  · assumption
  · cases h
theorem wrqs {f g : Nat → Option Nat} {n : Nat} {i : Int32} {x : Option Nat} (h : wrq f n i x = some g) : vp_in i n ∧ va_up f i.toNatClampNeg x = g := by
  unfold wrq at h
  split at h
  · cases h
  · next h1 => exact ⟨h1, Option.some.inj h⟩

def fX0_drop_0 (gs : Int32) (RW : Nat → Option Nat) (p1 : Int32) : Option (Int32 × Int32) :=
  (fX0_isRow p1).bind fun q1 =>
  if q1 = 0 then
    some ((-1000001), gs)
  else
    (fX0_rowAt RW p1).bind fun r3 =>
    match r3 with
    | .inr e5 => (fX0_found e5).bind fun q6 =>
    some (q6.1, q6.2)
    | .inl q4 =>
      none
def fX0_set_0 (gs : Int32) (RW : Nat → Option Nat) (p1 : Int32) : Option (Int32 × Int32) :=
  (fX0_isRow p1).bind fun q1 =>
  if q1 = 0 then
    some ((-1000001), gs)
  else
    (fX0_rowAt RW p1).bind fun r3 =>
    match r3 with
    | .inr e5 => (fX0_found e5).bind fun q6 =>
    some (q6.1, q6.2)
    | .inl q4 =>
      none
def fX0_set_1 (ra : Nat) (rn : Nat) (gs : Int32) (RW : Nat → Option Nat) (rl : Int32) (RI : Nat → Int32) (p1 : Int32) (p2 : Int32) (p3 : Int32) : Option (Int32 × (Nat → Int32) × Int32) :=
  (fX0_isRow p1).bind fun q1 =>
  if q1 = 0 then
    some ((-1000001), RI, gs)
  else
    (fX0_rowAt RW p1).bind fun r3 =>
    match r3 with
    | .inr e5 => (fX0_found e5).bind fun q6 =>
    some (q6.1, RI, q6.2)
    | .inl q4 =>
      (eqa q4 ra).bind fun g7 =>
      (fX0_isIn p2.toInt64 0 (((Int32.ofNat rn) - 1).toInt64)).bind fun q8 =>
      (fX0_must q8 2).bind fun r10 =>
      match r10 with
      | .inr e12 => (fX0_found e12).bind fun q13 =>
      some (q13.1, RI, q13.2)
      | .inl q11 =>
        (fX11_cut rl p3).bind fun q14 =>
        (wr RI rn p2 q14).bind fun w15 =>
        (rd w15 rn p2).bind fun v16 =>
        (fX0_well v16).bind fun q17 =>
        some (q17.1, w15, q17.2)
def fX0_drop_1 (ra : Nat) (rn : Nat) (gs : Int32) (RW : Nat → Option Nat) (p1 : Int32) : Option (Int32 × Int32 × (Nat → Option Nat)) :=
  (fX0_isRow p1).bind fun q1 =>
  if q1 = 0 then
    some ((-1000001), gs, RW)
  else
    (fX0_rowAt RW p1).bind fun r3 =>
    match r3 with
    | .inr e5 => (fX0_found e5).bind fun q6 =>
    some (q6.1, q6.2, RW)
    | .inl q4 =>
      (eqa q4 ra).bind fun g7 =>
      (wrq RW 8 p1 none).bind fun w8 =>
      (fX0_well (Int32.ofNat rn)).bind fun q9 =>
      some (q9.1, q9.2, w8)
theorem hd_X0_drop : yX0_drop.cls = "DishLift" ∧ yX0_drop.cls ≠ "java/lang/invoke/MethodHandle" ∧ yX0_drop.cls ≠ "java/lang/invoke/VarHandle" ∧ (parseMethodDescriptor yX0_drop.desc).map (fun d => d.parameters.length) = some 1 := by decide +kernel
set_option maxHeartbeats 4000000 in
theorem mX0_drop_0 (l : Launch) (D : va_G) (d : Nat → ClassId) (cs : Nat → Nat) (wi : va_W) (ln : Nat → Option Int32) (lf : Nat → Nat → Option Nat) (dk : Nat → Option Nat) (dn : Nat → Int32) (him : ImF d wi ln lf dk dn) (sa : Nat → Nat) (ha : Nat → Nat) (ta : Nat → Nat) (gt : Int32) (gf : Int32) (gc : Int32) (tra : Nat) (gs : Int32) (RW : Nat → Option Nat) (p1 : Int32)  (res : Int32 × Int32) (hf : fX0_drop_0 gs RW p1 = some res) : MetI l yX0_drop (wsW_ yX0_drop cX0_drop 3 (some .int) [(10, 32, 33, 74)]) { frames := 6, cells := 1, slots := 7, locals := 151 } [.ref (sa 0), .int p1] (XI D cs wi) D d [oS sa ha ta gt gf gc tra gs, ((sa 1), .inl (d 3, 8, .inr (.inr (.inr (.inr RW)))))] (fun r (_ : Unit) => r = res.1) (fun _ => [oS sa ha ta gt gf gc tra res.2, ((sa 1), .inl (d 3, 8, .inr (.inr (.inr (.inr RW)))))]) := by
  have hX := XI.ok (D := D) (cs := cs) (wi := wi)
  refine MetI.ofH (by decide +kernel) (Nat.le_of_ble_eq_true rfl) ?_
  intro p e s m below meth c A cx hET hw ls hl
  have cx : Cx p s m _ meth c (XI D cs wi) D d A "DishLift" cX0_drop 3 (some .int) "drop" := cx
  have cx' := cx
  obtain ⟨hx, hb, hr, hlk, hml, hown, hts, hK, hA, hXs, hnm⟩ := cx'
  have hl : lv_has ls 3 [(0, .ref (sa 0)), (1, .int p1)] := hl
  generalize hlo : ([] : List Loc) = locs at hw ⊢
  unfold fX0_drop_0 at hf
  refine lv_iload_n hx hb dX0_drop_0 rfl (lv_at hl 1 rfl) ?_
  obtain ⟨q1, hcq1, hf⟩ := op_e hf
  refine x_SI (wr := [oS sa ha ta gt gf gc tra gs, ((sa 1), .inl (d 3, 8, .inr (.inr (.inr (.inr RW)))))]) (rest := []) [.int p1] hX cx hw hl.1 (mX0_isRow l (XI D cs wi) hX D d  p1  q1 hcq1) (lw_S q342 q343 q82 q344) hd_X0_isRow ⟨(Nat.le_of_ble_eq_true rfl), (Nat.le_of_ble_eq_true rfl)⟩ rfl rfl (Nat.le_of_ble_eq_true rfl) dX0_drop_1 [] [0, 1] rfl rfl rfl rfl (by decide) ⟨(Nat.le_of_ble_eq_true rfl), (Nat.le_of_ble_eq_true rfl)⟩ (fun r u H locs hp hw => ?_)
  have hw : Wd D A s [oS sa ha ta gt gf gc tra gs, ((sa 1), .inl (d 3, 8, .inr (.inr (.inr (.inr RW)))))] H locs := hw
  subst r
  refine lv_if_ne (tgt := 10) hx hb dX0_drop_4 (by decide) (fun c4 => ?_) (fun c4 => ?_)
  · have hf := if_f hf c4
    refine lv_aload_n hx hb dX0_drop_10 rfl (lv_at hl 0 rfl) ?_
    refine lv_iload_n hx hb dX0_drop_11 rfl (lv_at hl 1 rfl) ?_
    obtain ⟨r3, hcr3, hf⟩ := op_e hf
    rcases r3 with q4 | e5
    · refine x_VA (wr := []) (rest := []) [.int p1] hX cx hw hl.1 (mX0_rowAt l D d cs wi ln lf dk dn him sa ha ta gt gf gc tra gs RW p1  q4 hcr3) (lw_V q446 q448 qs3 q82 q449) hd_X0_rowAt ⟨(Nat.le_of_ble_eq_true rfl), (Nat.le_of_ble_eq_true rfl)⟩ (va_recv hK hw.1 (ci := 1) (q0 := 0) rfl rfl) rfl rfl (Nat.le_of_ble_eq_true rfl) dX0_drop_12 [0, 1] [] rfl rfl rfl rfl (by decide) ⟨(Nat.le_of_ble_eq_true rfl), (Nat.le_of_ble_eq_true rfl)⟩ (fun u H locs hp hw => ?_)
      have hw : Wd D A s [oS sa ha ta gt gf gc tra gs, ((sa 1), .inl (d 3, 8, .inr (.inr (.inr (.inr RW)))))] H locs := hw
      cases hf
    · refine x_TV (wr := []) (rest := []) [.int p1] hX cx hw hl.1 (tX0_rowAt l D d cs wi ln lf dk dn him sa ha ta gt gf gc tra gs RW p1  e5 hcr3) (lw_V q446 q448 qs3 q82 q449) hd_X0_rowAt ⟨(Nat.le_of_ble_eq_true rfl), (Nat.le_of_ble_eq_true rfl)⟩ (va_recv hK hw.1 (ci := 1) (q0 := 0) rfl rfl) rfl rfl (Nat.le_of_ble_eq_true rfl) dX0_drop_12 [0, 1] [] rfl rfl rfl rfl (by decide) ⟨(Nat.le_of_ble_eq_true rfl), (Nat.le_of_ble_eq_true rfl)⟩ (fun a2 ce u H locs hw g1 g2 g3 => ?_)
      have hw : Wd D A s [oS sa ha ta gt gf gc tra gs, ((sa 1), .inl (d 3, 8, .inr (.inr (.inr (.inr RW))))), (a2, .inr (12, [.null, .null, .null, .null, .null, .int 0, .int e5]))] H locs := hw
      refine vx_catch (E := "DishLift$Finding") (ce := ce) hown [] ⟨10, 32, 33, 74⟩ [] hET (fun z hz => absurd hz List.not_mem_nil) rfl (by decide) (hts _ q341) (va_tabs rfl rfl (Tb.cast q355 hXs.1)) g1 g2 g3 ?_
      refine W.eq (g2 := F0 m 33 ls [.ref a2]) rfl ?_
      refine W.widen (k := 1) (n := 7) (Nat.le_of_ble_eq_true rfl) (Nat.le_of_ble_eq_true rfl) ?_
      refine lv_astore_n (lv' := [(2, .ref a2), (0, .ref (sa 0)), (1, .int p1)]) hx hb dX0_drop_33 rfl hl (by decide) rfl (fun ls hl => ?_)
      refine lv_aload_n hx hb dX0_drop_34 rfl (lv_at hl 1 rfl) ?_
      refine lv_aload_n hx hb dX0_drop_35 rfl (lv_at hl 0 rfl) ?_
      obtain ⟨q6, hcq6, hf⟩ := op_e hf
      refine x_VI (wr := [((sa 1), .inl (d 3, 8, .inr (.inr (.inr (.inr RW)))))]) (rest := []) [.ref a2] hX cx hw hl.1 (mX0_found l  D d cs wi ln lf dk dn him sa ha ta a2 gt gf gc tra gs e5  q6 hcq6) (lw_V q437 q439 qs2 q82 q440) hd_X0_found ⟨(Nat.le_of_ble_eq_true rfl), (Nat.le_of_ble_eq_true rfl)⟩ (va_recv hK hw.1 (ci := 1) (q0 := 0) rfl rfl) rfl rfl (Nat.le_of_ble_eq_true rfl) dX0_drop_36 [2, 0] [1] rfl rfl rfl rfl (by decide) ⟨(Nat.le_of_ble_eq_true rfl), (Nat.le_of_ble_eq_true rfl)⟩ (fun r u H locs hp hw => ?_)
      have hw : Wd D A s [((sa 1), .inl (d 3, 8, .inr (.inr (.inr (.inr RW))))), (a2, .inr (12, [.null, .null, .null, .null, .null, .int 0, .int e5])), oS sa ha ta gt gf gc tra q6.2] H locs := hw
      subst r
      have hf := sm_e hf
      subst hf
      exact x_retI cx hw rfl () rfl [2, 0] rfl rfl (Nat.le_of_ble_eq_true rfl) (Nat.le_of_ble_eq_true rfl) dX0_drop_39
  · have hf := if_t hf c4
    refine lv_ldc (v := (-1000001)) hx hb hown (hts _ q350) dX0_drop_7 ?_
    have hf := sm_e hf
    subst hf
    exact x_retI cx hw rfl () rfl [0, 1] rfl rfl (Nat.le_of_ble_eq_true rfl) (Nat.le_of_ble_eq_true rfl) dX0_drop_9
theorem hd_X0_set : yX0_set.cls = "DishLift" ∧ yX0_set.cls ≠ "java/lang/invoke/MethodHandle" ∧ yX0_set.cls ≠ "java/lang/invoke/VarHandle" ∧ (parseMethodDescriptor yX0_set.desc).map (fun d => d.parameters.length) = some 3 := by decide +kernel
set_option maxHeartbeats 4000000 in
theorem mX0_set_0 (l : Launch) (D : va_G) (d : Nat → ClassId) (cs : Nat → Nat) (wi : va_W) (ln : Nat → Option Int32) (lf : Nat → Nat → Option Nat) (dk : Nat → Option Nat) (dn : Nat → Int32) (him : ImF d wi ln lf dk dn) (sa : Nat → Nat) (ha : Nat → Nat) (ta : Nat → Nat) (gt : Int32) (gf : Int32) (gc : Int32) (tra : Nat) (gs : Int32) (RW : Nat → Option Nat) (p1 : Int32) (p2 : Int32) (p3 : Int32)  (res : Int32 × Int32) (hf : fX0_set_0 gs RW p1 = some res) : MetI l yX0_set (wsW_ yX0_set cX0_set 5 (some .int) [(10, 60, 61, 74)]) { frames := 6, cells := 1, slots := 7, locals := 151 } [.ref (sa 0), .int p1, .int p2, .int p3] (XI D cs wi) D d [oS sa ha ta gt gf gc tra gs, ((sa 1), .inl (d 3, 8, .inr (.inr (.inr (.inr RW)))))] (fun r (_ : Unit) => r = res.1) (fun _ => [oS sa ha ta gt gf gc tra res.2, ((sa 1), .inl (d 3, 8, .inr (.inr (.inr (.inr RW)))))]) := by
  have hX := XI.ok (D := D) (cs := cs) (wi := wi)
  refine MetI.ofH (by decide +kernel) (Nat.le_of_ble_eq_true rfl) ?_
  intro p e s m below meth c A cx hET hw ls hl
  have cx : Cx p s m _ meth c (XI D cs wi) D d A "DishLift" cX0_set 5 (some .int) "set" := cx
  have cx' := cx
  obtain ⟨hx, hb, hr, hlk, hml, hown, hts, hK, hA, hXs, hnm⟩ := cx'
  have hl : lv_has ls 5 [(0, .ref (sa 0)), (1, .int p1), (2, .int p2), (3, .int p3)] := hl
  generalize hlo : ([] : List Loc) = locs at hw ⊢
  unfold fX0_set_0 at hf
  refine lv_iload_n hx hb dX0_set_0 rfl (lv_at hl 1 rfl) ?_
  obtain ⟨q1, hcq1, hf⟩ := op_e hf
  refine x_SI (wr := [oS sa ha ta gt gf gc tra gs, ((sa 1), .inl (d 3, 8, .inr (.inr (.inr (.inr RW)))))]) (rest := []) [.int p1] hX cx hw hl.1 (mX0_isRow l (XI D cs wi) hX D d  p1  q1 hcq1) (lw_S q342 q343 q82 q344) hd_X0_isRow ⟨(Nat.le_of_ble_eq_true rfl), (Nat.le_of_ble_eq_true rfl)⟩ rfl rfl (Nat.le_of_ble_eq_true rfl) dX0_set_1 [] [0, 1] rfl rfl rfl rfl (by decide) ⟨(Nat.le_of_ble_eq_true rfl), (Nat.le_of_ble_eq_true rfl)⟩ (fun r u H locs hp hw => ?_)
  have hw : Wd D A s [oS sa ha ta gt gf gc tra gs, ((sa 1), .inl (d 3, 8, .inr (.inr (.inr (.inr RW)))))] H locs := hw
  subst r
  refine lv_if_ne (tgt := 10) hx hb dX0_set_4 (by decide) (fun c4 => ?_) (fun c4 => ?_)
  · have hf := if_f hf c4
    refine lv_aload_n hx hb dX0_set_10 rfl (lv_at hl 0 rfl) ?_
    refine lv_iload_n hx hb dX0_set_11 rfl (lv_at hl 1 rfl) ?_
    obtain ⟨r3, hcr3, hf⟩ := op_e hf
    rcases r3 with q4 | e5
    · refine x_VA (wr := []) (rest := []) [.int p1] hX cx hw hl.1 (mX0_rowAt l D d cs wi ln lf dk dn him sa ha ta gt gf gc tra gs RW p1  q4 hcr3) (lw_V q446 q448 qs3 q82 q449) hd_X0_rowAt ⟨(Nat.le_of_ble_eq_true rfl), (Nat.le_of_ble_eq_true rfl)⟩ (va_recv hK hw.1 (ci := 1) (q0 := 0) rfl rfl) rfl rfl (Nat.le_of_ble_eq_true rfl) dX0_set_12 [0, 1] [] rfl rfl rfl rfl (by decide) ⟨(Nat.le_of_ble_eq_true rfl), (Nat.le_of_ble_eq_true rfl)⟩ (fun u H locs hp hw => ?_)
      have hw : Wd D A s [oS sa ha ta gt gf gc tra gs, ((sa 1), .inl (d 3, 8, .inr (.inr (.inr (.inr RW)))))] H locs := hw
      refine lv_astore (lv' := [(4, .ref q4), (0, .ref (sa 0)), (1, .int p1), (2, .int p2), (3, .int p3)]) hx hb dX0_set_15 hl (by decide) rfl (fun ls hl => ?_)
      refine lv_iload_n hx hb dX0_set_17 rfl (lv_at hl 3 rfl) ?_
      refine lv_i2l (v := p2.toInt64) hx hb dX0_set_18 rfl ?_
      refine lv_lconst (v := 0) hx hb dX0_set_19 (by decide) ?_
      refine lv_aload hx hb dX0_set_20 (lv_at hl 0 rfl) ?_
      cases hf
    · refine x_TV (wr := []) (rest := []) [.int p1] hX cx hw hl.1 (tX0_rowAt l D d cs wi ln lf dk dn him sa ha ta gt gf gc tra gs RW p1  e5 hcr3) (lw_V q446 q448 qs3 q82 q449) hd_X0_rowAt ⟨(Nat.le_of_ble_eq_true rfl), (Nat.le_of_ble_eq_true rfl)⟩ (va_recv hK hw.1 (ci := 1) (q0 := 0) rfl rfl) rfl rfl (Nat.le_of_ble_eq_true rfl) dX0_set_12 [0, 1] [] rfl rfl rfl rfl (by decide) ⟨(Nat.le_of_ble_eq_true rfl), (Nat.le_of_ble_eq_true rfl)⟩ (fun a2 ce u H locs hw g1 g2 g3 => ?_)
      have hw : Wd D A s [oS sa ha ta gt gf gc tra gs, ((sa 1), .inl (d 3, 8, .inr (.inr (.inr (.inr RW))))), (a2, .inr (12, [.null, .null, .null, .null, .null, .int 0, .int e5]))] H locs := hw
      refine vx_catch (E := "DishLift$Finding") (ce := ce) hown [] ⟨10, 60, 61, 74⟩ [] hET (fun z hz => absurd hz List.not_mem_nil) rfl (by decide) (hts _ q341) (va_tabs rfl rfl (Tb.cast q355 hXs.1)) g1 g2 g3 ?_
      refine W.eq (g2 := F0 m 61 ls [.ref a2]) rfl ?_
      refine W.widen (k := 1) (n := 7) (Nat.le_of_ble_eq_true rfl) (Nat.le_of_ble_eq_true rfl) ?_
      refine lv_astore (lv' := [(4, .ref a2), (0, .ref (sa 0)), (1, .int p1), (2, .int p2), (3, .int p3)]) hx hb dX0_set_61 hl (by decide) rfl (fun ls hl => ?_)
      refine lv_aload_n hx hb dX0_set_63 rfl (lv_at hl 1 rfl) ?_
      refine lv_aload hx hb dX0_set_64 (lv_at hl 0 rfl) ?_
      obtain ⟨q6, hcq6, hf⟩ := op_e hf
      refine x_VI (wr := [((sa 1), .inl (d 3, 8, .inr (.inr (.inr (.inr RW)))))]) (rest := []) [.ref a2] hX cx hw hl.1 (mX0_found l  D d cs wi ln lf dk dn him sa ha ta a2 gt gf gc tra gs e5  q6 hcq6) (lw_V q437 q439 qs2 q82 q440) hd_X0_found ⟨(Nat.le_of_ble_eq_true rfl), (Nat.le_of_ble_eq_true rfl)⟩ (va_recv hK hw.1 (ci := 1) (q0 := 0) rfl rfl) rfl rfl (Nat.le_of_ble_eq_true rfl) dX0_set_66 [2, 0] [1] rfl rfl rfl rfl (by decide) ⟨(Nat.le_of_ble_eq_true rfl), (Nat.le_of_ble_eq_true rfl)⟩ (fun r u H locs hp hw => ?_)
      have hw : Wd D A s [((sa 1), .inl (d 3, 8, .inr (.inr (.inr (.inr RW))))), (a2, .inr (12, [.null, .null, .null, .null, .null, .int 0, .int e5])), oS sa ha ta gt gf gc tra q6.2] H locs := hw
      subst r
      have hf := sm_e hf
      subst hf
      exact x_retI cx hw rfl () rfl [2, 0] rfl rfl (Nat.le_of_ble_eq_true rfl) (Nat.le_of_ble_eq_true rfl) dX0_set_69
  · have hf := if_t hf c4
    refine lv_ldc (v := (-1000001)) hx hb hown (hts _ q350) dX0_set_7 ?_
    have hf := sm_e hf
    subst hf
    exact x_retI cx hw rfl () rfl [0, 1] rfl rfl (Nat.le_of_ble_eq_true rfl) (Nat.le_of_ble_eq_true rfl) dX0_set_9
set_option maxHeartbeats 4000000 in
theorem mX0_set_1 (l : Launch) (D : va_G) (d : Nat → ClassId) (cs : Nat → Nat) (wi : va_W) (ln : Nat → Option Int32) (lf : Nat → Nat → Option Nat) (dk : Nat → Option Nat) (dn : Nat → Int32) (him : ImF d wi ln lf dk dn) (sa : Nat → Nat) (ha : Nat → Nat) (ta : Nat → Nat) (ra : Nat) (ria : Nat) (rn : Nat) (gt : Int32) (gf : Int32) (gc : Int32) (tra : Nat) (gs : Int32) (RW : Nat → Option Nat) (rl : Int32) (RI : Nat → Int32) (p1 : Int32) (p2 : Int32) (p3 : Int32)  (res : Int32 × (Nat → Int32) × Int32) (hf : fX0_set_1 ra rn gs RW rl RI p1 p2 p3 = some res) : MetI l yX0_set (wsW_ yX0_set cX0_set 5 (some .int) [(10, 60, 61, 74)]) { frames := 6, cells := 1, slots := 7, locals := 151 } [.ref (sa 0), .int p1, .int p2, .int p3] (XI D cs wi) D d [(ra, .inr (10, [.int rl, .ref ria])), (ria, .inl (d 0, rn, .inl RI)), oS sa ha ta gt gf gc tra gs, ((sa 1), .inl (d 3, 8, .inr (.inr (.inr (.inr RW)))))] (fun r (_ : Unit) => r = res.1) (fun _ => [(ra, .inr (10, [.int rl, .ref ria])), (ria, .inl (d 0, rn, .inl res.2.1)), oS sa ha ta gt gf gc tra res.2.2, ((sa 1), .inl (d 3, 8, .inr (.inr (.inr (.inr RW)))))]) := by
  have hX := XI.ok (D := D) (cs := cs) (wi := wi)
  refine MetI.ofH (by decide +kernel) (Nat.le_of_ble_eq_true rfl) ?_
  intro p e s m below meth c A cx hET hw ls hl
  have cx : Cx p s m _ meth c (XI D cs wi) D d A "DishLift" cX0_set 5 (some .int) "set" := cx
  have cx' := cx
  obtain ⟨hx, hb, hr, hlk, hml, hown, hts, hK, hA, hXs, hnm⟩ := cx'
  have hl : lv_has ls 5 [(0, .ref (sa 0)), (1, .int p1), (2, .int p2), (3, .int p3)] := hl
  generalize hlo : ([] : List Loc) = locs at hw ⊢
  unfold fX0_set_1 at hf
  refine lv_iload_n hx hb dX0_set_0 rfl (lv_at hl 1 rfl) ?_
  obtain ⟨q1, hcq1, hf⟩ := op_e hf
  refine x_SI (wr := [(ra, .inr (10, [.int rl, .ref ria])), (ria, .inl (d 0, rn, .inl RI)), oS sa ha ta gt gf gc tra gs, ((sa 1), .inl (d 3, 8, .inr (.inr (.inr (.inr RW)))))]) (rest := []) [.int p1] hX cx hw hl.1 (mX0_isRow l (XI D cs wi) hX D d  p1  q1 hcq1) (lw_S q342 q343 q82 q344) hd_X0_isRow ⟨(Nat.le_of_ble_eq_true rfl), (Nat.le_of_ble_eq_true rfl)⟩ rfl rfl (Nat.le_of_ble_eq_true rfl) dX0_set_1 [] [0, 1, 2, 3] rfl rfl rfl rfl (by decide) ⟨(Nat.le_of_ble_eq_true rfl), (Nat.le_of_ble_eq_true rfl)⟩ (fun r u H locs hp hw => ?_)
  have hw : Wd D A s [(ra, .inr (10, [.int rl, .ref ria])), (ria, .inl (d 0, rn, .inl RI)), oS sa ha ta gt gf gc tra gs, ((sa 1), .inl (d 3, 8, .inr (.inr (.inr (.inr RW)))))] H locs := hw
  subst r
  refine lv_if_ne (tgt := 10) hx hb dX0_set_4 (by decide) (fun c4 => ?_) (fun c4 => ?_)
  · have hf := if_f hf c4
    refine lv_aload_n hx hb dX0_set_10 rfl (lv_at hl 0 rfl) ?_
    refine lv_iload_n hx hb dX0_set_11 rfl (lv_at hl 1 rfl) ?_
    obtain ⟨r3, hcr3, hf⟩ := op_e hf
    rcases r3 with q4 | e5
    · refine x_VA (wr := [(ra, .inr (10, [.int rl, .ref ria])), (ria, .inl (d 0, rn, .inl RI))]) (rest := []) [.int p1] hX cx hw hl.1 (mX0_rowAt l D d cs wi ln lf dk dn him sa ha ta gt gf gc tra gs RW p1  q4 hcr3) (lw_V q446 q448 qs3 q82 q449) hd_X0_rowAt ⟨(Nat.le_of_ble_eq_true rfl), (Nat.le_of_ble_eq_true rfl)⟩ (va_recv hK hw.1 (ci := 1) (q0 := 2) rfl rfl) rfl rfl (Nat.le_of_ble_eq_true rfl) dX0_set_12 [2, 3] [0, 1] rfl rfl rfl rfl (by decide) ⟨(Nat.le_of_ble_eq_true rfl), (Nat.le_of_ble_eq_true rfl)⟩ (fun u H locs hp hw => ?_)
      have hw : Wd D A s [(ra, .inr (10, [.int rl, .ref ria])), (ria, .inl (d 0, rn, .inl RI)), oS sa ha ta gt gf gc tra gs, ((sa 1), .inl (d 3, 8, .inr (.inr (.inr (.inr RW)))))] H locs := hw
      obtain ⟨g7, hgq, hf⟩ := op_e hf
      have hgq := eqa_spec hgq
      refine W.eq (g2 := F0 m 15 ls [.ref ra]) (by rw [hgq]) ?_
      refine lv_astore (lv' := [(4, .ref ra), (0, .ref (sa 0)), (1, .int p1), (2, .int p2), (3, .int p3)]) hx hb dX0_set_15 hl (by decide) rfl (fun ls hl => ?_)
      refine lv_iload_n hx hb dX0_set_17 rfl (lv_at hl 3 rfl) ?_
      refine lv_i2l (v := p2.toInt64) hx hb dX0_set_18 rfl ?_
      refine lv_lconst (v := 0) hx hb dX0_set_19 (by decide) ?_
      refine lv_aload hx hb dX0_set_20 (lv_at hl 0 rfl) ?_
      refine va_get (ci := 10) (C := RX11) (T := TX11) (N := 2) hx hb hts in_X11 hown hK hw.1 0 rfl rfl 1 (by decide) (hts _ q427) (fun _ h9 => h9) rfl dX0_set_22 ?_
      refine va_alen (v := (Int32.ofNat rn)) hx hb hK hw.1 1 0 rfl rfl rfl dX0_set_25 ?_
      refine lv_iconst (v := 1) hx hb dX0_set_26 (by decide) ?_
      refine lv_isub hx hb dX0_set_27 ?_
      refine lv_i2l (v := ((Int32.ofNat rn) - 1).toInt64) hx hb dX0_set_28 rfl ?_
      obtain ⟨q8, hcq8, hf⟩ := op_e hf
      refine x_SI (wr := [(ra, .inr (10, [.int rl, .ref ria])), (ria, .inl (d 0, rn, .inl RI)), oS sa ha ta gt gf gc tra gs, ((sa 1), .inl (d 3, 8, .inr (.inr (.inr (.inr RW)))))]) (rest := []) [.long p2.toInt64, .long 0, .long ((Int32.ofNat rn) - 1).toInt64] hX cx hw hl.1 (mX0_isIn l (XI D cs wi) hX D d  p2.toInt64 0 (((Int32.ofNat rn) - 1).toInt64)  q8 hcq8) (lw_S q346 q347 q82 q348) hd_X0_isIn ⟨(Nat.le_of_ble_eq_true rfl), (Nat.le_of_ble_eq_true rfl)⟩ rfl rfl (Nat.le_of_ble_eq_true rfl) dX0_set_29 [] [0, 1, 2, 3] rfl rfl rfl rfl (by decide) ⟨(Nat.le_of_ble_eq_true rfl), (Nat.le_of_ble_eq_true rfl)⟩ (fun r u H locs hp hw => ?_)
      have hw : Wd D A s [(ra, .inr (10, [.int rl, .ref ria])), (ria, .inl (d 0, rn, .inl RI)), oS sa ha ta gt gf gc tra gs, ((sa 1), .inl (d 3, 8, .inr (.inr (.inr (.inr RW)))))] H locs := hw
      subst r
      refine lv_iconst (v := 2) hx hb dX0_set_32 (by decide) ?_
      obtain ⟨r10, hcr10, hf⟩ := op_e hf
      rcases r10 with q11 | e12
      · refine x_SV (wr := [(ra, .inr (10, [.int rl, .ref ria])), (ria, .inl (d 0, rn, .inl RI)), oS sa ha ta gt gf gc tra gs, ((sa 1), .inl (d 3, 8, .inr (.inr (.inr (.inr RW)))))]) (rest := []) [.int q8, .int 2] hX cx hw hl.1 (mX0_must l D d cs wi ln lf dk dn him q8 2  q11 hcr10) (lw_S q351 q352 q82 q353) hd_X0_must ⟨(Nat.le_of_ble_eq_true rfl), (Nat.le_of_ble_eq_true rfl)⟩ rfl rfl (Nat.le_of_ble_eq_true rfl) dX0_set_33 [] [0, 1, 2, 3] rfl rfl rfl rfl (by decide) ⟨(Nat.le_of_ble_eq_true rfl), (Nat.le_of_ble_eq_true rfl)⟩ (fun u H locs hp hw => ?_)
        have hw : Wd D A s [(ra, .inr (10, [.int rl, .ref ria])), (ria, .inl (d 0, rn, .inl RI)), oS sa ha ta gt gf gc tra gs, ((sa 1), .inl (d 3, 8, .inr (.inr (.inr (.inr RW)))))] H locs := hw
        refine lv_aload hx hb dX0_set_36 (lv_at hl 0 rfl) ?_
        refine va_get (ci := 10) (C := RX11) (T := TX11) (N := 2) hx hb hts in_X11 hown hK hw.1 0 rfl rfl 1 (by decide) (hts _ q427) (fun _ h9 => h9) rfl dX0_set_38 ?_
        refine lv_iload_n hx hb dX0_set_41 rfl (lv_at hl 3 rfl) ?_
        refine lv_aload hx hb dX0_set_42 (lv_at hl 0 rfl) ?_
        refine lv_iload_n hx hb dX0_set_44 rfl (lv_at hl 4 rfl) ?_
        obtain ⟨q14, hcq14, hf⟩ := op_e hf
        refine x_VI (wr := [oS sa ha ta gt gf gc tra gs, ((sa 1), .inl (d 3, 8, .inr (.inr (.inr (.inr RW)))))]) (rest := [.int p2, .ref ria]) [.int p3] hX cx hw hl.1 (mX11_cut l  D d cs wi ln lf dk dn him ra ria rn rl RI p3  q14 hcq14) (lw_V q450 q451 q452 q98 q453) hd_X11_cut ⟨(Nat.le_of_ble_eq_true rfl), (Nat.le_of_ble_eq_true rfl)⟩ (va_recv hK hw.1 (ci := 10) (q0 := 0) rfl rfl) rfl rfl (Nat.le_of_ble_eq_true rfl) dX0_set_45 [0, 1] [2, 3] rfl rfl rfl rfl (by decide) ⟨(Nat.le_of_ble_eq_true rfl), (Nat.le_of_ble_eq_true rfl)⟩ (fun r u H locs hp hw => ?_)
        have hw : Wd D A s [oS sa ha ta gt gf gc tra gs, ((sa 1), .inl (d 3, 8, .inr (.inr (.inr (.inr RW))))), (ra, .inr (10, [.int rl, .ref ria])), (ria, .inl (d 0, rn, .inl RI))] H locs := hw
        subst r
        obtain ⟨w15, hrd, hf⟩ := op_e hf
        refine x_iast (q0 := 3) cx hw rfl hrd dX0_set_48 (fun H locs hw => ?_)
        have hw : Wd D A s [oS sa ha ta gt gf gc tra gs, ((sa 1), .inl (d 3, 8, .inr (.inr (.inr (.inr RW))))), (ra, .inr (10, [.int rl, .ref ria])), (ria, .inl (d 0, rn, .inl w15))] H locs := hw
        refine lv_aload_n hx hb dX0_set_49 rfl (lv_at hl 1 rfl) ?_
        refine lv_aload hx hb dX0_set_50 (lv_at hl 0 rfl) ?_
        refine va_get (ci := 10) (C := RX11) (T := TX11) (N := 2) hx hb hts in_X11 hown hK hw.1 2 rfl rfl 1 (by decide) (hts _ q427) (fun _ h9 => h9) rfl dX0_set_52 ?_
        refine lv_iload_n hx hb dX0_set_55 rfl (lv_at hl 3 rfl) ?_
        obtain ⟨v16, hrd, hf⟩ := op_e hf
        refine x_iald (q0 := 3) cx hw rfl hrd dX0_set_56 ?_
        obtain ⟨q17, hcq17, hf⟩ := op_e hf
        refine x_VI (wr := [((sa 1), .inl (d 3, 8, .inr (.inr (.inr (.inr RW))))), (ra, .inr (10, [.int rl, .ref ria])), (ria, .inl (d 0, rn, .inl w15))]) (rest := []) [.int v16] hX cx hw hl.1 (mX0_well l  D d cs wi ln lf dk dn him sa ha ta gt gf gc tra gs v16  q17 hcq17) (lw_V q433 q435 qs1 q82 q436) hd_X0_well ⟨(Nat.le_of_ble_eq_true rfl), (Nat.le_of_ble_eq_true rfl)⟩ (va_recv hK hw.1 (ci := 1) (q0 := 0) rfl rfl) rfl rfl (Nat.le_of_ble_eq_true rfl) dX0_set_57 [0] [1, 2, 3] rfl rfl rfl rfl (by decide) ⟨(Nat.le_of_ble_eq_true rfl), (Nat.le_of_ble_eq_true rfl)⟩ (fun r u H locs hp hw => ?_)
        have hw : Wd D A s [((sa 1), .inl (d 3, 8, .inr (.inr (.inr (.inr RW))))), (ra, .inr (10, [.int rl, .ref ria])), (ria, .inl (d 0, rn, .inl w15)), oS sa ha ta gt gf gc tra q17.2] H locs := hw
        subst r
        have hf := sm_e hf
        subst hf
        exact x_retI cx hw rfl () rfl [1, 2, 3, 0] rfl rfl (Nat.le_of_ble_eq_true rfl) (Nat.le_of_ble_eq_true rfl) dX0_set_60
      · refine x_TS (wr := [(ra, .inr (10, [.int rl, .ref ria])), (ria, .inl (d 0, rn, .inl RI)), oS sa ha ta gt gf gc tra gs, ((sa 1), .inl (d 3, 8, .inr (.inr (.inr (.inr RW)))))]) (rest := []) [.int q8, .int 2] hX cx hw hl.1 (tX0_must l D d cs wi ln lf dk dn him q8 2  e12 hcr10) (lw_S q351 q352 q82 q353) hd_X0_must ⟨(Nat.le_of_ble_eq_true rfl), (Nat.le_of_ble_eq_true rfl)⟩ rfl rfl (Nat.le_of_ble_eq_true rfl) dX0_set_33 [] [0, 1, 2, 3] rfl rfl rfl rfl (by decide) ⟨(Nat.le_of_ble_eq_true rfl), (Nat.le_of_ble_eq_true rfl)⟩ (fun a9 ce u H locs hw g1 g2 g3 => ?_)
        have hw : Wd D A s [(ra, .inr (10, [.int rl, .ref ria])), (ria, .inl (d 0, rn, .inl RI)), oS sa ha ta gt gf gc tra gs, ((sa 1), .inl (d 3, 8, .inr (.inr (.inr (.inr RW))))), (a9, .inr (12, [.null, .null, .null, .null, .null, .int 0, .int e12]))] H locs := hw
        refine vx_catch (E := "DishLift$Finding") (ce := ce) hown [] ⟨10, 60, 61, 74⟩ [] hET (fun z hz => absurd hz List.not_mem_nil) rfl (by decide) (hts _ q341) (va_tabs rfl rfl (Tb.cast q355 hXs.1)) g1 g2 g3 ?_
        refine W.eq (g2 := F0 m 61 ls [.ref a9]) rfl ?_
        refine W.widen (k := 1) (n := 7) (Nat.le_of_ble_eq_true rfl) (Nat.le_of_ble_eq_true rfl) ?_
        refine lv_astore (lv' := [(4, .ref a9), (0, .ref (sa 0)), (1, .int p1), (2, .int p2), (3, .int p3)]) hx hb dX0_set_61 hl (by decide) rfl (fun ls hl => ?_)
        refine lv_aload_n hx hb dX0_set_63 rfl (lv_at hl 1 rfl) ?_
        refine lv_aload hx hb dX0_set_64 (lv_at hl 0 rfl) ?_
        obtain ⟨q13, hcq13, hf⟩ := op_e hf
        refine x_VI (wr := [(ra, .inr (10, [.int rl, .ref ria])), (ria, .inl (d 0, rn, .inl RI)), ((sa 1), .inl (d 3, 8, .inr (.inr (.inr (.inr RW)))))]) (rest := []) [.ref a9] hX cx hw hl.1 (mX0_found l  D d cs wi ln lf dk dn him sa ha ta a9 gt gf gc tra gs e12  q13 hcq13) (lw_V q437 q439 qs2 q82 q440) hd_X0_found ⟨(Nat.le_of_ble_eq_true rfl), (Nat.le_of_ble_eq_true rfl)⟩ (va_recv hK hw.1 (ci := 1) (q0 := 2) rfl rfl) rfl rfl (Nat.le_of_ble_eq_true rfl) dX0_set_66 [4, 2] [0, 1, 3] rfl rfl rfl rfl (by decide) ⟨(Nat.le_of_ble_eq_true rfl), (Nat.le_of_ble_eq_true rfl)⟩ (fun r u H locs hp hw => ?_)
        have hw : Wd D A s [(ra, .inr (10, [.int rl, .ref ria])), (ria, .inl (d 0, rn, .inl RI)), ((sa 1), .inl (d 3, 8, .inr (.inr (.inr (.inr RW))))), (a9, .inr (12, [.null, .null, .null, .null, .null, .int 0, .int e12])), oS sa ha ta gt gf gc tra q13.2] H locs := hw
        subst r
        have hf := sm_e hf
        subst hf
        exact x_retI cx hw rfl () rfl [0, 1, 4, 2] rfl rfl (Nat.le_of_ble_eq_true rfl) (Nat.le_of_ble_eq_true rfl) dX0_set_69
    · refine x_TV (wr := [(ra, .inr (10, [.int rl, .ref ria])), (ria, .inl (d 0, rn, .inl RI))]) (rest := []) [.int p1] hX cx hw hl.1 (tX0_rowAt l D d cs wi ln lf dk dn him sa ha ta gt gf gc tra gs RW p1  e5 hcr3) (lw_V q446 q448 qs3 q82 q449) hd_X0_rowAt ⟨(Nat.le_of_ble_eq_true rfl), (Nat.le_of_ble_eq_true rfl)⟩ (va_recv hK hw.1 (ci := 1) (q0 := 2) rfl rfl) rfl rfl (Nat.le_of_ble_eq_true rfl) dX0_set_12 [2, 3] [0, 1] rfl rfl rfl rfl (by decide) ⟨(Nat.le_of_ble_eq_true rfl), (Nat.le_of_ble_eq_true rfl)⟩ (fun a2 ce u H locs hw g1 g2 g3 => ?_)
      have hw : Wd D A s [(ra, .inr (10, [.int rl, .ref ria])), (ria, .inl (d 0, rn, .inl RI)), oS sa ha ta gt gf gc tra gs, ((sa 1), .inl (d 3, 8, .inr (.inr (.inr (.inr RW))))), (a2, .inr (12, [.null, .null, .null, .null, .null, .int 0, .int e5]))] H locs := hw
      refine vx_catch (E := "DishLift$Finding") (ce := ce) hown [] ⟨10, 60, 61, 74⟩ [] hET (fun z hz => absurd hz List.not_mem_nil) rfl (by decide) (hts _ q341) (va_tabs rfl rfl (Tb.cast q355 hXs.1)) g1 g2 g3 ?_
      refine W.eq (g2 := F0 m 61 ls [.ref a2]) rfl ?_
      refine W.widen (k := 1) (n := 7) (Nat.le_of_ble_eq_true rfl) (Nat.le_of_ble_eq_true rfl) ?_
      refine lv_astore (lv' := [(4, .ref a2), (0, .ref (sa 0)), (1, .int p1), (2, .int p2), (3, .int p3)]) hx hb dX0_set_61 hl (by decide) rfl (fun ls hl => ?_)
      refine lv_aload_n hx hb dX0_set_63 rfl (lv_at hl 1 rfl) ?_
      refine lv_aload hx hb dX0_set_64 (lv_at hl 0 rfl) ?_
      obtain ⟨q6, hcq6, hf⟩ := op_e hf
      refine x_VI (wr := [(ra, .inr (10, [.int rl, .ref ria])), (ria, .inl (d 0, rn, .inl RI)), ((sa 1), .inl (d 3, 8, .inr (.inr (.inr (.inr RW)))))]) (rest := []) [.ref a2] hX cx hw hl.1 (mX0_found l  D d cs wi ln lf dk dn him sa ha ta a2 gt gf gc tra gs e5  q6 hcq6) (lw_V q437 q439 qs2 q82 q440) hd_X0_found ⟨(Nat.le_of_ble_eq_true rfl), (Nat.le_of_ble_eq_true rfl)⟩ (va_recv hK hw.1 (ci := 1) (q0 := 2) rfl rfl) rfl rfl (Nat.le_of_ble_eq_true rfl) dX0_set_66 [4, 2] [0, 1, 3] rfl rfl rfl rfl (by decide) ⟨(Nat.le_of_ble_eq_true rfl), (Nat.le_of_ble_eq_true rfl)⟩ (fun r u H locs hp hw => ?_)
      have hw : Wd D A s [(ra, .inr (10, [.int rl, .ref ria])), (ria, .inl (d 0, rn, .inl RI)), ((sa 1), .inl (d 3, 8, .inr (.inr (.inr (.inr RW))))), (a2, .inr (12, [.null, .null, .null, .null, .null, .int 0, .int e5])), oS sa ha ta gt gf gc tra q6.2] H locs := hw
      subst r
      have hf := sm_e hf
      subst hf
      exact x_retI cx hw rfl () rfl [0, 1, 4, 2] rfl rfl (Nat.le_of_ble_eq_true rfl) (Nat.le_of_ble_eq_true rfl) dX0_set_69
  · have hf := if_t hf c4
    refine lv_ldc (v := (-1000001)) hx hb hown (hts _ q350) dX0_set_7 ?_
    have hf := sm_e hf
    subst hf
    exact x_retI cx hw rfl () rfl [0, 1, 2, 3] rfl rfl (Nat.le_of_ble_eq_true rfl) (Nat.le_of_ble_eq_true rfl) dX0_set_9
set_option maxHeartbeats 4000000 in
theorem mX0_drop_1 (l : Launch) (D : va_G) (d : Nat → ClassId) (cs : Nat → Nat) (wi : va_W) (ln : Nat → Option Int32) (lf : Nat → Nat → Option Nat) (dk : Nat → Option Nat) (dn : Nat → Int32) (him : ImF d wi ln lf dk dn) (sa : Nat → Nat) (ha : Nat → Nat) (ta : Nat → Nat) (ra : Nat) (ria : Nat) (rn : Nat) (gt : Int32) (gf : Int32) (gc : Int32) (tra : Nat) (gs : Int32) (RW : Nat → Option Nat) (rl : Int32) (RI : Nat → Int32) (p1 : Int32)  (res : Int32 × Int32 × (Nat → Option Nat)) (hf : fX0_drop_1 ra rn gs RW p1 = some res) : MetI l yX0_drop (wsW_ yX0_drop cX0_drop 3 (some .int) [(10, 32, 33, 74)]) { frames := 6, cells := 1, slots := 7, locals := 151 } [.ref (sa 0), .int p1] (XI D cs wi) D d [(ra, .inr (10, [.int rl, .ref ria])), (ria, .inl (d 0, rn, .inl RI)), oS sa ha ta gt gf gc tra gs, ((sa 1), .inl (d 3, 8, .inr (.inr (.inr (.inr RW)))))] (fun r (_ : Unit) => r = res.1) (fun _ => [(ra, .inr (10, [.int rl, .ref ria])), (ria, .inl (d 0, rn, .inl RI)), oS sa ha ta gt gf gc tra res.2.1, ((sa 1), .inl (d 3, 8, .inr (.inr (.inr (.inr res.2.2)))))]) := by
  have hX := XI.ok (D := D) (cs := cs) (wi := wi)
  refine MetI.ofH (by decide +kernel) (Nat.le_of_ble_eq_true rfl) ?_
  intro p e s m below meth c A cx hET hw ls hl
  have cx : Cx p s m _ meth c (XI D cs wi) D d A "DishLift" cX0_drop 3 (some .int) "drop" := cx
  have cx' := cx
  obtain ⟨hx, hb, hr, hlk, hml, hown, hts, hK, hA, hXs, hnm⟩ := cx'
  have hl : lv_has ls 3 [(0, .ref (sa 0)), (1, .int p1)] := hl
  generalize hlo : ([] : List Loc) = locs at hw ⊢
  unfold fX0_drop_1 at hf
  refine lv_iload_n hx hb dX0_drop_0 rfl (lv_at hl 1 rfl) ?_
  obtain ⟨q1, hcq1, hf⟩ := op_e hf
  refine x_SI (wr := [(ra, .inr (10, [.int rl, .ref ria])), (ria, .inl (d 0, rn, .inl RI)), oS sa ha ta gt gf gc tra gs, ((sa 1), .inl (d 3, 8, .inr (.inr (.inr (.inr RW)))))]) (rest := []) [.int p1] hX cx hw hl.1 (mX0_isRow l (XI D cs wi) hX D d  p1  q1 hcq1) (lw_S q342 q343 q82 q344) hd_X0_isRow ⟨(Nat.le_of_ble_eq_true rfl), (Nat.le_of_ble_eq_true rfl)⟩ rfl rfl (Nat.le_of_ble_eq_true rfl) dX0_drop_1 [] [0, 1, 2, 3] rfl rfl rfl rfl (by decide) ⟨(Nat.le_of_ble_eq_true rfl), (Nat.le_of_ble_eq_true rfl)⟩ (fun r u H locs hp hw => ?_)
  have hw : Wd D A s [(ra, .inr (10, [.int rl, .ref ria])), (ria, .inl (d 0, rn, .inl RI)), oS sa ha ta gt gf gc tra gs, ((sa 1), .inl (d 3, 8, .inr (.inr (.inr (.inr RW)))))] H locs := hw
  subst r
  refine lv_if_ne (tgt := 10) hx hb dX0_drop_4 (by decide) (fun c4 => ?_) (fun c4 => ?_)
  · have hf := if_f hf c4
    refine lv_aload_n hx hb dX0_drop_10 rfl (lv_at hl 0 rfl) ?_
    refine lv_iload_n hx hb dX0_drop_11 rfl (lv_at hl 1 rfl) ?_
    obtain ⟨r3, hcr3, hf⟩ := op_e hf
    rcases r3 with q4 | e5
    · refine x_VA (wr := [(ra, .inr (10, [.int rl, .ref ria])), (ria, .inl (d 0, rn, .inl RI))]) (rest := []) [.int p1] hX cx hw hl.1 (mX0_rowAt l D d cs wi ln lf dk dn him sa ha ta gt gf gc tra gs RW p1  q4 hcr3) (lw_V q446 q448 qs3 q82 q449) hd_X0_rowAt ⟨(Nat.le_of_ble_eq_true rfl), (Nat.le_of_ble_eq_true rfl)⟩ (va_recv hK hw.1 (ci := 1) (q0 := 2) rfl rfl) rfl rfl (Nat.le_of_ble_eq_true rfl) dX0_drop_12 [2, 3] [0, 1] rfl rfl rfl rfl (by decide) ⟨(Nat.le_of_ble_eq_true rfl), (Nat.le_of_ble_eq_true rfl)⟩ (fun u H locs hp hw => ?_)
      have hw : Wd D A s [(ra, .inr (10, [.int rl, .ref ria])), (ria, .inl (d 0, rn, .inl RI)), oS sa ha ta gt gf gc tra gs, ((sa 1), .inl (d 3, 8, .inr (.inr (.inr (.inr RW)))))] H locs := hw
      obtain ⟨g7, hgq, hf⟩ := op_e hf
      have hgq := eqa_spec hgq
      refine W.eq (g2 := F0 m 15 ls [.ref ra]) (by rw [hgq]) ?_
      refine va_get (ci := 10) (C := RX11) (T := TX11) (N := 2) hx hb hts in_X11 hown hK hw.1 0 rfl rfl 1 (by decide) (hts _ q427) (fun _ h9 => h9) rfl dX0_drop_15 ?_
      refine va_alen (v := (Int32.ofNat rn)) hx hb hK hw.1 1 0 rfl rfl rfl dX0_drop_18 ?_
      refine lv_istore_n (lv' := [(2, .int (Int32.ofNat rn)), (0, .ref (sa 0)), (1, .int p1)]) hx hb dX0_drop_19 rfl hl (by decide) rfl (fun ls hl => ?_)
      refine lv_aload_n hx hb dX0_drop_20 rfl (lv_at hl 1 rfl) ?_
      refine va_get (ci := 1) (C := RX0) (T := TX0) (N := 14) hx hb hts in_X0 hown hK hw.1 2 rfl rfl 0 (by decide) (hts _ q294) (fun _ h9 => h9) rfl dX0_drop_21 ?_
      refine lv_iload_n hx hb dX0_drop_24 rfl (lv_at hl 2 rfl) ?_
      refine lv_null hx hb dX0_drop_25 ?_
      obtain ⟨w8, hrd, hf⟩ := op_e hf
      obtain ⟨hin, hwq⟩ := wrqs hrd
      refine va_astqN hx hb hK hw.1 hw.2.1 hw.2.2 3 3 rfl rfl hin dX0_drop_26 (fun H locs hP hD hS => ?_)
      rw [hwq] at hP hD
      have hw : Wd D A s [(ra, .inr (10, [.int rl, .ref ria])), (ria, .inl (d 0, rn, .inl RI)), oS sa ha ta gt gf gc tra gs, ((sa 1), .inl (d 3, 8, .inr (.inr (.inr (.inr w8)))))] H locs := ⟨hP, hD, hS⟩
      refine lv_aload_n hx hb dX0_drop_27 rfl (lv_at hl 1 rfl) ?_
      refine lv_iload_n hx hb dX0_drop_28 rfl (lv_at hl 0 rfl) ?_
      obtain ⟨q9, hcq9, hf⟩ := op_e hf
      refine x_VI (wr := [(ra, .inr (10, [.int rl, .ref ria])), (ria, .inl (d 0, rn, .inl RI)), ((sa 1), .inl (d 3, 8, .inr (.inr (.inr (.inr w8)))))]) (rest := []) [.int (Int32.ofNat rn)] hX cx hw hl.1 (mX0_well l  D d cs wi ln lf dk dn him sa ha ta gt gf gc tra gs (Int32.ofNat rn)  q9 hcq9) (lw_V q433 q435 qs1 q82 q436) hd_X0_well ⟨(Nat.le_of_ble_eq_true rfl), (Nat.le_of_ble_eq_true rfl)⟩ (va_recv hK hw.1 (ci := 1) (q0 := 2) rfl rfl) rfl rfl (Nat.le_of_ble_eq_true rfl) dX0_drop_29 [2] [0, 1, 3] rfl rfl rfl rfl (by decide) ⟨(Nat.le_of_ble_eq_true rfl), (Nat.le_of_ble_eq_true rfl)⟩ (fun r u H locs hp hw => ?_)
      have hw : Wd D A s [(ra, .inr (10, [.int rl, .ref ria])), (ria, .inl (d 0, rn, .inl RI)), ((sa 1), .inl (d 3, 8, .inr (.inr (.inr (.inr w8))))), oS sa ha ta gt gf gc tra q9.2] H locs := hw
      subst r
      have hf := sm_e hf
      subst hf
      exact x_retI cx hw rfl () rfl [0, 1, 3, 2] rfl rfl (Nat.le_of_ble_eq_true rfl) (Nat.le_of_ble_eq_true rfl) dX0_drop_32
    · refine x_TV (wr := [(ra, .inr (10, [.int rl, .ref ria])), (ria, .inl (d 0, rn, .inl RI))]) (rest := []) [.int p1] hX cx hw hl.1 (tX0_rowAt l D d cs wi ln lf dk dn him sa ha ta gt gf gc tra gs RW p1  e5 hcr3) (lw_V q446 q448 qs3 q82 q449) hd_X0_rowAt ⟨(Nat.le_of_ble_eq_true rfl), (Nat.le_of_ble_eq_true rfl)⟩ (va_recv hK hw.1 (ci := 1) (q0 := 2) rfl rfl) rfl rfl (Nat.le_of_ble_eq_true rfl) dX0_drop_12 [2, 3] [0, 1] rfl rfl rfl rfl (by decide) ⟨(Nat.le_of_ble_eq_true rfl), (Nat.le_of_ble_eq_true rfl)⟩ (fun a2 ce u H locs hw g1 g2 g3 => ?_)
      have hw : Wd D A s [(ra, .inr (10, [.int rl, .ref ria])), (ria, .inl (d 0, rn, .inl RI)), oS sa ha ta gt gf gc tra gs, ((sa 1), .inl (d 3, 8, .inr (.inr (.inr (.inr RW))))), (a2, .inr (12, [.null, .null, .null, .null, .null, .int 0, .int e5]))] H locs := hw
      refine vx_catch (E := "DishLift$Finding") (ce := ce) hown [] ⟨10, 32, 33, 74⟩ [] hET (fun z hz => absurd hz List.not_mem_nil) rfl (by decide) (hts _ q341) (va_tabs rfl rfl (Tb.cast q355 hXs.1)) g1 g2 g3 ?_
      refine W.eq (g2 := F0 m 33 ls [.ref a2]) rfl ?_
      refine W.widen (k := 1) (n := 7) (Nat.le_of_ble_eq_true rfl) (Nat.le_of_ble_eq_true rfl) ?_
      refine lv_astore_n (lv' := [(2, .ref a2), (0, .ref (sa 0)), (1, .int p1)]) hx hb dX0_drop_33 rfl hl (by decide) rfl (fun ls hl => ?_)
      refine lv_aload_n hx hb dX0_drop_34 rfl (lv_at hl 1 rfl) ?_
      refine lv_aload_n hx hb dX0_drop_35 rfl (lv_at hl 0 rfl) ?_
      obtain ⟨q6, hcq6, hf⟩ := op_e hf
      refine x_VI (wr := [(ra, .inr (10, [.int rl, .ref ria])), (ria, .inl (d 0, rn, .inl RI)), ((sa 1), .inl (d 3, 8, .inr (.inr (.inr (.inr RW)))))]) (rest := []) [.ref a2] hX cx hw hl.1 (mX0_found l  D d cs wi ln lf dk dn him sa ha ta a2 gt gf gc tra gs e5  q6 hcq6) (lw_V q437 q439 qs2 q82 q440) hd_X0_found ⟨(Nat.le_of_ble_eq_true rfl), (Nat.le_of_ble_eq_true rfl)⟩ (va_recv hK hw.1 (ci := 1) (q0 := 2) rfl rfl) rfl rfl (Nat.le_of_ble_eq_true rfl) dX0_drop_36 [4, 2] [0, 1, 3] rfl rfl rfl rfl (by decide) ⟨(Nat.le_of_ble_eq_true rfl), (Nat.le_of_ble_eq_true rfl)⟩ (fun r u H locs hp hw => ?_)
      have hw : Wd D A s [(ra, .inr (10, [.int rl, .ref ria])), (ria, .inl (d 0, rn, .inl RI)), ((sa 1), .inl (d 3, 8, .inr (.inr (.inr (.inr RW))))), (a2, .inr (12, [.null, .null, .null, .null, .null, .int 0, .int e5])), oS sa ha ta gt gf gc tra q6.2] H locs := hw
      subst r
      have hf := sm_e hf
      subst hf
      exact x_retI cx hw rfl () rfl [0, 1, 4, 2] rfl rfl (Nat.le_of_ble_eq_true rfl) (Nat.le_of_ble_eq_true rfl) dX0_drop_39
  · have hf := if_t hf c4
    refine lv_ldc (v := (-1000001)) hx hb hown (hts _ q350) dX0_drop_7 ?_
    have hf := sm_e hf
    subst hf
    exact x_retI cx hw rfl () rfl [0, 1, 2, 3] rfl rfl (Nat.le_of_ble_eq_true rfl) (Nat.le_of_ble_eq_true rfl) dX0_drop_9
