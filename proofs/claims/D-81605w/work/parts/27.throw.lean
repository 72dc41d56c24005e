set_option maxRecDepth 100000
def fX0_must (p0 : Int32) (p1 : Int32) : Option ((Unit) ⊕ (Int32)) :=
  if p0 = 0 then
    some (.inr p1)
  else
    some (.inl ())
def fX0_rowAt (RW : Nat → Option Nat) (p1 : Int32) : Option ((Nat) ⊕ (Int32)) :=
  (rdq RW 8 p1).bind fun o1 =>
  (if o1 = none then
    some 0
  else
    some 1 : Option (Int32)).bind fun j3 =>
  (fX0_must j3 1).bind fun r5 =>
  match r5 with
  | .inr e7 => some (.inr e7)
  | .inl q6 =>
    (rdq RW 8 p1).bind fun o8 =>
    o8.bind fun e9 =>
    some (.inl e9)
theorem hd_X0_must : yX0_must.cls ≠ "java/lang/invoke/MethodHandle" ∧ yX0_must.cls ≠ "java/lang/invoke/VarHandle" ∧ (parseMethodDescriptor yX0_must.desc).map (fun d => d.parameters.length) = some 2 := by decide +kernel
set_option maxHeartbeats 4000000 in
theorem mX0_must (l : Launch) (D : va_G) (d : Nat → ClassId) (cs : Nat → Nat) (wi : va_W) (ln : Nat → Option Int32) (lf : Nat → Nat → Option Nat) (dk : Nat → Option Nat) (dn : Nat → Int32) (him : ImF d wi ln lf dk dn) (p0 : Int32) (p1 : Int32)  (res : Unit) (hf : fX0_must p0 p1 = some (.inl res)) : MetV l yX0_must (ws_ yX0_must cX0_must 2 none) { frames := 4, cells := 0, slots := 0, locals := 109 } [.int p0, .int p1] (XI D cs wi) D d [] (fun (_ : Unit) => True) (fun _ => []) := by
  have hX := XI.ok (D := D) (cs := cs) (wi := wi)
  refine MetV.of (by decide +kernel) (Nat.le_of_ble_eq_true rfl) ?_
  intro p e s m below meth c A cx hw ls hl
  have cx : Cx p s m _ meth c (XI D cs wi) D d A "DishLift" cX0_must 2 none "must" := cx
  have cx' := cx
  obtain ⟨hx, hb, hr, hlk, hml, hown, hts, hK, hA, hXs, hnm⟩ := cx'
  have hl : lv_has ls 2 [(0, .int p0), (1, .int p1)] := hl
  generalize hlo : ([] : List Loc) = locs at hw ⊢
  unfold fX0_must at hf
  refine lv_iload_n hx hb dX0_must_0 rfl (lv_at hl 0 rfl) ?_
  refine lv_if_ne (tgt := 13) hx hb dX0_must_1 (by decide) (fun c1 => ?_) (fun c1 => ?_)
  · have hf := if_f hf c1
    have hf := Sum.inl.inj (sm_e hf)
    subst hf
    exact x_retV cx hw () trivial [] rfl rfl (Nat.le_of_ble_eq_true rfl) (Nat.le_of_ble_eq_true rfl) dX0_must_13
  · have hf := if_t hf c1
    cases hf
set_option maxHeartbeats 4000000 in
theorem tX0_must (l : Launch) (D : va_G) (d : Nat → ClassId) (cs : Nat → Nat) (wi : va_W) (ln : Nat → Option Int32) (lf : Nat → Nat → Option Nat) (dk : Nat → Option Nat) (dn : Nat → Int32) (him : ImF d wi ln lf dk dn) (p0 : Int32) (p1 : Int32)  (res : Int32) (hf : fX0_must p0 p1 = some (.inr res)) : TMet l yX0_must (ws_ yX0_must cX0_must 2 none) { frames := 4, cells := 1, slots := 7, locals := 109 } [.int p0, .int p1] (XI D cs wi) D d [] "DishLift$Finding" (fun q9 (_ : Unit) => [(q9, .inr (12, [.null, .null, .null, .null, .null, .int 0, .int res]))]) := by
  have hX := XI.ok (D := D) (cs := cs) (wi := wi)
  refine TMet.of (by decide +kernel) (Nat.le_of_ble_eq_true rfl) ?_
  intro p e s m below meth c A cx hET hw ls hl
  have cx : Cx p s m _ meth c (XI D cs wi) D d A "DishLift" cX0_must 2 none "must" := cx
  have cx' := cx
  obtain ⟨hx, hb, hr, hlk, hml, hown, hts, hK, hA, hXs, hnm⟩ := cx'
  have hl : lv_has ls 2 [(0, .int p0), (1, .int p1)] := hl
  generalize hlo : ([] : List Loc) = locs at hw ⊢
  unfold fX0_must at hf
  refine lv_iload_n hx hb dX0_must_0 rfl (lv_at hl 0 rfl) ?_
  refine lv_if_ne (tgt := 13) hx hb dX0_must_1 (by decide) (fun c1 => ?_) (fun c1 => ?_)
  · have hf := if_f hf c1
    cases hf
  · have hf := if_t hf c1
    refine va_new (ci := 12) (fs := [.null, .null, .null, .null, .null, .int 0, .int 0]) (C := RX10) (T := TX10) (N := 7) hx hb hts in_X10 tyX10 tyX10_ok hown (hts _ q341) (hts _ q354) (hts _ q97) hK hw.1 hw.2.1 hw.2.2 hA rfl (fun j hj => match j, hj with | 0, _ => rfl | 1, _ => rfl | 2, _ => rfl | 3, _ => rfl | 4, _ => rfl | 5, _ => rfl | 6, _ => rfl | j + 7, hj => absurd hj (by omega)) (Nat.le_of_ble_eq_true rfl) (Nat.le_of_ble_eq_true rfl) dX0_must_4 (fun a1 H hP hD hS => ?_)
    have hw : Wd D A s [(a1, .inr (12, [.null, .null, .null, .null, .null, .int 0, .int 0]))] H locs := ⟨hP, hD, hS⟩
    refine W.widen (k := 1) (n := 7) (Nat.le_of_ble_eq_true rfl) (Nat.le_of_ble_eq_true rfl) ?_
    refine lv_dup hx hb dX0_must_7 rfl ?_
    refine lv_iload_n hx hb dX0_must_8 rfl (lv_at hl 1 rfl) ?_
    refine x_NV (wr := []) (rest := [.ref a1]) [.int p1] hX cx hw hl.1 (mX10_init l cs wi D d a1 p1 ) q395 q97 q393 q394 rfl hd_X10_init ⟨(Nat.le_of_ble_eq_true rfl), (Nat.le_of_ble_eq_true rfl)⟩ rfl rfl (Nat.le_of_ble_eq_true rfl) dX0_must_9 [0] [] rfl rfl rfl rfl (by decide) ⟨(Nat.le_of_ble_eq_true rfl), (Nat.le_of_ble_eq_true rfl)⟩ (fun u H locs hp hw => ?_)
    have hw : Wd D A s [(a1, .inr (12, [.null, .null, .null, .null, .null, .int 0, .int p1]))] H locs := hw
    refine W.widen (k := 1) (n := 7) (Nat.le_of_ble_eq_true rfl) (Nat.le_of_ble_eq_true rfl) ?_
    have hf := Sum.inr.inj (sm_e hf)
    subst hf
    refine vx_athrow hx hb dX0_must_12 ?_
    obtain ⟨ce, g1, g2, g3⟩ := x_thrown cx hw (k := 0) rfl rfl
    exact x_out cx hET hw () g1 g2 g3 [0] rfl rfl (Nat.le_of_ble_eq_true rfl) (Nat.le_of_ble_eq_true rfl)
theorem hd_X0_rowAt : yX0_rowAt.cls = "DishLift" ∧ yX0_rowAt.cls ≠ "java/lang/invoke/MethodHandle" ∧ yX0_rowAt.cls ≠ "java/lang/invoke/VarHandle" ∧ (parseMethodDescriptor yX0_rowAt.desc).map (fun d => d.parameters.length) = some 1 := by decide +kernel
set_option maxHeartbeats 4000000 in
theorem mX0_rowAt (l : Launch) (D : va_G) (d : Nat → ClassId) (cs : Nat → Nat) (wi : va_W) (ln : Nat → Option Int32) (lf : Nat → Nat → Option Nat) (dk : Nat → Option Nat) (dn : Nat → Int32) (him : ImF d wi ln lf dk dn) (sa : Nat → Nat) (ha : Nat → Nat) (ta : Nat → Nat) (gt : Int32) (gf : Int32) (gc : Int32) (tra : Nat) (gs : Int32) (RW : Nat → Option Nat) (p1 : Int32)  (res : Nat) (hf : fX0_rowAt RW p1 = some (.inl res)) : MetA l yX0_rowAt (ws_ yX0_rowAt cX0_rowAt 2 (some (.object "DishLift$Row"))) { frames := 5, cells := 0, slots := 0, locals := 130 } [.ref (sa 0), .int p1] (XI D cs wi) D d [oS sa ha ta gt gf gc tra gs, ((sa 1), .inl (d 3, 8, .inr (.inr (.inr (.inr RW)))))] res (fun (_ : Unit) => True) (fun _ => [oS sa ha ta gt gf gc tra gs, ((sa 1), .inl (d 3, 8, .inr (.inr (.inr (.inr RW)))))]) := by
  have hX := XI.ok (D := D) (cs := cs) (wi := wi)
  refine MetA.of (by decide +kernel) (Nat.le_of_ble_eq_true rfl) ?_
  intro p e s m below meth c A cx hw ls hl
  have cx : Cx p s m _ meth c (XI D cs wi) D d A "DishLift" cX0_rowAt 2 (some (.object "DishLift$Row")) "rowAt" := cx
  have cx' := cx
  obtain ⟨hx, hb, hr, hlk, hml, hown, hts, hK, hA, hXs, hnm⟩ := cx'
  have hl : lv_has ls 2 [(0, .ref (sa 0)), (1, .int p1)] := hl
  generalize hlo : ([] : List Loc) = locs at hw ⊢
  unfold fX0_rowAt at hf
  refine lv_aload_n hx hb dX0_rowAt_0 rfl (lv_at hl 0 rfl) ?_
  refine va_get (ci := 1) (C := RX0) (T := TX0) (N := 14) hx hb hts in_X0 hown hK hw.1 0 rfl rfl 0 (by decide) (hts _ q294) (fun _ h9 => h9) rfl dX0_rowAt_1 ?_
  refine lv_iload_n hx hb dX0_rowAt_4 rfl (lv_at hl 1 rfl) ?_
  obtain ⟨o1, hrd, hf⟩ := op_e hf
  refine x_aald (q0 := 1) (t0 := 3) cx hw rfl rfl hrd dX0_rowAt_5 ?_
  obtain ⟨j3, hjA, hjR⟩ := op_e hf
  refine x_join (A := A) (D := D) (J := 14) (nL := 2) (cells' := 0) (slots' := 0) (st := [.int j3]) [oS sa ha ta gt gf gc tra gs, ((sa 1), .inl (d 3, 8, .inr (.inr (.inr (.inr RW)))))] [(0, .ref (sa 0)), (1, .int p1)] (fun H locs ls hw hl => ?_) (fun hKj14_j3 => ?_)
  · have hf := hjR
    refine lv_iconst (v := 1) hx hb dX0_rowAt_14 (by decide) ?_
    obtain ⟨r5, hcr5, hf⟩ := op_e hf
    rcases r5 with q6 | e7
    · refine x_SV (wr := [oS sa ha ta gt gf gc tra gs, ((sa 1), .inl (d 3, 8, .inr (.inr (.inr (.inr RW)))))]) (rest := []) [.int j3, .int 1] hX cx hw hl.1 (mX0_must l D d cs wi ln lf dk dn him j3 1  q6 hcr5) (lw_S q351 q352 q82 q353) hd_X0_must ⟨(Nat.le_of_ble_eq_true rfl), (Nat.le_of_ble_eq_true rfl)⟩ rfl rfl (Nat.le_of_ble_eq_true rfl) dX0_rowAt_15 [] [0, 1] rfl rfl rfl rfl (by decide) ⟨(Nat.le_of_ble_eq_true rfl), (Nat.le_of_ble_eq_true rfl)⟩ (fun u H locs hp hw => ?_)
      have hw : Wd D A s [oS sa ha ta gt gf gc tra gs, ((sa 1), .inl (d 3, 8, .inr (.inr (.inr (.inr RW)))))] H locs := hw
      refine lv_aload_n hx hb dX0_rowAt_18 rfl (lv_at hl 0 rfl) ?_
      refine va_get (ci := 1) (C := RX0) (T := TX0) (N := 14) hx hb hts in_X0 hown hK hw.1 0 rfl rfl 0 (by decide) (hts _ q294) (fun _ h9 => h9) rfl dX0_rowAt_19 ?_
      refine lv_iload_n hx hb dX0_rowAt_22 rfl (lv_at hl 1 rfl) ?_
      obtain ⟨o8, hrd, hf⟩ := op_e hf
      refine x_aald (q0 := 1) (t0 := 3) cx hw rfl rfl hrd dX0_rowAt_23 ?_
      obtain ⟨e9, ho, hf⟩ := op_e hf
      refine W.eq (g2 := F0 m 24 ls [.ref e9]) (by rw [ho]; rfl) ?_
      have hf := Sum.inl.inj (sm_e hf)
      subst hf
      exact x_retA cx hw (Or.inl ⟨_, rfl⟩) () trivial [0, 1] rfl rfl (Nat.le_of_ble_eq_true rfl) (Nat.le_of_ble_eq_true rfl) dX0_rowAt_24
    · have hf : (some (.inr e7) : Option ((Nat) ⊕ (Int32))) = some (.inl res) := hf
      cases hf
  · have hf := hjA
    by_cases c6 : o1 = none
    · have hf := if_t hf c6
      refine W.eq (g2 := F0 m 6 ls [.null]) (by rw [c6]; rfl) ?_
      refine lv_ifnullN (tgt := 13) hx hb dX0_rowAt_6 (by decide) ?_
      refine lv_iconst (v := 0) hx hb dX0_rowAt_13 (by decide) ?_
      have hf := sm_e hf
      subst hf
      exact hKj14_j3 _ _ _ hw hl
    · have hf := if_f hf c6
      obtain ⟨e2, hee2⟩ := Option.ne_none_iff_exists'.mp c6
      refine W.eq (g2 := F0 m 6 ls [.ref e2]) (by rw [hee2]; rfl) ?_
      refine lv_ifnull hx hb dX0_rowAt_6 ?_
      refine lv_iconst (v := 1) hx hb dX0_rowAt_9 (by decide) ?_
      refine lv_goto (tgt := 14) hx hb dX0_rowAt_10 (by decide) ?_
      have hf := sm_e hf
      subst hf
      exact hKj14_j3 _ _ _ hw hl
set_option maxHeartbeats 4000000 in
theorem tX0_rowAt (l : Launch) (D : va_G) (d : Nat → ClassId) (cs : Nat → Nat) (wi : va_W) (ln : Nat → Option Int32) (lf : Nat → Nat → Option Nat) (dk : Nat → Option Nat) (dn : Nat → Int32) (him : ImF d wi ln lf dk dn) (sa : Nat → Nat) (ha : Nat → Nat) (ta : Nat → Nat) (gt : Int32) (gf : Int32) (gc : Int32) (tra : Nat) (gs : Int32) (RW : Nat → Option Nat) (p1 : Int32)  (res : Int32) (hf : fX0_rowAt RW p1 = some (.inr res)) : TMet l yX0_rowAt (ws_ yX0_rowAt cX0_rowAt 2 (some (.object "DishLift$Row"))) { frames := 5, cells := 1, slots := 7, locals := 130 } [.ref (sa 0), .int p1] (XI D cs wi) D d [oS sa ha ta gt gf gc tra gs, ((sa 1), .inl (d 3, 8, .inr (.inr (.inr (.inr RW)))))] "DishLift$Finding" (fun q9 (_ : Unit) => [oS sa ha ta gt gf gc tra gs, ((sa 1), .inl (d 3, 8, .inr (.inr (.inr (.inr RW))))), (q9, .inr (12, [.null, .null, .null, .null, .null, .int 0, .int res]))]) := by
  have hX := XI.ok (D := D) (cs := cs) (wi := wi)
  refine TMet.of (by decide +kernel) (Nat.le_of_ble_eq_true rfl) ?_
  intro p e s m below meth c A cx hET hw ls hl
  have cx : Cx p s m _ meth c (XI D cs wi) D d A "DishLift" cX0_rowAt 2 (some (.object "DishLift$Row")) "rowAt" := cx
  have cx' := cx
  obtain ⟨hx, hb, hr, hlk, hml, hown, hts, hK, hA, hXs, hnm⟩ := cx'
  have hl : lv_has ls 2 [(0, .ref (sa 0)), (1, .int p1)] := hl
  generalize hlo : ([] : List Loc) = locs at hw ⊢
  unfold fX0_rowAt at hf
  refine lv_aload_n hx hb dX0_rowAt_0 rfl (lv_at hl 0 rfl) ?_
  refine va_get (ci := 1) (C := RX0) (T := TX0) (N := 14) hx hb hts in_X0 hown hK hw.1 0 rfl rfl 0 (by decide) (hts _ q294) (fun _ h9 => h9) rfl dX0_rowAt_1 ?_
  refine lv_iload_n hx hb dX0_rowAt_4 rfl (lv_at hl 1 rfl) ?_
  obtain ⟨o1, hrd, hf⟩ := op_e hf
  refine x_aald (q0 := 1) (t0 := 3) cx hw rfl rfl hrd dX0_rowAt_5 ?_
  obtain ⟨j3, hjA, hjR⟩ := op_e hf
  refine x_join (A := A) (D := D) (J := 14) (nL := 2) (cells' := 0) (slots' := 0) (st := [.int j3]) [oS sa ha ta gt gf gc tra gs, ((sa 1), .inl (d 3, 8, .inr (.inr (.inr (.inr RW)))))] [(0, .ref (sa 0)), (1, .int p1)] (fun H locs ls hw hl => ?_) (fun hKj14_j3 => ?_)
  · have hf := hjR
    refine lv_iconst (v := 1) hx hb dX0_rowAt_14 (by decide) ?_
    obtain ⟨r5, hcr5, hf⟩ := op_e hf
    rcases r5 with q6 | e7
    · refine x_SV (wr := [oS sa ha ta gt gf gc tra gs, ((sa 1), .inl (d 3, 8, .inr (.inr (.inr (.inr RW)))))]) (rest := []) [.int j3, .int 1] hX cx hw hl.1 (mX0_must l D d cs wi ln lf dk dn him j3 1  q6 hcr5) (lw_S q351 q352 q82 q353) hd_X0_must ⟨(Nat.le_of_ble_eq_true rfl), (Nat.le_of_ble_eq_true rfl)⟩ rfl rfl (Nat.le_of_ble_eq_true rfl) dX0_rowAt_15 [] [0, 1] rfl rfl rfl rfl (by decide) ⟨(Nat.le_of_ble_eq_true rfl), (Nat.le_of_ble_eq_true rfl)⟩ (fun u H locs hp hw => ?_)
      have hw : Wd D A s [oS sa ha ta gt gf gc tra gs, ((sa 1), .inl (d 3, 8, .inr (.inr (.inr (.inr RW)))))] H locs := hw
      refine lv_aload_n hx hb dX0_rowAt_18 rfl (lv_at hl 0 rfl) ?_
      refine va_get (ci := 1) (C := RX0) (T := TX0) (N := 14) hx hb hts in_X0 hown hK hw.1 0 rfl rfl 0 (by decide) (hts _ q294) (fun _ h9 => h9) rfl dX0_rowAt_19 ?_
      refine lv_iload_n hx hb dX0_rowAt_22 rfl (lv_at hl 1 rfl) ?_
      obtain ⟨o8, hrd, hf⟩ := op_e hf
      refine x_aald (q0 := 1) (t0 := 3) cx hw rfl rfl hrd dX0_rowAt_23 ?_
      obtain ⟨e9, ho, hf⟩ := op_e hf
      refine W.eq (g2 := F0 m 24 ls [.ref e9]) (by rw [ho]; rfl) ?_
      cases hf
    · have hf : (some (.inr e7) : Option ((Nat) ⊕ (Int32))) = some (.inr res) := hf
      have hf := Sum.inr.inj (sm_e hf)
      subst hf
      refine x_TS (wr := [oS sa ha ta gt gf gc tra gs, ((sa 1), .inl (d 3, 8, .inr (.inr (.inr (.inr RW)))))]) (rest := []) [.int j3, .int 1] hX cx hw hl.1 (tX0_must l D d cs wi ln lf dk dn him j3 1  e7 hcr5) (lw_S q351 q352 q82 q353) hd_X0_must ⟨(Nat.le_of_ble_eq_true rfl), (Nat.le_of_ble_eq_true rfl)⟩ rfl rfl (Nat.le_of_ble_eq_true rfl) dX0_rowAt_15 [] [0, 1] rfl rfl rfl rfl (by decide) ⟨(Nat.le_of_ble_eq_true rfl), (Nat.le_of_ble_eq_true rfl)⟩ (fun a4 ce u H locs hw g1 g2 g3 => ?_)
      have hw : Wd D A s [oS sa ha ta gt gf gc tra gs, ((sa 1), .inl (d 3, 8, .inr (.inr (.inr (.inr RW))))), (a4, .inr (12, [.null, .null, .null, .null, .null, .int 0, .int e7]))] H locs := hw
      exact x_out cx hET hw () g1 g2 g3 [0, 1, 2] rfl rfl (Nat.le_of_ble_eq_true rfl) (Nat.le_of_ble_eq_true rfl)
  · have hf := hjA
    by_cases c6 : o1 = none
    · have hf := if_t hf c6
      refine W.eq (g2 := F0 m 6 ls [.null]) (by rw [c6]; rfl) ?_
      refine lv_ifnullN (tgt := 13) hx hb dX0_rowAt_6 (by decide) ?_
      refine lv_iconst (v := 0) hx hb dX0_rowAt_13 (by decide) ?_
      have hf := sm_e hf
      subst hf
      exact hKj14_j3 _ _ _ hw hl
    · have hf := if_f hf c6
      obtain ⟨e2, hee2⟩ := Option.ne_none_iff_exists'.mp c6
      refine W.eq (g2 := F0 m 6 ls [.ref e2]) (by rw [hee2]; rfl) ?_
      refine lv_ifnull hx hb dX0_rowAt_6 ?_
      refine lv_iconst (v := 1) hx hb dX0_rowAt_9 (by decide) ?_
      refine lv_goto (tgt := 14) hx hb dX0_rowAt_10 (by decide) ?_
      have hf := sm_e hf
      subst hf
      exact hKj14_j3 _ _ _ hw hl
