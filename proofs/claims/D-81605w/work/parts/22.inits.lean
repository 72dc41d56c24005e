set_option maxRecDepth 100000
def fX1_init_b76  (x76 : Int32 × (Nat → Int32)) : Option ((Int32 × (Nat → Int32)) ⊕ ((Nat → Int32))) :=
  if 6 ≤ x76.1 then
    some (.inr x76.2)
  else
    (wr x76.2 6 x76.1 x76.1).bind fun w9 =>
    some (.inl ((x76.1 + 1), w9))
def fX1_init  : Option ((Nat → Int32)) :=
  (lp (fX1_init_b76) FU (0, (fun _ => 0))).bind fun r8 =>
  some r8
def fX9_init_b95  (x95 : Int32 × (Nat → Int32)) : Option ((Int32 × (Nat → Int32)) ⊕ ((Nat → Int32))) :=
  if 8 ≤ x95.1 then
    some (.inr x95.2)
  else
    (wr x95.2 8 x95.1 (-1)).bind fun w13 =>
    some (.inl ((x95.1 + 1), w13))
def fX9_init  : Option ((Nat → Int32)) :=
  (lp (fX9_init_b95) FU (0, (fun _ => 0))).bind fun r12 =>
  some r12
theorem hd_J0_init : yJ0_init.cls ≠ "java/lang/invoke/MethodHandle" ∧ yJ0_init.cls ≠ "java/lang/invoke/VarHandle" ∧ (parseMethodDescriptor yJ0_init.desc).map (fun d => d.parameters.length) = some 0 := by decide +kernel
set_option maxHeartbeats 4000000 in
theorem mJ0_init (l : Launch) (X : XT) (hX : XOK X) (D : va_G) (d : Nat → ClassId) (h : Nat)   : MetV l yJ0_init (ws_ yJ0_init cJ0_init 1 none) { frames := 1, cells := 0, slots := 0, locals := 40 } [.ref h] X D d [(h, .inr (3, [.int 0, .null, .int 0]))] (fun (_ : Unit) => True) (fun u => [(h, .inr (3, [.int 0, .null, .int 0]))]) := by
  refine MetV.of (by decide +kernel) (Nat.le_of_ble_eq_true rfl) ?_
  intro p e s m below meth c A cx hw ls hl
  have cx : Cx p s m _ meth c X D d A "java/util/AbstractCollection" cJ0_init 1 none "<init>" := cx
  have cx' := cx
  obtain ⟨hx, hb, hr, hlk, hml, hown, hts, hK, hA, hXs, hnm⟩ := cx'
  have hl : lv_has ls 1 [(0, .ref h)] := hl
  generalize hlo : ([] : List Loc) = locs at hw ⊢
  refine lv_aload_n hx hb dJ0_init_0 rfl (lv_at hl 0 rfl) ?_
  refine W.objInit hx hb hown (hts _ q142) (hts _ q121) (hts _ q122) rfl (by rw [hml]; exact hl.1) rfl dJ0_init_1 (Nat.le_of_ble_eq_true rfl) (Nat.le_of_ble_eq_true rfl) ?_
  refine W.eq (g2 := F0 m 4 ls []) rfl ?_
  exact x_retV cx hw () trivial [0] rfl rfl (Nat.le_of_ble_eq_true rfl) (Nat.le_of_ble_eq_true rfl) dJ0_init_4
theorem hd_J1_init : yJ1_init.cls ≠ "java/lang/invoke/MethodHandle" ∧ yJ1_init.cls ≠ "java/lang/invoke/VarHandle" ∧ (parseMethodDescriptor yJ1_init.desc).map (fun d => d.parameters.length) = some 0 := by decide +kernel
set_option maxHeartbeats 4000000 in
theorem mJ1_init (l : Launch) (X : XT) (hX : XOK X) (D : va_G) (d : Nat → ClassId) (h : Nat)   : MetV l yJ1_init (ws_ yJ1_init cJ1_init 1 none) { frames := 2, cells := 0, slots := 0, locals := 60 } [.ref h] X D d [(h, .inr (3, [.int 0, .null, .int 0]))] (fun (_ : Unit) => True) (fun u => [(h, .inr (3, [.int 0, .null, .int 0]))]) := by
  refine MetV.of (by decide +kernel) (Nat.le_of_ble_eq_true rfl) ?_
  intro p e s m below meth c A cx hw ls hl
  have cx : Cx p s m _ meth c X D d A "java/util/AbstractList" cJ1_init 1 none "<init>" := cx
  have cx' := cx
  obtain ⟨hx, hb, hr, hlk, hml, hown, hts, hK, hA, hXs, hnm⟩ := cx'
  have hl : lv_has ls 1 [(0, .ref h)] := hl
  generalize hlo : ([] : List Loc) = locs at hw ⊢
  refine lv_aload_n hx hb dJ1_init_0 rfl (lv_at hl 0 rfl) ?_
  refine x_NV (wr := []) (rest := []) [] hX cx hw hl.1 (mJ0_init l X hX D d h ) q141 q84 q139 q140 rfl hd_J0_init ⟨(Nat.le_of_ble_eq_true rfl), (Nat.le_of_ble_eq_true rfl)⟩ rfl rfl (Nat.le_of_ble_eq_true rfl) dJ1_init_1 [0] [] rfl rfl rfl rfl (by decide) ⟨(Nat.le_of_ble_eq_true rfl), (Nat.le_of_ble_eq_true rfl)⟩ (fun u H locs hp hw => ?_)
  have hw : Wd D A s [(h, .inr (3, [.int 0, .null, .int 0]))] H locs := hw
  refine W.widen (k := 0) (n := 0) (Nat.le_of_ble_eq_true rfl) (Nat.le_of_ble_eq_true rfl) ?_
  refine lv_aload_n hx hb dJ1_init_4 rfl (lv_at hl 0 rfl) ?_
  refine lv_iconst (v := 0) hx hb dJ1_init_5 (by decide) ?_
  refine va_put (ci := 3) (v := .int 0) (ty := .int) (C := RJ2) (T := TJ2) (N := 3) hx hb hts in_J2 tyJ2 tyJ2_ok nmJ2 hown hK hw.1 hw.2.1 hw.2.2 0 rfl rfl 0 (by decide) (hts _ q147) (fun _ h9 => h9) rfl (by decide +kernel) rfl rfl (Nat.le_of_ble_eq_true rfl) dJ1_init_6 (fun H locs hP hD hS => ?_)
  have hw : Wd D A s [(h, .inr (3, [.int 0, .null, .int 0]))] H locs := ⟨hP, hD, hS⟩
  exact x_retV cx hw () trivial [0] rfl rfl (Nat.le_of_ble_eq_true rfl) (Nat.le_of_ble_eq_true rfl) dJ1_init_9
theorem hd_J2_init : yJ2_init.cls ≠ "java/lang/invoke/MethodHandle" ∧ yJ2_init.cls ≠ "java/lang/invoke/VarHandle" ∧ (parseMethodDescriptor yJ2_init.desc).map (fun d => d.parameters.length) = some 0 := by decide +kernel
set_option maxHeartbeats 4000000 in
theorem mJ2_init (l : Launch) (cs : Nat → Nat) (wi : va_W) (D : va_G) (d : Nat → ClassId) (h : Nat)   : MetV l yJ2_init (ws_ yJ2_init cJ2_init 1 none) { frames := 3, cells := 0, slots := 0, locals := 80 } [.ref h] (XI D cs wi) D d [(h, .inr (3, [.int 0, .null, .int 0]))] (fun (_ : Unit) => True) (fun u => [(h, .inr (3, [.int 0, .ref (cs 0), .int 0]))]) := by
  have hX := XI.ok (D := D) (cs := cs) (wi := wi)
  refine MetV.of (by decide +kernel) (Nat.le_of_ble_eq_true rfl) ?_
  intro p e s m below meth c A cx hw ls hl
  have cx : Cx p s m _ meth c (XI D cs wi) D d A "java/util/ArrayList" cJ2_init 1 none "<init>" := cx
  have cx' := cx
  obtain ⟨hx, hb, hr, hlk, hml, hown, hts, hK, hA, hXs, hnm⟩ := cx'
  have hl : lv_has ls 1 [(0, .ref h)] := hl
  generalize hlo : ([] : List Loc) = locs at hw ⊢
  refine lv_aload_n hx hb dJ2_init_0 rfl (lv_at hl 0 rfl) ?_
  refine x_NV (wr := []) (rest := []) [] hX cx hw hl.1 (mJ1_init l (XI D cs wi) hX D d h ) q138 q85 q136 q137 rfl hd_J1_init ⟨(Nat.le_of_ble_eq_true rfl), (Nat.le_of_ble_eq_true rfl)⟩ rfl rfl (Nat.le_of_ble_eq_true rfl) dJ2_init_1 [0] [] rfl rfl rfl rfl (by decide) ⟨(Nat.le_of_ble_eq_true rfl), (Nat.le_of_ble_eq_true rfl)⟩ (fun u H locs hp hw => ?_)
  have hw : Wd D A s [(h, .inr (3, [.int 0, .null, .int 0]))] H locs := hw
  refine W.widen (k := 0) (n := 0) (Nat.le_of_ble_eq_true rfl) (Nat.le_of_ble_eq_true rfl) ?_
  refine lv_aload_n hx hb dJ2_init_4 rfl (lv_at hl 0 rfl) ?_
  refine va_gets hx hb hXs.2.1.1 hw.2.2 hown (hts _ q143) (fun _ h9 => h9) dJ2_init_5 ?_
  refine va_put (ci := 3) (v := .ref (cs 0)) (ty := (.array (.object "java/lang/Object"))) (C := RJ2) (T := TJ2) (N := 3) hx hb hts in_J2 tyJ2 tyJ2_ok nmJ2 hown hK hw.1 hw.2.1 hw.2.2 0 rfl rfl 1 (by decide) (hts _ q145) (fun _ h9 => h9) rfl (by decide +kernel) rfl rfl (Nat.le_of_ble_eq_true rfl) dJ2_init_8 (fun H locs hP hD hS => ?_)
  have hw : Wd D A s [(h, .inr (3, [.int 0, .ref (cs 0), .int 0]))] H locs := ⟨hP, hD, hS⟩
  exact x_retV cx hw () trivial [0] rfl rfl (Nat.le_of_ble_eq_true rfl) (Nat.le_of_ble_eq_true rfl) dJ2_init_11
theorem hd_X2_init : yX2_init.cls ≠ "java/lang/invoke/MethodHandle" ∧ yX2_init.cls ≠ "java/lang/invoke/VarHandle" ∧ (parseMethodDescriptor yX2_init.desc).map (fun d => d.parameters.length) = some 0 := by decide +kernel
set_option maxHeartbeats 4000000 in
theorem mX2_init (l : Launch) (X : XT) (hX : XOK X) (D : va_G) (d : Nat → ClassId) (h : Nat)   : MetV l yX2_init (ws_ yX2_init cX2_init 1 none) { frames := 1, cells := 1, slots := 16, locals := 40 } [.ref h] X D d [(h, .inr (4, [.null, .int 0]))] (fun (_ : Nat) => True) (fun u => [(h, .inr (4, [.ref u, .int 0])), (u, .inl (d 0, 16, .inl (fun _ => 0)))]) := by
  refine MetV.of (by decide +kernel) (Nat.le_of_ble_eq_true rfl) ?_
  intro p e s m below meth c A cx hw ls hl
  have cx : Cx p s m _ meth c X D d A "DishLift$Trail" cX2_init 1 none "<init>" := cx
  have cx' := cx
  obtain ⟨hx, hb, hr, hlk, hml, hown, hts, hK, hA, hXs, hnm⟩ := cx'
  have hl : lv_has ls 1 [(0, .ref h)] := hl
  generalize hlo : ([] : List Loc) = locs at hw ⊢
  refine lv_aload_n hx hb dX2_init_0 rfl (lv_at hl 0 rfl) ?_
  refine W.objInit hx hb hown (hts _ q237) (hts _ q121) (hts _ q122) rfl (by rw [hml]; exact hl.1) rfl dX2_init_1 (Nat.le_of_ble_eq_true rfl) (Nat.le_of_ble_eq_true rfl) ?_
  refine W.eq (g2 := F0 m 4 ls []) rfl ?_
  refine lv_aload_n hx hb dX2_init_4 rfl (lv_at hl 0 rfl) ?_
  refine lv_bipush (v := 16) hx hb dX2_init_5 (by decide) ?_
  refine x_newi (N := 16) cx hw (by decide) (by decide) (by decide) (Nat.le_of_ble_eq_true rfl) (Nat.le_of_ble_eq_true rfl) dX2_init_7 (fun a1 H hw => ?_)
  have hw : Wd D A s [(h, .inr (4, [.null, .int 0])), (a1, .inl (d 0, 16, .inl (fun _ => 0)))] H locs := hw
  refine W.widen (k := 1) (n := 16) (Nat.le_of_ble_eq_true rfl) (Nat.le_of_ble_eq_true rfl) ?_
  refine va_putF (ci := 4) (v := .ref a1) (ty := (.array .int)) (C := RX2) (T := TX2) (N := 2) hx hb hts in_X2 tyX2 tyX2_ok nmX2 hown hK hw.1 hw.2.1 hw.2.2 0 rfl rfl 0 (by decide) (hts _ q238) (fun _ h9 => h9) rfl hnm rfl (by decide +kernel) rfl rfl (Nat.le_of_ble_eq_true rfl) dX2_init_9 (fun H locs hP hD hS => ?_)
  have hw : Wd D A s [(h, .inr (4, [.ref a1, .int 0])), (a1, .inl (d 0, 16, .inl (fun _ => 0)))] H locs := ⟨hP, hD, hS⟩
  exact x_retV cx hw a1 trivial [0, 1] rfl rfl (Nat.le_of_ble_eq_true rfl) (Nat.le_of_ble_eq_true rfl) dX2_init_12
theorem hd_X3_init : yX3_init.cls ≠ "java/lang/invoke/MethodHandle" ∧ yX3_init.cls ≠ "java/lang/invoke/VarHandle" ∧ (parseMethodDescriptor yX3_init.desc).map (fun d => d.parameters.length) = some 1 := by decide +kernel
set_option maxHeartbeats 4000000 in
theorem mX3_init_X4 (l : Launch) (X : XT) (hX : XOK X) (D : va_G) (d : Nat → ClassId) (h : Nat) (p1 : Int32)   : MetV l yX3_init (ws_ yX3_init cX3_init 2 none) { frames := 1, cells := 0, slots := 0, locals := 40 } [.ref h, .int p1] X D d [(h, .inr (5, [.int 0]))] (fun (_ : Unit) => True) (fun u => [(h, .inr (5, [.int p1]))]) := by
  refine MetV.of (by decide +kernel) (Nat.le_of_ble_eq_true rfl) ?_
  intro p e s m below meth c A cx hw ls hl
  have cx : Cx p s m _ meth c X D d A "DishLift$Dish" cX3_init 2 none "<init>" := cx
  have cx' := cx
  obtain ⟨hx, hb, hr, hlk, hml, hown, hts, hK, hA, hXs, hnm⟩ := cx'
  have hl : lv_has ls 2 [(0, .ref h), (1, .int p1)] := hl
  generalize hlo : ([] : List Loc) = locs at hw ⊢
  refine lv_aload_n hx hb dX3_init_0 rfl (lv_at hl 0 rfl) ?_
  refine W.objInit hx hb hown (hts _ q257) (hts _ q121) (hts _ q122) rfl (by rw [hml]; exact hl.1) rfl dX3_init_1 (Nat.le_of_ble_eq_true rfl) (Nat.le_of_ble_eq_true rfl) ?_
  refine W.eq (g2 := F0 m 4 ls []) rfl ?_
  refine lv_aload_n hx hb dX3_init_4 rfl (lv_at hl 0 rfl) ?_
  refine lv_iload_n hx hb dX3_init_5 rfl (lv_at hl 1 rfl) ?_
  refine va_putF (ci := 5) (v := .int p1) (ty := .int) (C := RX4) (T := TX4) (N := 1) hx hb hts in_X4 tyX4 tyX4_ok nmX4 hown hK hw.1 hw.2.1 hw.2.2 0 rfl rfl 0 (by decide) (hts _ q258) (fun _ h9 => h9) rfl hnm rfl (by decide +kernel) rfl rfl (Nat.le_of_ble_eq_true rfl) dX3_init_6 (fun H locs hP hD hS => ?_)
  have hw : Wd D A s [(h, .inr (5, [.int p1]))] H locs := ⟨hP, hD, hS⟩
  exact x_retV cx hw () trivial [0] rfl rfl (Nat.le_of_ble_eq_true rfl) (Nat.le_of_ble_eq_true rfl) dX3_init_9
set_option maxHeartbeats 4000000 in
theorem mX3_init_X5 (l : Launch) (X : XT) (hX : XOK X) (D : va_G) (d : Nat → ClassId) (h : Nat) (p1 : Int32)   : MetV l yX3_init (ws_ yX3_init cX3_init 2 none) { frames := 1, cells := 0, slots := 0, locals := 40 } [.ref h, .int p1] X D d [(h, .inr (6, [.int 0]))] (fun (_ : Unit) => True) (fun u => [(h, .inr (6, [.int p1]))]) := by
  refine MetV.of (by decide +kernel) (Nat.le_of_ble_eq_true rfl) ?_
  intro p e s m below meth c A cx hw ls hl
  have cx : Cx p s m _ meth c X D d A "DishLift$Dish" cX3_init 2 none "<init>" := cx
  have cx' := cx
  obtain ⟨hx, hb, hr, hlk, hml, hown, hts, hK, hA, hXs, hnm⟩ := cx'
  have hl : lv_has ls 2 [(0, .ref h), (1, .int p1)] := hl
  generalize hlo : ([] : List Loc) = locs at hw ⊢
  refine lv_aload_n hx hb dX3_init_0 rfl (lv_at hl 0 rfl) ?_
  refine W.objInit hx hb hown (hts _ q257) (hts _ q121) (hts _ q122) rfl (by rw [hml]; exact hl.1) rfl dX3_init_1 (Nat.le_of_ble_eq_true rfl) (Nat.le_of_ble_eq_true rfl) ?_
  refine W.eq (g2 := F0 m 4 ls []) rfl ?_
  refine lv_aload_n hx hb dX3_init_4 rfl (lv_at hl 0 rfl) ?_
  refine lv_iload_n hx hb dX3_init_5 rfl (lv_at hl 1 rfl) ?_
  refine va_putF (ci := 6) (v := .int p1) (ty := .int) (C := RX5) (T := TX5) (N := 1) hx hb hts in_X5 tyX5 tyX5_ok nmX5 hown hK hw.1 hw.2.1 hw.2.2 0 rfl rfl 0 (by decide) (hts _ q258) (fun _ h9 => h9) rfl hnm rfl (by decide +kernel) rfl rfl (Nat.le_of_ble_eq_true rfl) dX3_init_6 (fun H locs hP hD hS => ?_)
  have hw : Wd D A s [(h, .inr (6, [.int p1]))] H locs := ⟨hP, hD, hS⟩
  exact x_retV cx hw () trivial [0] rfl rfl (Nat.le_of_ble_eq_true rfl) (Nat.le_of_ble_eq_true rfl) dX3_init_9
set_option maxHeartbeats 4000000 in
theorem mX3_init_X6 (l : Launch) (X : XT) (hX : XOK X) (D : va_G) (d : Nat → ClassId) (h : Nat) (p1 : Int32)   : MetV l yX3_init (ws_ yX3_init cX3_init 2 none) { frames := 1, cells := 0, slots := 0, locals := 40 } [.ref h, .int p1] X D d [(h, .inr (7, [.int 0]))] (fun (_ : Unit) => True) (fun u => [(h, .inr (7, [.int p1]))]) := by
  refine MetV.of (by decide +kernel) (Nat.le_of_ble_eq_true rfl) ?_
  intro p e s m below meth c A cx hw ls hl
  have cx : Cx p s m _ meth c X D d A "DishLift$Dish" cX3_init 2 none "<init>" := cx
  have cx' := cx
  obtain ⟨hx, hb, hr, hlk, hml, hown, hts, hK, hA, hXs, hnm⟩ := cx'
  have hl : lv_has ls 2 [(0, .ref h), (1, .int p1)] := hl
  generalize hlo : ([] : List Loc) = locs at hw ⊢
  refine lv_aload_n hx hb dX3_init_0 rfl (lv_at hl 0 rfl) ?_
  refine W.objInit hx hb hown (hts _ q257) (hts _ q121) (hts _ q122) rfl (by rw [hml]; exact hl.1) rfl dX3_init_1 (Nat.le_of_ble_eq_true rfl) (Nat.le_of_ble_eq_true rfl) ?_
  refine W.eq (g2 := F0 m 4 ls []) rfl ?_
  refine lv_aload_n hx hb dX3_init_4 rfl (lv_at hl 0 rfl) ?_
  refine lv_iload_n hx hb dX3_init_5 rfl (lv_at hl 1 rfl) ?_
  refine va_putF (ci := 7) (v := .int p1) (ty := .int) (C := RX6) (T := TX6) (N := 1) hx hb hts in_X6 tyX6 tyX6_ok nmX6 hown hK hw.1 hw.2.1 hw.2.2 0 rfl rfl 0 (by decide) (hts _ q258) (fun _ h9 => h9) rfl hnm rfl (by decide +kernel) rfl rfl (Nat.le_of_ble_eq_true rfl) dX3_init_6 (fun H locs hP hD hS => ?_)
  have hw : Wd D A s [(h, .inr (7, [.int p1]))] H locs := ⟨hP, hD, hS⟩
  exact x_retV cx hw () trivial [0] rfl rfl (Nat.le_of_ble_eq_true rfl) (Nat.le_of_ble_eq_true rfl) dX3_init_9
set_option maxHeartbeats 4000000 in
theorem mX3_init_X7 (l : Launch) (X : XT) (hX : XOK X) (D : va_G) (d : Nat → ClassId) (h : Nat) (p1 : Int32)   : MetV l yX3_init (ws_ yX3_init cX3_init 2 none) { frames := 1, cells := 0, slots := 0, locals := 40 } [.ref h, .int p1] X D d [(h, .inr (8, [.int 0]))] (fun (_ : Unit) => True) (fun u => [(h, .inr (8, [.int p1]))]) := by
  refine MetV.of (by decide +kernel) (Nat.le_of_ble_eq_true rfl) ?_
  intro p e s m below meth c A cx hw ls hl
  have cx : Cx p s m _ meth c X D d A "DishLift$Dish" cX3_init 2 none "<init>" := cx
  have cx' := cx
  obtain ⟨hx, hb, hr, hlk, hml, hown, hts, hK, hA, hXs, hnm⟩ := cx'
  have hl : lv_has ls 2 [(0, .ref h), (1, .int p1)] := hl
  generalize hlo : ([] : List Loc) = locs at hw ⊢
  refine lv_aload_n hx hb dX3_init_0 rfl (lv_at hl 0 rfl) ?_
  refine W.objInit hx hb hown (hts _ q257) (hts _ q121) (hts _ q122) rfl (by rw [hml]; exact hl.1) rfl dX3_init_1 (Nat.le_of_ble_eq_true rfl) (Nat.le_of_ble_eq_true rfl) ?_
  refine W.eq (g2 := F0 m 4 ls []) rfl ?_
  refine lv_aload_n hx hb dX3_init_4 rfl (lv_at hl 0 rfl) ?_
  refine lv_iload_n hx hb dX3_init_5 rfl (lv_at hl 1 rfl) ?_
  refine va_putF (ci := 8) (v := .int p1) (ty := .int) (C := RX7) (T := TX7) (N := 1) hx hb hts in_X7 tyX7 tyX7_ok nmX7 hown hK hw.1 hw.2.1 hw.2.2 0 rfl rfl 0 (by decide) (hts _ q258) (fun _ h9 => h9) rfl hnm rfl (by decide +kernel) rfl rfl (Nat.le_of_ble_eq_true rfl) dX3_init_6 (fun H locs hP hD hS => ?_)
  have hw : Wd D A s [(h, .inr (8, [.int p1]))] H locs := ⟨hP, hD, hS⟩
  exact x_retV cx hw () trivial [0] rfl rfl (Nat.le_of_ble_eq_true rfl) (Nat.le_of_ble_eq_true rfl) dX3_init_9
set_option maxHeartbeats 4000000 in
theorem mX3_init_X8 (l : Launch) (X : XT) (hX : XOK X) (D : va_G) (d : Nat → ClassId) (h : Nat) (p1 : Int32)   : MetV l yX3_init (ws_ yX3_init cX3_init 2 none) { frames := 1, cells := 0, slots := 0, locals := 40 } [.ref h, .int p1] X D d [(h, .inr (9, [.int 0]))] (fun (_ : Unit) => True) (fun u => [(h, .inr (9, [.int p1]))]) := by
  refine MetV.of (by decide +kernel) (Nat.le_of_ble_eq_true rfl) ?_
  intro p e s m below meth c A cx hw ls hl
  have cx : Cx p s m _ meth c X D d A "DishLift$Dish" cX3_init 2 none "<init>" := cx
  have cx' := cx
  obtain ⟨hx, hb, hr, hlk, hml, hown, hts, hK, hA, hXs, hnm⟩ := cx'
  have hl : lv_has ls 2 [(0, .ref h), (1, .int p1)] := hl
  generalize hlo : ([] : List Loc) = locs at hw ⊢
  refine lv_aload_n hx hb dX3_init_0 rfl (lv_at hl 0 rfl) ?_
  refine W.objInit hx hb hown (hts _ q257) (hts _ q121) (hts _ q122) rfl (by rw [hml]; exact hl.1) rfl dX3_init_1 (Nat.le_of_ble_eq_true rfl) (Nat.le_of_ble_eq_true rfl) ?_
  refine W.eq (g2 := F0 m 4 ls []) rfl ?_
  refine lv_aload_n hx hb dX3_init_4 rfl (lv_at hl 0 rfl) ?_
  refine lv_iload_n hx hb dX3_init_5 rfl (lv_at hl 1 rfl) ?_
  refine va_putF (ci := 9) (v := .int p1) (ty := .int) (C := RX8) (T := TX8) (N := 1) hx hb hts in_X8 tyX8 tyX8_ok nmX8 hown hK hw.1 hw.2.1 hw.2.2 0 rfl rfl 0 (by decide) (hts _ q258) (fun _ h9 => h9) rfl hnm rfl (by decide +kernel) rfl rfl (Nat.le_of_ble_eq_true rfl) dX3_init_6 (fun H locs hP hD hS => ?_)
  have hw : Wd D A s [(h, .inr (9, [.int p1]))] H locs := ⟨hP, hD, hS⟩
  exact x_retV cx hw () trivial [0] rfl rfl (Nat.le_of_ble_eq_true rfl) (Nat.le_of_ble_eq_true rfl) dX3_init_9
theorem hd_X4_init : yX4_init.cls ≠ "java/lang/invoke/MethodHandle" ∧ yX4_init.cls ≠ "java/lang/invoke/VarHandle" ∧ (parseMethodDescriptor yX4_init.desc).map (fun d => d.parameters.length) = some 1 := by decide +kernel
set_option maxHeartbeats 4000000 in
theorem mX4_init_X4 (l : Launch) (X : XT) (hX : XOK X) (D : va_G) (d : Nat → ClassId) (h : Nat) (p1 : Int32)   : MetV l yX4_init (ws_ yX4_init cX4_init 2 none) { frames := 2, cells := 0, slots := 0, locals := 61 } [.ref h, .int p1] X D d [(h, .inr (5, [.int 0]))] (fun (_ : Unit) => True) (fun u => [(h, .inr (5, [.int p1]))]) := by
  refine MetV.of (by decide +kernel) (Nat.le_of_ble_eq_true rfl) ?_
  intro p e s m below meth c A cx hw ls hl
  have cx : Cx p s m _ meth c X D d A "DishLift$Hot" cX4_init 2 none "<init>" := cx
  have cx' := cx
  obtain ⟨hx, hb, hr, hlk, hml, hown, hts, hK, hA, hXs, hnm⟩ := cx'
  have hl : lv_has ls 2 [(0, .ref h), (1, .int p1)] := hl
  generalize hlo : ([] : List Loc) = locs at hw ⊢
  refine lv_aload_n hx hb dX4_init_0 rfl (lv_at hl 0 rfl) ?_
  refine lv_iload_n hx hb dX4_init_1 rfl (lv_at hl 1 rfl) ?_
  refine x_NV (wr := []) (rest := []) [.int p1] hX cx hw hl.1 (mX3_init_X4 l X hX D d h p1 ) q256 q88 q254 q255 rfl hd_X3_init ⟨(Nat.le_of_ble_eq_true rfl), (Nat.le_of_ble_eq_true rfl)⟩ rfl rfl (Nat.le_of_ble_eq_true rfl) dX4_init_2 [0] [] rfl rfl rfl rfl (by decide) ⟨(Nat.le_of_ble_eq_true rfl), (Nat.le_of_ble_eq_true rfl)⟩ (fun u H locs hp hw => ?_)
  have hw : Wd D A s [(h, .inr (5, [.int p1]))] H locs := hw
  refine W.widen (k := 0) (n := 0) (Nat.le_of_ble_eq_true rfl) (Nat.le_of_ble_eq_true rfl) ?_
  exact x_retV cx hw () trivial [0] rfl rfl (Nat.le_of_ble_eq_true rfl) (Nat.le_of_ble_eq_true rfl) dX4_init_5
set_option maxHeartbeats 4000000 in
theorem mX4_init_X5 (l : Launch) (X : XT) (hX : XOK X) (D : va_G) (d : Nat → ClassId) (h : Nat) (p1 : Int32)   : MetV l yX4_init (ws_ yX4_init cX4_init 2 none) { frames := 2, cells := 0, slots := 0, locals := 61 } [.ref h, .int p1] X D d [(h, .inr (6, [.int 0]))] (fun (_ : Unit) => True) (fun u => [(h, .inr (6, [.int p1]))]) := by
  refine MetV.of (by decide +kernel) (Nat.le_of_ble_eq_true rfl) ?_
  intro p e s m below meth c A cx hw ls hl
  have cx : Cx p s m _ meth c X D d A "DishLift$Hot" cX4_init 2 none "<init>" := cx
  have cx' := cx
  obtain ⟨hx, hb, hr, hlk, hml, hown, hts, hK, hA, hXs, hnm⟩ := cx'
  have hl : lv_has ls 2 [(0, .ref h), (1, .int p1)] := hl
  generalize hlo : ([] : List Loc) = locs at hw ⊢
  refine lv_aload_n hx hb dX4_init_0 rfl (lv_at hl 0 rfl) ?_
  refine lv_iload_n hx hb dX4_init_1 rfl (lv_at hl 1 rfl) ?_
  refine x_NV (wr := []) (rest := []) [.int p1] hX cx hw hl.1 (mX3_init_X5 l X hX D d h p1 ) q256 q88 q254 q255 rfl hd_X3_init ⟨(Nat.le_of_ble_eq_true rfl), (Nat.le_of_ble_eq_true rfl)⟩ rfl rfl (Nat.le_of_ble_eq_true rfl) dX4_init_2 [0] [] rfl rfl rfl rfl (by decide) ⟨(Nat.le_of_ble_eq_true rfl), (Nat.le_of_ble_eq_true rfl)⟩ (fun u H locs hp hw => ?_)
  have hw : Wd D A s [(h, .inr (6, [.int p1]))] H locs := hw
  refine W.widen (k := 0) (n := 0) (Nat.le_of_ble_eq_true rfl) (Nat.le_of_ble_eq_true rfl) ?_
  exact x_retV cx hw () trivial [0] rfl rfl (Nat.le_of_ble_eq_true rfl) (Nat.le_of_ble_eq_true rfl) dX4_init_5
set_option maxHeartbeats 4000000 in
theorem mX4_init_X6 (l : Launch) (X : XT) (hX : XOK X) (D : va_G) (d : Nat → ClassId) (h : Nat) (p1 : Int32)   : MetV l yX4_init (ws_ yX4_init cX4_init 2 none) { frames := 2, cells := 0, slots := 0, locals := 61 } [.ref h, .int p1] X D d [(h, .inr (7, [.int 0]))] (fun (_ : Unit) => True) (fun u => [(h, .inr (7, [.int p1]))]) := by
  refine MetV.of (by decide +kernel) (Nat.le_of_ble_eq_true rfl) ?_
  intro p e s m below meth c A cx hw ls hl
  have cx : Cx p s m _ meth c X D d A "DishLift$Hot" cX4_init 2 none "<init>" := cx
  have cx' := cx
  obtain ⟨hx, hb, hr, hlk, hml, hown, hts, hK, hA, hXs, hnm⟩ := cx'
  have hl : lv_has ls 2 [(0, .ref h), (1, .int p1)] := hl
  generalize hlo : ([] : List Loc) = locs at hw ⊢
  refine lv_aload_n hx hb dX4_init_0 rfl (lv_at hl 0 rfl) ?_
  refine lv_iload_n hx hb dX4_init_1 rfl (lv_at hl 1 rfl) ?_
  refine x_NV (wr := []) (rest := []) [.int p1] hX cx hw hl.1 (mX3_init_X6 l X hX D d h p1 ) q256 q88 q254 q255 rfl hd_X3_init ⟨(Nat.le_of_ble_eq_true rfl), (Nat.le_of_ble_eq_true rfl)⟩ rfl rfl (Nat.le_of_ble_eq_true rfl) dX4_init_2 [0] [] rfl rfl rfl rfl (by decide) ⟨(Nat.le_of_ble_eq_true rfl), (Nat.le_of_ble_eq_true rfl)⟩ (fun u H locs hp hw => ?_)
  have hw : Wd D A s [(h, .inr (7, [.int p1]))] H locs := hw
  refine W.widen (k := 0) (n := 0) (Nat.le_of_ble_eq_true rfl) (Nat.le_of_ble_eq_true rfl) ?_
  exact x_retV cx hw () trivial [0] rfl rfl (Nat.le_of_ble_eq_true rfl) (Nat.le_of_ble_eq_true rfl) dX4_init_5
theorem hd_X7_init : yX7_init.cls ≠ "java/lang/invoke/MethodHandle" ∧ yX7_init.cls ≠ "java/lang/invoke/VarHandle" ∧ (parseMethodDescriptor yX7_init.desc).map (fun d => d.parameters.length) = some 1 := by decide +kernel
set_option maxHeartbeats 4000000 in
theorem mX7_init_X7 (l : Launch) (X : XT) (hX : XOK X) (D : va_G) (d : Nat → ClassId) (h : Nat) (p1 : Int32)   : MetV l yX7_init (ws_ yX7_init cX7_init 2 none) { frames := 2, cells := 0, slots := 0, locals := 61 } [.ref h, .int p1] X D d [(h, .inr (8, [.int 0]))] (fun (_ : Unit) => True) (fun u => [(h, .inr (8, [.int p1]))]) := by
  refine MetV.of (by decide +kernel) (Nat.le_of_ble_eq_true rfl) ?_
  intro p e s m below meth c A cx hw ls hl
  have cx : Cx p s m _ meth c X D d A "DishLift$Cold" cX7_init 2 none "<init>" := cx
  have cx' := cx
  obtain ⟨hx, hb, hr, hlk, hml, hown, hts, hK, hA, hXs, hnm⟩ := cx'
  have hl : lv_has ls 2 [(0, .ref h), (1, .int p1)] := hl
  generalize hlo : ([] : List Loc) = locs at hw ⊢
  refine lv_aload_n hx hb dX7_init_0 rfl (lv_at hl 0 rfl) ?_
  refine lv_iload_n hx hb dX7_init_1 rfl (lv_at hl 1 rfl) ?_
  refine x_NV (wr := []) (rest := []) [.int p1] hX cx hw hl.1 (mX3_init_X7 l X hX D d h p1 ) q256 q88 q283 q255 rfl hd_X3_init ⟨(Nat.le_of_ble_eq_true rfl), (Nat.le_of_ble_eq_true rfl)⟩ rfl rfl (Nat.le_of_ble_eq_true rfl) dX7_init_2 [0] [] rfl rfl rfl rfl (by decide) ⟨(Nat.le_of_ble_eq_true rfl), (Nat.le_of_ble_eq_true rfl)⟩ (fun u H locs hp hw => ?_)
  have hw : Wd D A s [(h, .inr (8, [.int p1]))] H locs := hw
  refine W.widen (k := 0) (n := 0) (Nat.le_of_ble_eq_true rfl) (Nat.le_of_ble_eq_true rfl) ?_
  exact x_retV cx hw () trivial [0] rfl rfl (Nat.le_of_ble_eq_true rfl) (Nat.le_of_ble_eq_true rfl) dX7_init_5
set_option maxHeartbeats 4000000 in
theorem mX7_init_X8 (l : Launch) (X : XT) (hX : XOK X) (D : va_G) (d : Nat → ClassId) (h : Nat) (p1 : Int32)   : MetV l yX7_init (ws_ yX7_init cX7_init 2 none) { frames := 2, cells := 0, slots := 0, locals := 61 } [.ref h, .int p1] X D d [(h, .inr (9, [.int 0]))] (fun (_ : Unit) => True) (fun u => [(h, .inr (9, [.int p1]))]) := by
  refine MetV.of (by decide +kernel) (Nat.le_of_ble_eq_true rfl) ?_
  intro p e s m below meth c A cx hw ls hl
  have cx : Cx p s m _ meth c X D d A "DishLift$Cold" cX7_init 2 none "<init>" := cx
  have cx' := cx
  obtain ⟨hx, hb, hr, hlk, hml, hown, hts, hK, hA, hXs, hnm⟩ := cx'
  have hl : lv_has ls 2 [(0, .ref h), (1, .int p1)] := hl
  generalize hlo : ([] : List Loc) = locs at hw ⊢
  refine lv_aload_n hx hb dX7_init_0 rfl (lv_at hl 0 rfl) ?_
  refine lv_iload_n hx hb dX7_init_1 rfl (lv_at hl 1 rfl) ?_
  refine x_NV (wr := []) (rest := []) [.int p1] hX cx hw hl.1 (mX3_init_X8 l X hX D d h p1 ) q256 q88 q283 q255 rfl hd_X3_init ⟨(Nat.le_of_ble_eq_true rfl), (Nat.le_of_ble_eq_true rfl)⟩ rfl rfl (Nat.le_of_ble_eq_true rfl) dX7_init_2 [0] [] rfl rfl rfl rfl (by decide) ⟨(Nat.le_of_ble_eq_true rfl), (Nat.le_of_ble_eq_true rfl)⟩ (fun u H locs hp hw => ?_)
  have hw : Wd D A s [(h, .inr (9, [.int p1]))] H locs := hw
  refine W.widen (k := 0) (n := 0) (Nat.le_of_ble_eq_true rfl) (Nat.le_of_ble_eq_true rfl) ?_
  exact x_retV cx hw () trivial [0] rfl rfl (Nat.le_of_ble_eq_true rfl) (Nat.le_of_ble_eq_true rfl) dX7_init_5
theorem hd_X5_init : yX5_init.cls ≠ "java/lang/invoke/MethodHandle" ∧ yX5_init.cls ≠ "java/lang/invoke/VarHandle" ∧ (parseMethodDescriptor yX5_init.desc).map (fun d => d.parameters.length) = some 1 := by decide +kernel
set_option maxHeartbeats 4000000 in
theorem mX5_init (l : Launch) (X : XT) (hX : XOK X) (D : va_G) (d : Nat → ClassId) (h : Nat) (p1 : Int32)   : MetV l yX5_init (ws_ yX5_init cX5_init 2 none) { frames := 3, cells := 0, slots := 0, locals := 82 } [.ref h, .int p1] X D d [(h, .inr (6, [.int 0]))] (fun (_ : Unit) => True) (fun u => [(h, .inr (6, [.int p1]))]) := by
  refine MetV.of (by decide +kernel) (Nat.le_of_ble_eq_true rfl) ?_
  intro p e s m below meth c A cx hw ls hl
  have cx : Cx p s m _ meth c X D d A "DishLift$Soup" cX5_init 2 none "<init>" := cx
  have cx' := cx
  obtain ⟨hx, hb, hr, hlk, hml, hown, hts, hK, hA, hXs, hnm⟩ := cx'
  have hl : lv_has ls 2 [(0, .ref h), (1, .int p1)] := hl
  generalize hlo : ([] : List Loc) = locs at hw ⊢
  refine lv_aload_n hx hb dX5_init_0 rfl (lv_at hl 0 rfl) ?_
  refine lv_iload_n hx hb dX5_init_1 rfl (lv_at hl 1 rfl) ?_
  refine x_NV (wr := []) (rest := []) [.int p1] hX cx hw hl.1 (mX4_init_X5 l X hX D d h p1 ) q253 q89 q267 q252 rfl hd_X4_init ⟨(Nat.le_of_ble_eq_true rfl), (Nat.le_of_ble_eq_true rfl)⟩ rfl rfl (Nat.le_of_ble_eq_true rfl) dX5_init_2 [0] [] rfl rfl rfl rfl (by decide) ⟨(Nat.le_of_ble_eq_true rfl), (Nat.le_of_ble_eq_true rfl)⟩ (fun u H locs hp hw => ?_)
  have hw : Wd D A s [(h, .inr (6, [.int p1]))] H locs := hw
  refine W.widen (k := 0) (n := 0) (Nat.le_of_ble_eq_true rfl) (Nat.le_of_ble_eq_true rfl) ?_
  exact x_retV cx hw () trivial [0] rfl rfl (Nat.le_of_ble_eq_true rfl) (Nat.le_of_ble_eq_true rfl) dX5_init_5
theorem hd_X6_init : yX6_init.cls ≠ "java/lang/invoke/MethodHandle" ∧ yX6_init.cls ≠ "java/lang/invoke/VarHandle" ∧ (parseMethodDescriptor yX6_init.desc).map (fun d => d.parameters.length) = some 1 := by decide +kernel
set_option maxHeartbeats 4000000 in
theorem mX6_init (l : Launch) (X : XT) (hX : XOK X) (D : va_G) (d : Nat → ClassId) (h : Nat) (p1 : Int32)   : MetV l yX6_init (ws_ yX6_init cX6_init 2 none) { frames := 3, cells := 0, slots := 0, locals := 82 } [.ref h, .int p1] X D d [(h, .inr (7, [.int 0]))] (fun (_ : Unit) => True) (fun u => [(h, .inr (7, [.int p1]))]) := by
  refine MetV.of (by decide +kernel) (Nat.le_of_ble_eq_true rfl) ?_
  intro p e s m below meth c A cx hw ls hl
  have cx : Cx p s m _ meth c X D d A "DishLift$Roast" cX6_init 2 none "<init>" := cx
  have cx' := cx
  obtain ⟨hx, hb, hr, hlk, hml, hown, hts, hK, hA, hXs, hnm⟩ := cx'
  have hl : lv_has ls 2 [(0, .ref h), (1, .int p1)] := hl
  generalize hlo : ([] : List Loc) = locs at hw ⊢
  refine lv_aload_n hx hb dX6_init_0 rfl (lv_at hl 0 rfl) ?_
  refine lv_iload_n hx hb dX6_init_1 rfl (lv_at hl 1 rfl) ?_
  refine x_NV (wr := []) (rest := []) [.int p1] hX cx hw hl.1 (mX4_init_X6 l X hX D d h p1 ) q253 q89 q275 q252 rfl hd_X4_init ⟨(Nat.le_of_ble_eq_true rfl), (Nat.le_of_ble_eq_true rfl)⟩ rfl rfl (Nat.le_of_ble_eq_true rfl) dX6_init_2 [0] [] rfl rfl rfl rfl (by decide) ⟨(Nat.le_of_ble_eq_true rfl), (Nat.le_of_ble_eq_true rfl)⟩ (fun u H locs hp hw => ?_)
  have hw : Wd D A s [(h, .inr (7, [.int p1]))] H locs := hw
  refine W.widen (k := 0) (n := 0) (Nat.le_of_ble_eq_true rfl) (Nat.le_of_ble_eq_true rfl) ?_
  exact x_retV cx hw () trivial [0] rfl rfl (Nat.le_of_ble_eq_true rfl) (Nat.le_of_ble_eq_true rfl) dX6_init_5
theorem hd_X8_init : yX8_init.cls ≠ "java/lang/invoke/MethodHandle" ∧ yX8_init.cls ≠ "java/lang/invoke/VarHandle" ∧ (parseMethodDescriptor yX8_init.desc).map (fun d => d.parameters.length) = some 1 := by decide +kernel
set_option maxHeartbeats 4000000 in
theorem mX8_init (l : Launch) (X : XT) (hX : XOK X) (D : va_G) (d : Nat → ClassId) (h : Nat) (p1 : Int32)   : MetV l yX8_init (ws_ yX8_init cX8_init 2 none) { frames := 3, cells := 0, slots := 0, locals := 82 } [.ref h, .int p1] X D d [(h, .inr (9, [.int 0]))] (fun (_ : Unit) => True) (fun u => [(h, .inr (9, [.int p1]))]) := by
  refine MetV.of (by decide +kernel) (Nat.le_of_ble_eq_true rfl) ?_
  intro p e s m below meth c A cx hw ls hl
  have cx : Cx p s m _ meth c X D d A "DishLift$Ice" cX8_init 2 none "<init>" := cx
  have cx' := cx
  obtain ⟨hx, hb, hr, hlk, hml, hown, hts, hK, hA, hXs, hnm⟩ := cx'
  have hl : lv_has ls 2 [(0, .ref h), (1, .int p1)] := hl
  generalize hlo : ([] : List Loc) = locs at hw ⊢
  refine lv_aload_n hx hb dX8_init_0 rfl (lv_at hl 0 rfl) ?_
  refine lv_iload_n hx hb dX8_init_1 rfl (lv_at hl 1 rfl) ?_
  refine x_NV (wr := []) (rest := []) [.int p1] hX cx hw hl.1 (mX7_init_X8 l X hX D d h p1 ) q282 q92 q291 q281 rfl hd_X7_init ⟨(Nat.le_of_ble_eq_true rfl), (Nat.le_of_ble_eq_true rfl)⟩ rfl rfl (Nat.le_of_ble_eq_true rfl) dX8_init_2 [0] [] rfl rfl rfl rfl (by decide) ⟨(Nat.le_of_ble_eq_true rfl), (Nat.le_of_ble_eq_true rfl)⟩ (fun u H locs hp hw => ?_)
  have hw : Wd D A s [(h, .inr (9, [.int p1]))] H locs := hw
  refine W.widen (k := 0) (n := 0) (Nat.le_of_ble_eq_true rfl) (Nat.le_of_ble_eq_true rfl) ?_
  exact x_retV cx hw () trivial [0] rfl rfl (Nat.le_of_ble_eq_true rfl) (Nat.le_of_ble_eq_true rfl) dX8_init_5
theorem hd_X1_init : yX1_init.cls ≠ "java/lang/invoke/MethodHandle" ∧ yX1_init.cls ≠ "java/lang/invoke/VarHandle" ∧ (parseMethodDescriptor yX1_init.desc).map (fun d => d.parameters.length) = some 0 := by decide +kernel
set_option maxHeartbeats 4000000 in
theorem mX1_init (l : Launch) (cs : Nat → Nat) (wi : va_W) (D : va_G) (d : Nat → ClassId) (h : Nat)  (res : (Nat → Int32)) (hf : fX1_init  = some res) : MetV l yX1_init (ws_ yX1_init cX1_init 2 none) { frames := 4, cells := 7, slots := 39, locals := 100 } [.ref h] (XI D cs wi) D d [(h, .inr (2, [.int 0, .int 0, .int 0, .int 0, .int 0, .null, .null, .null, .null, .null, .null, .null, .int 0, .int 0, .null]))] (fun (_ : Nat × Nat × Nat × Nat × Nat × Nat × Nat) => True) (fun u => [(h, .inr (2, [.int 0, .int 0, .int 0, .int 0, .int 1, .ref u.1, .ref u.2.1, .ref u.2.2.1, .ref u.2.2.2.1, .ref u.2.2.2.2.1, .ref u.2.2.2.2.2.1, .ref u.2.2.2.2.2.2, .int 0, .int (-1000000), .null])), (u.1, .inr (3, [.int 0, .ref (cs 0), .int 0])), (u.2.1, .inl (d 0, 6, .inl (fun _ => 0))), (u.2.2.1, .inl (d 0, 6, .inl (fun _ => 0))), (u.2.2.2.1, .inl (d 0, 6, .inl (fun _ => 0))), (u.2.2.2.2.1, .inl (d 0, 6, .inl (fun _ => 0))), (u.2.2.2.2.2.1, .inl (d 0, 6, .inl (fun _ => 0))), (u.2.2.2.2.2.2, .inl (d 0, 6, .inl res))]) := by
  have hX := XI.ok (D := D) (cs := cs) (wi := wi)
  refine MetV.of (by decide +kernel) (Nat.le_of_ble_eq_true rfl) ?_
  intro p e s m below meth c A cx hw ls hl
  have cx : Cx p s m _ meth c (XI D cs wi) D d A "DishLift$House" cX1_init 2 none "<init>" := cx
  have cx' := cx
  obtain ⟨hx, hb, hr, hlk, hml, hown, hts, hK, hA, hXs, hnm⟩ := cx'
  have hl : lv_has ls 2 [(0, .ref h)] := hl
  generalize hlo : ([] : List Loc) = locs at hw ⊢
  unfold fX1_init at hf
  refine lv_aload_n hx hb dX1_init_0 rfl (lv_at hl 0 rfl) ?_
  refine W.objInit hx hb hown (hts _ q130) (hts _ q121) (hts _ q122) rfl (by rw [hml]; exact hl.1) rfl dX1_init_1 (Nat.le_of_ble_eq_true rfl) (Nat.le_of_ble_eq_true rfl) ?_
  refine W.eq (g2 := F0 m 4 ls []) rfl ?_
  refine lv_aload_n hx hb dX1_init_4 rfl (lv_at hl 0 rfl) ?_
  refine lv_iconst (v := 1) hx hb dX1_init_5 (by decide) ?_
  refine va_put (ci := 2) (v := .int 1) (ty := .int) (C := RX1) (T := TX1) (N := 15) hx hb hts in_X1 tyX1 tyX1_ok nmX1 hown hK hw.1 hw.2.1 hw.2.2 0 rfl rfl 4 (by decide) (hts _ q170) (fun _ h9 => h9) rfl (by decide +kernel) rfl rfl (Nat.le_of_ble_eq_true rfl) dX1_init_6 (fun H locs hP hD hS => ?_)
  have hw : Wd D A s [(h, .inr (2, [.int 0, .int 0, .int 0, .int 0, .int 1, .null, .null, .null, .null, .null, .null, .null, .int 0, .int 0, .null]))] H locs := ⟨hP, hD, hS⟩
  refine lv_aload_n hx hb dX1_init_9 rfl (lv_at hl 0 rfl) ?_
  refine va_new (ci := 3) (fs := [.int 0, .null, .int 0]) (C := RJ2) (T := TJ2) (N := 3) hx hb hts in_J2 tyJ2 tyJ2_ok hown (hts _ q131) (hts _ q132) (hts _ q86) hK hw.1 hw.2.1 hw.2.2 hA rfl (fun j hj => match j, hj with | 0, _ => rfl | 1, _ => rfl | 2, _ => rfl | j + 3, hj => absurd hj (by omega)) (Nat.le_of_ble_eq_true rfl) (Nat.le_of_ble_eq_true rfl) dX1_init_10 (fun a1 H hP hD hS => ?_)
  have hw : Wd D A s [(h, .inr (2, [.int 0, .int 0, .int 0, .int 0, .int 1, .null, .null, .null, .null, .null, .null, .null, .int 0, .int 0, .null])), (a1, .inr (3, [.int 0, .null, .int 0]))] H locs := ⟨hP, hD, hS⟩
  refine W.widen (k := 1) (n := 3) (Nat.le_of_ble_eq_true rfl) (Nat.le_of_ble_eq_true rfl) ?_
  refine lv_dup hx hb dX1_init_13 rfl ?_
  refine x_NV (wr := [(h, .inr (2, [.int 0, .int 0, .int 0, .int 0, .int 1, .null, .null, .null, .null, .null, .null, .null, .int 0, .int 0, .null]))]) (rest := [.ref a1, .ref h]) [] hX cx hw hl.1 (mJ2_init l cs wi D d a1 ) q135 q86 q133 q134 rfl hd_J2_init ⟨(Nat.le_of_ble_eq_true rfl), (Nat.le_of_ble_eq_true rfl)⟩ rfl rfl (Nat.le_of_ble_eq_true rfl) dX1_init_14 [1] [0] rfl rfl rfl rfl (by decide) ⟨(Nat.le_of_ble_eq_true rfl), (Nat.le_of_ble_eq_true rfl)⟩ (fun u H locs hp hw => ?_)
  have hw : Wd D A s [(h, .inr (2, [.int 0, .int 0, .int 0, .int 0, .int 1, .null, .null, .null, .null, .null, .null, .null, .int 0, .int 0, .null])), (a1, .inr (3, [.int 0, .ref (cs 0), .int 0]))] H locs := hw
  refine W.widen (k := 1) (n := 3) (Nat.le_of_ble_eq_true rfl) (Nat.le_of_ble_eq_true rfl) ?_
  refine va_put (ci := 2) (v := .ref a1) (ty := (.object "java/util/List")) (C := RX1) (T := TX1) (N := 15) hx hb hts in_X1 tyX1 tyX1_ok nmX1 hown hK hw.1 hw.2.1 hw.2.2 0 rfl rfl 5 (by decide) (hts _ q172) (fun _ h9 => h9) rfl (by decide +kernel) rfl rfl (Nat.le_of_ble_eq_true rfl) dX1_init_17 (fun H locs hP hD hS => ?_)
  have hw : Wd D A s [(h, .inr (2, [.int 0, .int 0, .int 0, .int 0, .int 1, .ref a1, .null, .null, .null, .null, .null, .null, .int 0, .int 0, .null])), (a1, .inr (3, [.int 0, .ref (cs 0), .int 0]))] H locs := ⟨hP, hD, hS⟩
  refine lv_aload_n hx hb dX1_init_20 rfl (lv_at hl 0 rfl) ?_
  refine lv_bipush (v := 6) hx hb dX1_init_21 (by decide) ?_
  refine x_newi (N := 6) cx hw (by decide) (by decide) (by decide) (Nat.le_of_ble_eq_true rfl) (Nat.le_of_ble_eq_true rfl) dX1_init_23 (fun a2 H hw => ?_)
  have hw : Wd D A s [(h, .inr (2, [.int 0, .int 0, .int 0, .int 0, .int 1, .ref a1, .null, .null, .null, .null, .null, .null, .int 0, .int 0, .null])), (a1, .inr (3, [.int 0, .ref (cs 0), .int 0])), (a2, .inl (d 0, 6, .inl (fun _ => 0)))] H locs := hw
  refine W.widen (k := 2) (n := 9) (Nat.le_of_ble_eq_true rfl) (Nat.le_of_ble_eq_true rfl) ?_
  refine va_putF (ci := 2) (v := .ref a2) (ty := (.array .int)) (C := RX1) (T := TX1) (N := 15) hx hb hts in_X1 tyX1 tyX1_ok nmX1 hown hK hw.1 hw.2.1 hw.2.2 0 rfl rfl 6 (by decide) (hts _ q175) (fun _ h9 => h9) rfl hnm rfl (by decide +kernel) rfl rfl (Nat.le_of_ble_eq_true rfl) dX1_init_25 (fun H locs hP hD hS => ?_)
  have hw : Wd D A s [(h, .inr (2, [.int 0, .int 0, .int 0, .int 0, .int 1, .ref a1, .ref a2, .null, .null, .null, .null, .null, .int 0, .int 0, .null])), (a1, .inr (3, [.int 0, .ref (cs 0), .int 0])), (a2, .inl (d 0, 6, .inl (fun _ => 0)))] H locs := ⟨hP, hD, hS⟩
  refine lv_aload_n hx hb dX1_init_28 rfl (lv_at hl 0 rfl) ?_
  refine lv_bipush (v := 6) hx hb dX1_init_29 (by decide) ?_
  refine x_newi (N := 6) cx hw (by decide) (by decide) (by decide) (Nat.le_of_ble_eq_true rfl) (Nat.le_of_ble_eq_true rfl) dX1_init_31 (fun a3 H hw => ?_)
  have hw : Wd D A s [(h, .inr (2, [.int 0, .int 0, .int 0, .int 0, .int 1, .ref a1, .ref a2, .null, .null, .null, .null, .null, .int 0, .int 0, .null])), (a1, .inr (3, [.int 0, .ref (cs 0), .int 0])), (a2, .inl (d 0, 6, .inl (fun _ => 0))), (a3, .inl (d 0, 6, .inl (fun _ => 0)))] H locs := hw
  refine W.widen (k := 3) (n := 15) (Nat.le_of_ble_eq_true rfl) (Nat.le_of_ble_eq_true rfl) ?_
  refine va_putF (ci := 2) (v := .ref a3) (ty := (.array .int)) (C := RX1) (T := TX1) (N := 15) hx hb hts in_X1 tyX1 tyX1_ok nmX1 hown hK hw.1 hw.2.1 hw.2.2 0 rfl rfl 7 (by decide) (hts _ q177) (fun _ h9 => h9) rfl hnm rfl (by decide +kernel) rfl rfl (Nat.le_of_ble_eq_true rfl) dX1_init_33 (fun H locs hP hD hS => ?_)
  have hw : Wd D A s [(h, .inr (2, [.int 0, .int 0, .int 0, .int 0, .int 1, .ref a1, .ref a2, .ref a3, .null, .null, .null, .null, .int 0, .int 0, .null])), (a1, .inr (3, [.int 0, .ref (cs 0), .int 0])), (a2, .inl (d 0, 6, .inl (fun _ => 0))), (a3, .inl (d 0, 6, .inl (fun _ => 0)))] H locs := ⟨hP, hD, hS⟩
  refine lv_aload_n hx hb dX1_init_36 rfl (lv_at hl 0 rfl) ?_
  refine lv_bipush (v := 6) hx hb dX1_init_37 (by decide) ?_
  refine x_newi (N := 6) cx hw (by decide) (by decide) (by decide) (Nat.le_of_ble_eq_true rfl) (Nat.le_of_ble_eq_true rfl) dX1_init_39 (fun a4 H hw => ?_)
  have hw : Wd D A s [(h, .inr (2, [.int 0, .int 0, .int 0, .int 0, .int 1, .ref a1, .ref a2, .ref a3, .null, .null, .null, .null, .int 0, .int 0, .null])), (a1, .inr (3, [.int 0, .ref (cs 0), .int 0])), (a2, .inl (d 0, 6, .inl (fun _ => 0))), (a3, .inl (d 0, 6, .inl (fun _ => 0))), (a4, .inl (d 0, 6, .inl (fun _ => 0)))] H locs := hw
  refine W.widen (k := 4) (n := 21) (Nat.le_of_ble_eq_true rfl) (Nat.le_of_ble_eq_true rfl) ?_
  refine va_putF (ci := 2) (v := .ref a4) (ty := (.array .int)) (C := RX1) (T := TX1) (N := 15) hx hb hts in_X1 tyX1 tyX1_ok nmX1 hown hK hw.1 hw.2.1 hw.2.2 0 rfl rfl 8 (by decide) (hts _ q180) (fun _ h9 => h9) rfl hnm rfl (by decide +kernel) rfl rfl (Nat.le_of_ble_eq_true rfl) dX1_init_41 (fun H locs hP hD hS => ?_)
  have hw : Wd D A s [(h, .inr (2, [.int 0, .int 0, .int 0, .int 0, .int 1, .ref a1, .ref a2, .ref a3, .ref a4, .null, .null, .null, .int 0, .int 0, .null])), (a1, .inr (3, [.int 0, .ref (cs 0), .int 0])), (a2, .inl (d 0, 6, .inl (fun _ => 0))), (a3, .inl (d 0, 6, .inl (fun _ => 0))), (a4, .inl (d 0, 6, .inl (fun _ => 0)))] H locs := ⟨hP, hD, hS⟩
  refine lv_aload_n hx hb dX1_init_44 rfl (lv_at hl 0 rfl) ?_
  refine lv_bipush (v := 6) hx hb dX1_init_45 (by decide) ?_
  refine x_newi (N := 6) cx hw (by decide) (by decide) (by decide) (Nat.le_of_ble_eq_true rfl) (Nat.le_of_ble_eq_true rfl) dX1_init_47 (fun a5 H hw => ?_)
  have hw : Wd D A s [(h, .inr (2, [.int 0, .int 0, .int 0, .int 0, .int 1, .ref a1, .ref a2, .ref a3, .ref a4, .null, .null, .null, .int 0, .int 0, .null])), (a1, .inr (3, [.int 0, .ref (cs 0), .int 0])), (a2, .inl (d 0, 6, .inl (fun _ => 0))), (a3, .inl (d 0, 6, .inl (fun _ => 0))), (a4, .inl (d 0, 6, .inl (fun _ => 0))), (a5, .inl (d 0, 6, .inl (fun _ => 0)))] H locs := hw
  refine W.widen (k := 5) (n := 27) (Nat.le_of_ble_eq_true rfl) (Nat.le_of_ble_eq_true rfl) ?_
  refine va_putF (ci := 2) (v := .ref a5) (ty := (.array .int)) (C := RX1) (T := TX1) (N := 15) hx hb hts in_X1 tyX1 tyX1_ok nmX1 hown hK hw.1 hw.2.1 hw.2.2 0 rfl rfl 9 (by decide) (hts _ q183) (fun _ h9 => h9) rfl hnm rfl (by decide +kernel) rfl rfl (Nat.le_of_ble_eq_true rfl) dX1_init_49 (fun H locs hP hD hS => ?_)
  have hw : Wd D A s [(h, .inr (2, [.int 0, .int 0, .int 0, .int 0, .int 1, .ref a1, .ref a2, .ref a3, .ref a4, .ref a5, .null, .null, .int 0, .int 0, .null])), (a1, .inr (3, [.int 0, .ref (cs 0), .int 0])), (a2, .inl (d 0, 6, .inl (fun _ => 0))), (a3, .inl (d 0, 6, .inl (fun _ => 0))), (a4, .inl (d 0, 6, .inl (fun _ => 0))), (a5, .inl (d 0, 6, .inl (fun _ => 0)))] H locs := ⟨hP, hD, hS⟩
  refine lv_aload_n hx hb dX1_init_52 rfl (lv_at hl 0 rfl) ?_
  refine lv_bipush (v := 6) hx hb dX1_init_53 (by decide) ?_
  refine x_newi (N := 6) cx hw (by decide) (by decide) (by decide) (Nat.le_of_ble_eq_true rfl) (Nat.le_of_ble_eq_true rfl) dX1_init_55 (fun a6 H hw => ?_)
  have hw : Wd D A s [(h, .inr (2, [.int 0, .int 0, .int 0, .int 0, .int 1, .ref a1, .ref a2, .ref a3, .ref a4, .ref a5, .null, .null, .int 0, .int 0, .null])), (a1, .inr (3, [.int 0, .ref (cs 0), .int 0])), (a2, .inl (d 0, 6, .inl (fun _ => 0))), (a3, .inl (d 0, 6, .inl (fun _ => 0))), (a4, .inl (d 0, 6, .inl (fun _ => 0))), (a5, .inl (d 0, 6, .inl (fun _ => 0))), (a6, .inl (d 0, 6, .inl (fun _ => 0)))] H locs := hw
  refine W.widen (k := 6) (n := 33) (Nat.le_of_ble_eq_true rfl) (Nat.le_of_ble_eq_true rfl) ?_
  refine va_putF (ci := 2) (v := .ref a6) (ty := (.array .int)) (C := RX1) (T := TX1) (N := 15) hx hb hts in_X1 tyX1 tyX1_ok nmX1 hown hK hw.1 hw.2.1 hw.2.2 0 rfl rfl 10 (by decide) (hts _ q187) (fun _ h9 => h9) rfl hnm rfl (by decide +kernel) rfl rfl (Nat.le_of_ble_eq_true rfl) dX1_init_57 (fun H locs hP hD hS => ?_)
  have hw : Wd D A s [(h, .inr (2, [.int 0, .int 0, .int 0, .int 0, .int 1, .ref a1, .ref a2, .ref a3, .ref a4, .ref a5, .ref a6, .null, .int 0, .int 0, .null])), (a1, .inr (3, [.int 0, .ref (cs 0), .int 0])), (a2, .inl (d 0, 6, .inl (fun _ => 0))), (a3, .inl (d 0, 6, .inl (fun _ => 0))), (a4, .inl (d 0, 6, .inl (fun _ => 0))), (a5, .inl (d 0, 6, .inl (fun _ => 0))), (a6, .inl (d 0, 6, .inl (fun _ => 0)))] H locs := ⟨hP, hD, hS⟩
  refine lv_aload_n hx hb dX1_init_60 rfl (lv_at hl 0 rfl) ?_
  refine lv_bipush (v := 6) hx hb dX1_init_61 (by decide) ?_
  refine x_newi (N := 6) cx hw (by decide) (by decide) (by decide) (Nat.le_of_ble_eq_true rfl) (Nat.le_of_ble_eq_true rfl) dX1_init_63 (fun a7 H hw => ?_)
  have hw : Wd D A s [(h, .inr (2, [.int 0, .int 0, .int 0, .int 0, .int 1, .ref a1, .ref a2, .ref a3, .ref a4, .ref a5, .ref a6, .null, .int 0, .int 0, .null])), (a1, .inr (3, [.int 0, .ref (cs 0), .int 0])), (a2, .inl (d 0, 6, .inl (fun _ => 0))), (a3, .inl (d 0, 6, .inl (fun _ => 0))), (a4, .inl (d 0, 6, .inl (fun _ => 0))), (a5, .inl (d 0, 6, .inl (fun _ => 0))), (a6, .inl (d 0, 6, .inl (fun _ => 0))), (a7, .inl (d 0, 6, .inl (fun _ => 0)))] H locs := hw
  refine W.widen (k := 7) (n := 39) (Nat.le_of_ble_eq_true rfl) (Nat.le_of_ble_eq_true rfl) ?_
  refine va_putF (ci := 2) (v := .ref a7) (ty := (.array .int)) (C := RX1) (T := TX1) (N := 15) hx hb hts in_X1 tyX1 tyX1_ok nmX1 hown hK hw.1 hw.2.1 hw.2.2 0 rfl rfl 11 (by decide) (hts _ q191) (fun _ h9 => h9) rfl hnm rfl (by decide +kernel) rfl rfl (Nat.le_of_ble_eq_true rfl) dX1_init_65 (fun H locs hP hD hS => ?_)
  have hw : Wd D A s [(h, .inr (2, [.int 0, .int 0, .int 0, .int 0, .int 1, .ref a1, .ref a2, .ref a3, .ref a4, .ref a5, .ref a6, .ref a7, .int 0, .int 0, .null])), (a1, .inr (3, [.int 0, .ref (cs 0), .int 0])), (a2, .inl (d 0, 6, .inl (fun _ => 0))), (a3, .inl (d 0, 6, .inl (fun _ => 0))), (a4, .inl (d 0, 6, .inl (fun _ => 0))), (a5, .inl (d 0, 6, .inl (fun _ => 0))), (a6, .inl (d 0, 6, .inl (fun _ => 0))), (a7, .inl (d 0, 6, .inl (fun _ => 0)))] H locs := ⟨hP, hD, hS⟩
  refine lv_aload_n hx hb dX1_init_68 rfl (lv_at hl 0 rfl) ?_
  refine lv_ldc (v := (-1000000)) hx hb hown (hts _ q158) dX1_init_69 ?_
  refine va_put (ci := 2) (v := .int (-1000000)) (ty := .int) (C := RX1) (T := TX1) (N := 15) hx hb hts in_X1 tyX1 tyX1_ok nmX1 hown hK hw.1 hw.2.1 hw.2.2 0 rfl rfl 13 (by decide) (hts _ q195) (fun _ h9 => h9) rfl (by decide +kernel) rfl rfl (Nat.le_of_ble_eq_true rfl) dX1_init_71 (fun H locs hP hD hS => ?_)
  have hw : Wd D A s [(h, .inr (2, [.int 0, .int 0, .int 0, .int 0, .int 1, .ref a1, .ref a2, .ref a3, .ref a4, .ref a5, .ref a6, .ref a7, .int 0, .int (-1000000), .null])), (a1, .inr (3, [.int 0, .ref (cs 0), .int 0])), (a2, .inl (d 0, 6, .inl (fun _ => 0))), (a3, .inl (d 0, 6, .inl (fun _ => 0))), (a4, .inl (d 0, 6, .inl (fun _ => 0))), (a5, .inl (d 0, 6, .inl (fun _ => 0))), (a6, .inl (d 0, 6, .inl (fun _ => 0))), (a7, .inl (d 0, 6, .inl (fun _ => 0)))] H locs := ⟨hP, hD, hS⟩
  refine lv_iconst (v := 0) hx hb dX1_init_74 (by decide) ?_
  refine lv_istore_n (lv' := [(1, .int 0), (0, .ref h)]) hx hb dX1_init_75 rfl hl (by decide) rfl (fun ls hl => ?_)
  obtain ⟨r8, hlp76, hf⟩ := op_e hf
  refine x_join (A := A) (D := D) (J := 95) (nL := 2) (cells' := 7) (slots' := 39) (st := []) [(h, .inr (2, [.int 0, .int 0, .int 0, .int 0, .int 1, .ref a1, .ref a2, .ref a3, .ref a4, .ref a5, .ref a6, .ref a7, .int 0, .int (-1000000), .null])), (a1, .inr (3, [.int 0, .ref (cs 0), .int 0])), (a2, .inl (d 0, 6, .inl (fun _ => 0))), (a3, .inl (d 0, 6, .inl (fun _ => 0))), (a4, .inl (d 0, 6, .inl (fun _ => 0))), (a5, .inl (d 0, 6, .inl (fun _ => 0))), (a6, .inl (d 0, 6, .inl (fun _ => 0))), (a7, .inl (d 0, 6, .inl r8))] [] (fun H locs ls hw hl => ?_) (fun hK76 => ?_)
  · have hf := sm_e hf
    subst hf
    exact x_retV cx hw (a1, a2, a3, a4, a5, a6, a7) trivial [0, 1, 2, 3, 4, 5, 6, 7] rfl rfl (Nat.le_of_ble_eq_true rfl) (Nat.le_of_ble_eq_true rfl) dX1_init_95
  · refine x_lp hlp76 (fun x76 => [(h, .inr (2, [.int 0, .int 0, .int 0, .int 0, .int 1, .ref a1, .ref a2, .ref a3, .ref a4, .ref a5, .ref a6, .ref a7, .int 0, .int (-1000000), .null])), (a1, .inr (3, [.int 0, .ref (cs 0), .int 0])), (a2, .inl (d 0, 6, .inl (fun _ => 0))), (a3, .inl (d 0, 6, .inl (fun _ => 0))), (a4, .inl (d 0, 6, .inl (fun _ => 0))), (a5, .inl (d 0, 6, .inl (fun _ => 0))), (a6, .inl (d 0, 6, .inl (fun _ => 0))), (a7, .inl (d 0, 6, .inl x76.2))]) (fun x76 => [(0, .ref h), (1, .int x76.1)]) hw (lv_sub hl [1, 0] rfl) (fun x76 y76 hf hin76 hout76 H locs ls hw hl => ?_)
    have hw : Wd D A s [(h, .inr (2, [.int 0, .int 0, .int 0, .int 0, .int 1, .ref a1, .ref a2, .ref a3, .ref a4, .ref a5, .ref a6, .ref a7, .int 0, .int (-1000000), .null])), (a1, .inr (3, [.int 0, .ref (cs 0), .int 0])), (a2, .inl (d 0, 6, .inl (fun _ => 0))), (a3, .inl (d 0, 6, .inl (fun _ => 0))), (a4, .inl (d 0, 6, .inl (fun _ => 0))), (a5, .inl (d 0, 6, .inl (fun _ => 0))), (a6, .inl (d 0, 6, .inl (fun _ => 0))), (a7, .inl (d 0, 6, .inl x76.2))] H locs := hw
    have hl : lv_has ls 2 [(0, .ref h), (1, .int x76.1)] := hl
    refine lv_iload_n hx hb dX1_init_76 rfl (lv_at hl 1 rfl) ?_
    refine lv_bipush (v := 6) hx hb dX1_init_77 (by decide) ?_
    refine lv_icmp_ge (tgt := 95) hx hb dX1_init_79 (by decide) (fun c79 => ?_) (fun c79 => ?_)
    · have hf := if_t hf c79
      have hf := sm_e hf
      subst hf
      have hz := hout76 _ rfl
      subst hz
      exact hK76 _ _ _ hw (lv_sub hl [] rfl)
    · have hf := if_f hf c79
      refine lv_aload_n hx hb dX1_init_82 rfl (lv_at hl 0 rfl) ?_
      refine va_get (ci := 2) (C := RX1) (T := TX1) (N := 15) hx hb hts in_X1 hown hK hw.1 0 rfl rfl 11 (by decide) (hts _ q191) (fun _ h9 => h9) rfl dX1_init_83 ?_
      refine lv_iload_n hx hb dX1_init_86 rfl (lv_at hl 1 rfl) ?_
      refine lv_iload_n hx hb dX1_init_87 rfl (lv_at hl 1 rfl) ?_
      obtain ⟨w9, hrd, hf⟩ := op_e hf
      refine x_iast (q0 := 7) cx hw rfl hrd dX1_init_88 (fun H locs hw => ?_)
      have hw : Wd D A s [(h, .inr (2, [.int 0, .int 0, .int 0, .int 0, .int 1, .ref a1, .ref a2, .ref a3, .ref a4, .ref a5, .ref a6, .ref a7, .int 0, .int (-1000000), .null])), (a1, .inr (3, [.int 0, .ref (cs 0), .int 0])), (a2, .inl (d 0, 6, .inl (fun _ => 0))), (a3, .inl (d 0, 6, .inl (fun _ => 0))), (a4, .inl (d 0, 6, .inl (fun _ => 0))), (a5, .inl (d 0, 6, .inl (fun _ => 0))), (a6, .inl (d 0, 6, .inl (fun _ => 0))), (a7, .inl (d 0, 6, .inl w9))] H locs := hw
      refine lv_iinc (v := (x76.1 + 1)) (lv' := [(1, .int (x76.1 + 1)), (0, .ref h)]) hx hb dX1_init_89 hl (k := 1) rfl (by first | rfl | decide) (by decide) rfl (fun ls hl => ?_)
      refine lv_goto (tgt := 76) hx hb dX1_init_92 (by decide) ?_
      have hf := sm_e hf
      subst hf
      exact hin76 _ rfl _ _ _ hw (lv_sub hl [1, 0] rfl)
theorem hd_X9_init : yX9_init.cls ≠ "java/lang/invoke/MethodHandle" ∧ yX9_init.cls ≠ "java/lang/invoke/VarHandle" ∧ (parseMethodDescriptor yX9_init.desc).map (fun d => d.parameters.length) = some 0 := by decide +kernel
set_option maxHeartbeats 4000000 in
theorem mX9_init (l : Launch) (X : XT) (hX : XOK X) (D : va_G) (d : Nat → ClassId) (h : Nat)  (res : (Nat → Int32)) (hf : fX9_init  = some res) : MetV l yX9_init (ws_ yX9_init cX9_init 2 none) { frames := 1, cells := 11, slots := 1809, locals := 40 } [.ref h] X D d [(h, .inr (0, [.null, .int 0, .null, .int 0, .int 0, .int 0, .null, .null, .null, .null, .int 0, .int 0, .int 0, .null, .null, .null, .null, .null, .int 0]))] (fun (_ : Nat × Nat × Nat × Nat × Nat × Nat × Nat × Nat × Nat × Nat × Nat) => True) (fun u => [(h, .inr (0, [.ref u.1, .int 0, .ref u.2.1, .int 0, .int 0, .int 0, .ref u.2.2.1, .ref u.2.2.2.1, .ref u.2.2.2.2.1, .ref u.2.2.2.2.2.1, .int 0, .int 0, .int 0, .ref u.2.2.2.2.2.2.1, .ref u.2.2.2.2.2.2.2.1, .ref u.2.2.2.2.2.2.2.2.1, .ref u.2.2.2.2.2.2.2.2.2.1, .ref u.2.2.2.2.2.2.2.2.2.2, .int 0])), (u.1, .inl (d 0, 1247, .inl (fun _ => 0))), (u.2.1, .inl (d 0, 110, .inl (fun _ => 0))), (u.2.2.1, .inl (d 0, 8, .inl res)), (u.2.2.2.1, .inl (d 0, 8, .inl (fun _ => 0))), (u.2.2.2.2.1, .inl (d 0, 320, .inl (fun _ => 0))), (u.2.2.2.2.2.1, .inl (d 0, 40, .inl (fun _ => 0))), (u.2.2.2.2.2.2.1, .inl (d 0, 7, .inl (fun _ => 0))), (u.2.2.2.2.2.2.2.1, .inl (d 0, 6, .inl (fun _ => 0))), (u.2.2.2.2.2.2.2.2.1, .inl (d 0, 45, .inl (fun _ => 0))), (u.2.2.2.2.2.2.2.2.2.1, .inl (d 2, 2, .inl (fun _ => 0))), (u.2.2.2.2.2.2.2.2.2.2, .inl (d 0, 16, .inl (fun _ => 0)))]) := by
  refine MetV.of (by decide +kernel) (Nat.le_of_ble_eq_true rfl) ?_
  intro p e s m below meth c A cx hw ls hl
  have cx : Cx p s m _ meth c X D d A "DishLiftModel" cX9_init 2 none "<init>" := cx
  have cx' := cx
  obtain ⟨hx, hb, hr, hlk, hml, hown, hts, hK, hA, hXs, hnm⟩ := cx'
  have hl : lv_has ls 2 [(0, .ref h)] := hl
  generalize hlo : ([] : List Loc) = locs at hw ⊢
  unfold fX9_init at hf
  refine lv_aload_n hx hb dX9_init_0 rfl (lv_at hl 0 rfl) ?_
  refine W.objInit hx hb hown (hts _ q1247) (hts _ q121) (hts _ q122) rfl (by rw [hml]; exact hl.1) rfl dX9_init_1 (Nat.le_of_ble_eq_true rfl) (Nat.le_of_ble_eq_true rfl) ?_
  refine W.eq (g2 := F0 m 4 ls []) rfl ?_
  refine lv_aload_n hx hb dX9_init_4 rfl (lv_at hl 0 rfl) ?_
  refine lv_sipush (v := 1247) hx hb dX9_init_5 (by decide) ?_
  refine x_newi (N := 1247) cx hw (by decide) (by decide) (by decide) (Nat.le_of_ble_eq_true rfl) (Nat.le_of_ble_eq_true rfl) dX9_init_8 (fun a1 H hw => ?_)
  have hw : Wd D A s [(h, .inr (0, [.null, .int 0, .null, .int 0, .int 0, .int 0, .null, .null, .null, .null, .int 0, .int 0, .int 0, .null, .null, .null, .null, .null, .int 0])), (a1, .inl (d 0, 1247, .inl (fun _ => 0)))] H locs := hw
  refine W.widen (k := 1) (n := 1247) (Nat.le_of_ble_eq_true rfl) (Nat.le_of_ble_eq_true rfl) ?_
  refine va_putF (ci := 0) (v := .ref a1) (ty := (.array .int)) (C := RX9) (T := TX9) (N := 19) hx hb hts in_X9 tyX9 tyX9_ok nmX9 hown hK hw.1 hw.2.1 hw.2.2 0 rfl rfl 0 (by decide) (hts _ q1248) (fun _ h9 => h9) rfl hnm rfl (by decide +kernel) rfl rfl (Nat.le_of_ble_eq_true rfl) dX9_init_10 (fun H locs hP hD hS => ?_)
  have hw : Wd D A s [(h, .inr (0, [.ref a1, .int 0, .null, .int 0, .int 0, .int 0, .null, .null, .null, .null, .int 0, .int 0, .int 0, .null, .null, .null, .null, .null, .int 0])), (a1, .inl (d 0, 1247, .inl (fun _ => 0)))] H locs := ⟨hP, hD, hS⟩
  refine lv_aload_n hx hb dX9_init_13 rfl (lv_at hl 0 rfl) ?_
  refine lv_bipush (v := 110) hx hb dX9_init_14 (by decide) ?_
  refine x_newi (N := 110) cx hw (by decide) (by decide) (by decide) (Nat.le_of_ble_eq_true rfl) (Nat.le_of_ble_eq_true rfl) dX9_init_16 (fun a2 H hw => ?_)
  have hw : Wd D A s [(h, .inr (0, [.ref a1, .int 0, .null, .int 0, .int 0, .int 0, .null, .null, .null, .null, .int 0, .int 0, .int 0, .null, .null, .null, .null, .null, .int 0])), (a1, .inl (d 0, 1247, .inl (fun _ => 0))), (a2, .inl (d 0, 110, .inl (fun _ => 0)))] H locs := hw
  refine W.widen (k := 2) (n := 1357) (Nat.le_of_ble_eq_true rfl) (Nat.le_of_ble_eq_true rfl) ?_
  refine va_putF (ci := 0) (v := .ref a2) (ty := (.array .int)) (C := RX9) (T := TX9) (N := 19) hx hb hts in_X9 tyX9 tyX9_ok nmX9 hown hK hw.1 hw.2.1 hw.2.2 0 rfl rfl 2 (by decide) (hts _ q1250) (fun _ h9 => h9) rfl hnm rfl (by decide +kernel) rfl rfl (Nat.le_of_ble_eq_true rfl) dX9_init_18 (fun H locs hP hD hS => ?_)
  have hw : Wd D A s [(h, .inr (0, [.ref a1, .int 0, .ref a2, .int 0, .int 0, .int 0, .null, .null, .null, .null, .int 0, .int 0, .int 0, .null, .null, .null, .null, .null, .int 0])), (a1, .inl (d 0, 1247, .inl (fun _ => 0))), (a2, .inl (d 0, 110, .inl (fun _ => 0)))] H locs := ⟨hP, hD, hS⟩
  refine lv_aload_n hx hb dX9_init_21 rfl (lv_at hl 0 rfl) ?_
  refine lv_bipush (v := 8) hx hb dX9_init_22 (by decide) ?_
  refine x_newi (N := 8) cx hw (by decide) (by decide) (by decide) (Nat.le_of_ble_eq_true rfl) (Nat.le_of_ble_eq_true rfl) dX9_init_24 (fun a3 H hw => ?_)
  have hw : Wd D A s [(h, .inr (0, [.ref a1, .int 0, .ref a2, .int 0, .int 0, .int 0, .null, .null, .null, .null, .int 0, .int 0, .int 0, .null, .null, .null, .null, .null, .int 0])), (a1, .inl (d 0, 1247, .inl (fun _ => 0))), (a2, .inl (d 0, 110, .inl (fun _ => 0))), (a3, .inl (d 0, 8, .inl (fun _ => 0)))] H locs := hw
  refine W.widen (k := 3) (n := 1365) (Nat.le_of_ble_eq_true rfl) (Nat.le_of_ble_eq_true rfl) ?_
  refine va_putF (ci := 0) (v := .ref a3) (ty := (.array .int)) (C := RX9) (T := TX9) (N := 19) hx hb hts in_X9 tyX9 tyX9_ok nmX9 hown hK hw.1 hw.2.1 hw.2.2 0 rfl rfl 6 (by decide) (hts _ q1254) (fun _ h9 => h9) rfl hnm rfl (by decide +kernel) rfl rfl (Nat.le_of_ble_eq_true rfl) dX9_init_26 (fun H locs hP hD hS => ?_)
  have hw : Wd D A s [(h, .inr (0, [.ref a1, .int 0, .ref a2, .int 0, .int 0, .int 0, .ref a3, .null, .null, .null, .int 0, .int 0, .int 0, .null, .null, .null, .null, .null, .int 0])), (a1, .inl (d 0, 1247, .inl (fun _ => 0))), (a2, .inl (d 0, 110, .inl (fun _ => 0))), (a3, .inl (d 0, 8, .inl (fun _ => 0)))] H locs := ⟨hP, hD, hS⟩
  refine lv_aload_n hx hb dX9_init_29 rfl (lv_at hl 0 rfl) ?_
  refine lv_bipush (v := 8) hx hb dX9_init_30 (by decide) ?_
  refine x_newi (N := 8) cx hw (by decide) (by decide) (by decide) (Nat.le_of_ble_eq_true rfl) (Nat.le_of_ble_eq_true rfl) dX9_init_32 (fun a4 H hw => ?_)
  have hw : Wd D A s [(h, .inr (0, [.ref a1, .int 0, .ref a2, .int 0, .int 0, .int 0, .ref a3, .null, .null, .null, .int 0, .int 0, .int 0, .null, .null, .null, .null, .null, .int 0])), (a1, .inl (d 0, 1247, .inl (fun _ => 0))), (a2, .inl (d 0, 110, .inl (fun _ => 0))), (a3, .inl (d 0, 8, .inl (fun _ => 0))), (a4, .inl (d 0, 8, .inl (fun _ => 0)))] H locs := hw
  refine W.widen (k := 4) (n := 1373) (Nat.le_of_ble_eq_true rfl) (Nat.le_of_ble_eq_true rfl) ?_
  refine va_putF (ci := 0) (v := .ref a4) (ty := (.array .int)) (C := RX9) (T := TX9) (N := 19) hx hb hts in_X9 tyX9 tyX9_ok nmX9 hown hK hw.1 hw.2.1 hw.2.2 0 rfl rfl 7 (by decide) (hts _ q1255) (fun _ h9 => h9) rfl hnm rfl (by decide +kernel) rfl rfl (Nat.le_of_ble_eq_true rfl) dX9_init_34 (fun H locs hP hD hS => ?_)
  have hw : Wd D A s [(h, .inr (0, [.ref a1, .int 0, .ref a2, .int 0, .int 0, .int 0, .ref a3, .ref a4, .null, .null, .int 0, .int 0, .int 0, .null, .null, .null, .null, .null, .int 0])), (a1, .inl (d 0, 1247, .inl (fun _ => 0))), (a2, .inl (d 0, 110, .inl (fun _ => 0))), (a3, .inl (d 0, 8, .inl (fun _ => 0))), (a4, .inl (d 0, 8, .inl (fun _ => 0)))] H locs := ⟨hP, hD, hS⟩
  refine lv_aload_n hx hb dX9_init_37 rfl (lv_at hl 0 rfl) ?_
  refine lv_sipush (v := 320) hx hb dX9_init_38 (by decide) ?_
  refine x_newi (N := 320) cx hw (by decide) (by decide) (by decide) (Nat.le_of_ble_eq_true rfl) (Nat.le_of_ble_eq_true rfl) dX9_init_41 (fun a5 H hw => ?_)
  have hw : Wd D A s [(h, .inr (0, [.ref a1, .int 0, .ref a2, .int 0, .int 0, .int 0, .ref a3, .ref a4, .null, .null, .int 0, .int 0, .int 0, .null, .null, .null, .null, .null, .int 0])), (a1, .inl (d 0, 1247, .inl (fun _ => 0))), (a2, .inl (d 0, 110, .inl (fun _ => 0))), (a3, .inl (d 0, 8, .inl (fun _ => 0))), (a4, .inl (d 0, 8, .inl (fun _ => 0))), (a5, .inl (d 0, 320, .inl (fun _ => 0)))] H locs := hw
  refine W.widen (k := 5) (n := 1693) (Nat.le_of_ble_eq_true rfl) (Nat.le_of_ble_eq_true rfl) ?_
  refine va_putF (ci := 0) (v := .ref a5) (ty := (.array .int)) (C := RX9) (T := TX9) (N := 19) hx hb hts in_X9 tyX9 tyX9_ok nmX9 hown hK hw.1 hw.2.1 hw.2.2 0 rfl rfl 8 (by decide) (hts _ q1256) (fun _ h9 => h9) rfl hnm rfl (by decide +kernel) rfl rfl (Nat.le_of_ble_eq_true rfl) dX9_init_43 (fun H locs hP hD hS => ?_)
  have hw : Wd D A s [(h, .inr (0, [.ref a1, .int 0, .ref a2, .int 0, .int 0, .int 0, .ref a3, .ref a4, .ref a5, .null, .int 0, .int 0, .int 0, .null, .null, .null, .null, .null, .int 0])), (a1, .inl (d 0, 1247, .inl (fun _ => 0))), (a2, .inl (d 0, 110, .inl (fun _ => 0))), (a3, .inl (d 0, 8, .inl (fun _ => 0))), (a4, .inl (d 0, 8, .inl (fun _ => 0))), (a5, .inl (d 0, 320, .inl (fun _ => 0)))] H locs := ⟨hP, hD, hS⟩
  refine lv_aload_n hx hb dX9_init_46 rfl (lv_at hl 0 rfl) ?_
  refine lv_bipush (v := 40) hx hb dX9_init_47 (by decide) ?_
  refine x_newi (N := 40) cx hw (by decide) (by decide) (by decide) (Nat.le_of_ble_eq_true rfl) (Nat.le_of_ble_eq_true rfl) dX9_init_49 (fun a6 H hw => ?_)
  have hw : Wd D A s [(h, .inr (0, [.ref a1, .int 0, .ref a2, .int 0, .int 0, .int 0, .ref a3, .ref a4, .ref a5, .null, .int 0, .int 0, .int 0, .null, .null, .null, .null, .null, .int 0])), (a1, .inl (d 0, 1247, .inl (fun _ => 0))), (a2, .inl (d 0, 110, .inl (fun _ => 0))), (a3, .inl (d 0, 8, .inl (fun _ => 0))), (a4, .inl (d 0, 8, .inl (fun _ => 0))), (a5, .inl (d 0, 320, .inl (fun _ => 0))), (a6, .inl (d 0, 40, .inl (fun _ => 0)))] H locs := hw
  refine W.widen (k := 6) (n := 1733) (Nat.le_of_ble_eq_true rfl) (Nat.le_of_ble_eq_true rfl) ?_
  refine va_putF (ci := 0) (v := .ref a6) (ty := (.array .int)) (C := RX9) (T := TX9) (N := 19) hx hb hts in_X9 tyX9 tyX9_ok nmX9 hown hK hw.1 hw.2.1 hw.2.2 0 rfl rfl 9 (by decide) (hts _ q1257) (fun _ h9 => h9) rfl hnm rfl (by decide +kernel) rfl rfl (Nat.le_of_ble_eq_true rfl) dX9_init_51 (fun H locs hP hD hS => ?_)
  have hw : Wd D A s [(h, .inr (0, [.ref a1, .int 0, .ref a2, .int 0, .int 0, .int 0, .ref a3, .ref a4, .ref a5, .ref a6, .int 0, .int 0, .int 0, .null, .null, .null, .null, .null, .int 0])), (a1, .inl (d 0, 1247, .inl (fun _ => 0))), (a2, .inl (d 0, 110, .inl (fun _ => 0))), (a3, .inl (d 0, 8, .inl (fun _ => 0))), (a4, .inl (d 0, 8, .inl (fun _ => 0))), (a5, .inl (d 0, 320, .inl (fun _ => 0))), (a6, .inl (d 0, 40, .inl (fun _ => 0)))] H locs := ⟨hP, hD, hS⟩
  refine lv_aload_n hx hb dX9_init_54 rfl (lv_at hl 0 rfl) ?_
  refine lv_bipush (v := 7) hx hb dX9_init_55 (by decide) ?_
  refine x_newi (N := 7) cx hw (by decide) (by decide) (by decide) (Nat.le_of_ble_eq_true rfl) (Nat.le_of_ble_eq_true rfl) dX9_init_57 (fun a7 H hw => ?_)
  have hw : Wd D A s [(h, .inr (0, [.ref a1, .int 0, .ref a2, .int 0, .int 0, .int 0, .ref a3, .ref a4, .ref a5, .ref a6, .int 0, .int 0, .int 0, .null, .null, .null, .null, .null, .int 0])), (a1, .inl (d 0, 1247, .inl (fun _ => 0))), (a2, .inl (d 0, 110, .inl (fun _ => 0))), (a3, .inl (d 0, 8, .inl (fun _ => 0))), (a4, .inl (d 0, 8, .inl (fun _ => 0))), (a5, .inl (d 0, 320, .inl (fun _ => 0))), (a6, .inl (d 0, 40, .inl (fun _ => 0))), (a7, .inl (d 0, 7, .inl (fun _ => 0)))] H locs := hw
  refine W.widen (k := 7) (n := 1740) (Nat.le_of_ble_eq_true rfl) (Nat.le_of_ble_eq_true rfl) ?_
  refine va_putF (ci := 0) (v := .ref a7) (ty := (.array .int)) (C := RX9) (T := TX9) (N := 19) hx hb hts in_X9 tyX9 tyX9_ok nmX9 hown hK hw.1 hw.2.1 hw.2.2 0 rfl rfl 13 (by decide) (hts _ q1261) (fun _ h9 => h9) rfl hnm rfl (by decide +kernel) rfl rfl (Nat.le_of_ble_eq_true rfl) dX9_init_59 (fun H locs hP hD hS => ?_)
  have hw : Wd D A s [(h, .inr (0, [.ref a1, .int 0, .ref a2, .int 0, .int 0, .int 0, .ref a3, .ref a4, .ref a5, .ref a6, .int 0, .int 0, .int 0, .ref a7, .null, .null, .null, .null, .int 0])), (a1, .inl (d 0, 1247, .inl (fun _ => 0))), (a2, .inl (d 0, 110, .inl (fun _ => 0))), (a3, .inl (d 0, 8, .inl (fun _ => 0))), (a4, .inl (d 0, 8, .inl (fun _ => 0))), (a5, .inl (d 0, 320, .inl (fun _ => 0))), (a6, .inl (d 0, 40, .inl (fun _ => 0))), (a7, .inl (d 0, 7, .inl (fun _ => 0)))] H locs := ⟨hP, hD, hS⟩
  refine lv_aload_n hx hb dX9_init_62 rfl (lv_at hl 0 rfl) ?_
  refine lv_bipush (v := 6) hx hb dX9_init_63 (by decide) ?_
  refine x_newi (N := 6) cx hw (by decide) (by decide) (by decide) (Nat.le_of_ble_eq_true rfl) (Nat.le_of_ble_eq_true rfl) dX9_init_65 (fun a8 H hw => ?_)
  have hw : Wd D A s [(h, .inr (0, [.ref a1, .int 0, .ref a2, .int 0, .int 0, .int 0, .ref a3, .ref a4, .ref a5, .ref a6, .int 0, .int 0, .int 0, .ref a7, .null, .null, .null, .null, .int 0])), (a1, .inl (d 0, 1247, .inl (fun _ => 0))), (a2, .inl (d 0, 110, .inl (fun _ => 0))), (a3, .inl (d 0, 8, .inl (fun _ => 0))), (a4, .inl (d 0, 8, .inl (fun _ => 0))), (a5, .inl (d 0, 320, .inl (fun _ => 0))), (a6, .inl (d 0, 40, .inl (fun _ => 0))), (a7, .inl (d 0, 7, .inl (fun _ => 0))), (a8, .inl (d 0, 6, .inl (fun _ => 0)))] H locs := hw
  refine W.widen (k := 8) (n := 1746) (Nat.le_of_ble_eq_true rfl) (Nat.le_of_ble_eq_true rfl) ?_
  refine va_putF (ci := 0) (v := .ref a8) (ty := (.array .int)) (C := RX9) (T := TX9) (N := 19) hx hb hts in_X9 tyX9 tyX9_ok nmX9 hown hK hw.1 hw.2.1 hw.2.2 0 rfl rfl 14 (by decide) (hts _ q1262) (fun _ h9 => h9) rfl hnm rfl (by decide +kernel) rfl rfl (Nat.le_of_ble_eq_true rfl) dX9_init_67 (fun H locs hP hD hS => ?_)
  have hw : Wd D A s [(h, .inr (0, [.ref a1, .int 0, .ref a2, .int 0, .int 0, .int 0, .ref a3, .ref a4, .ref a5, .ref a6, .int 0, .int 0, .int 0, .ref a7, .ref a8, .null, .null, .null, .int 0])), (a1, .inl (d 0, 1247, .inl (fun _ => 0))), (a2, .inl (d 0, 110, .inl (fun _ => 0))), (a3, .inl (d 0, 8, .inl (fun _ => 0))), (a4, .inl (d 0, 8, .inl (fun _ => 0))), (a5, .inl (d 0, 320, .inl (fun _ => 0))), (a6, .inl (d 0, 40, .inl (fun _ => 0))), (a7, .inl (d 0, 7, .inl (fun _ => 0))), (a8, .inl (d 0, 6, .inl (fun _ => 0)))] H locs := ⟨hP, hD, hS⟩
  refine lv_aload_n hx hb dX9_init_70 rfl (lv_at hl 0 rfl) ?_
  refine lv_bipush (v := 45) hx hb dX9_init_71 (by decide) ?_
  refine x_newi (N := 45) cx hw (by decide) (by decide) (by decide) (Nat.le_of_ble_eq_true rfl) (Nat.le_of_ble_eq_true rfl) dX9_init_73 (fun a9 H hw => ?_)
  have hw : Wd D A s [(h, .inr (0, [.ref a1, .int 0, .ref a2, .int 0, .int 0, .int 0, .ref a3, .ref a4, .ref a5, .ref a6, .int 0, .int 0, .int 0, .ref a7, .ref a8, .null, .null, .null, .int 0])), (a1, .inl (d 0, 1247, .inl (fun _ => 0))), (a2, .inl (d 0, 110, .inl (fun _ => 0))), (a3, .inl (d 0, 8, .inl (fun _ => 0))), (a4, .inl (d 0, 8, .inl (fun _ => 0))), (a5, .inl (d 0, 320, .inl (fun _ => 0))), (a6, .inl (d 0, 40, .inl (fun _ => 0))), (a7, .inl (d 0, 7, .inl (fun _ => 0))), (a8, .inl (d 0, 6, .inl (fun _ => 0))), (a9, .inl (d 0, 45, .inl (fun _ => 0)))] H locs := hw
  refine W.widen (k := 9) (n := 1791) (Nat.le_of_ble_eq_true rfl) (Nat.le_of_ble_eq_true rfl) ?_
  refine va_putF (ci := 0) (v := .ref a9) (ty := (.array .int)) (C := RX9) (T := TX9) (N := 19) hx hb hts in_X9 tyX9 tyX9_ok nmX9 hown hK hw.1 hw.2.1 hw.2.2 0 rfl rfl 15 (by decide) (hts _ q1263) (fun _ h9 => h9) rfl hnm rfl (by decide +kernel) rfl rfl (Nat.le_of_ble_eq_true rfl) dX9_init_75 (fun H locs hP hD hS => ?_)
  have hw : Wd D A s [(h, .inr (0, [.ref a1, .int 0, .ref a2, .int 0, .int 0, .int 0, .ref a3, .ref a4, .ref a5, .ref a6, .int 0, .int 0, .int 0, .ref a7, .ref a8, .ref a9, .null, .null, .int 0])), (a1, .inl (d 0, 1247, .inl (fun _ => 0))), (a2, .inl (d 0, 110, .inl (fun _ => 0))), (a3, .inl (d 0, 8, .inl (fun _ => 0))), (a4, .inl (d 0, 8, .inl (fun _ => 0))), (a5, .inl (d 0, 320, .inl (fun _ => 0))), (a6, .inl (d 0, 40, .inl (fun _ => 0))), (a7, .inl (d 0, 7, .inl (fun _ => 0))), (a8, .inl (d 0, 6, .inl (fun _ => 0))), (a9, .inl (d 0, 45, .inl (fun _ => 0)))] H locs := ⟨hP, hD, hS⟩
  refine lv_aload_n hx hb dX9_init_78 rfl (lv_at hl 0 rfl) ?_
  refine lv_iconst (v := 2) hx hb dX9_init_79 (by decide) ?_
  refine x_newz (N := 2) cx hw (by decide) (by decide) (by decide) (Nat.le_of_ble_eq_true rfl) (Nat.le_of_ble_eq_true rfl) dX9_init_80 (fun a10 H hw => ?_)
  have hw : Wd D A s [(h, .inr (0, [.ref a1, .int 0, .ref a2, .int 0, .int 0, .int 0, .ref a3, .ref a4, .ref a5, .ref a6, .int 0, .int 0, .int 0, .ref a7, .ref a8, .ref a9, .null, .null, .int 0])), (a1, .inl (d 0, 1247, .inl (fun _ => 0))), (a2, .inl (d 0, 110, .inl (fun _ => 0))), (a3, .inl (d 0, 8, .inl (fun _ => 0))), (a4, .inl (d 0, 8, .inl (fun _ => 0))), (a5, .inl (d 0, 320, .inl (fun _ => 0))), (a6, .inl (d 0, 40, .inl (fun _ => 0))), (a7, .inl (d 0, 7, .inl (fun _ => 0))), (a8, .inl (d 0, 6, .inl (fun _ => 0))), (a9, .inl (d 0, 45, .inl (fun _ => 0))), (a10, .inl (d 2, 2, .inl (fun _ => 0)))] H locs := hw
  refine W.widen (k := 10) (n := 1793) (Nat.le_of_ble_eq_true rfl) (Nat.le_of_ble_eq_true rfl) ?_
  refine va_putF (ci := 0) (v := .ref a10) (ty := (.array .boolean)) (C := RX9) (T := TX9) (N := 19) hx hb hts in_X9 tyX9 tyX9_ok nmX9 hown hK hw.1 hw.2.1 hw.2.2 0 rfl rfl 16 (by decide) (hts _ q1264) (fun _ h9 => h9) rfl hnm rfl (by decide +kernel) rfl rfl (Nat.le_of_ble_eq_true rfl) dX9_init_82 (fun H locs hP hD hS => ?_)
  have hw : Wd D A s [(h, .inr (0, [.ref a1, .int 0, .ref a2, .int 0, .int 0, .int 0, .ref a3, .ref a4, .ref a5, .ref a6, .int 0, .int 0, .int 0, .ref a7, .ref a8, .ref a9, .ref a10, .null, .int 0])), (a1, .inl (d 0, 1247, .inl (fun _ => 0))), (a2, .inl (d 0, 110, .inl (fun _ => 0))), (a3, .inl (d 0, 8, .inl (fun _ => 0))), (a4, .inl (d 0, 8, .inl (fun _ => 0))), (a5, .inl (d 0, 320, .inl (fun _ => 0))), (a6, .inl (d 0, 40, .inl (fun _ => 0))), (a7, .inl (d 0, 7, .inl (fun _ => 0))), (a8, .inl (d 0, 6, .inl (fun _ => 0))), (a9, .inl (d 0, 45, .inl (fun _ => 0))), (a10, .inl (d 2, 2, .inl (fun _ => 0)))] H locs := ⟨hP, hD, hS⟩
  refine lv_aload_n hx hb dX9_init_85 rfl (lv_at hl 0 rfl) ?_
  refine lv_bipush (v := 16) hx hb dX9_init_86 (by decide) ?_
  refine x_newi (N := 16) cx hw (by decide) (by decide) (by decide) (Nat.le_of_ble_eq_true rfl) (Nat.le_of_ble_eq_true rfl) dX9_init_88 (fun a11 H hw => ?_)
  have hw : Wd D A s [(h, .inr (0, [.ref a1, .int 0, .ref a2, .int 0, .int 0, .int 0, .ref a3, .ref a4, .ref a5, .ref a6, .int 0, .int 0, .int 0, .ref a7, .ref a8, .ref a9, .ref a10, .null, .int 0])), (a1, .inl (d 0, 1247, .inl (fun _ => 0))), (a2, .inl (d 0, 110, .inl (fun _ => 0))), (a3, .inl (d 0, 8, .inl (fun _ => 0))), (a4, .inl (d 0, 8, .inl (fun _ => 0))), (a5, .inl (d 0, 320, .inl (fun _ => 0))), (a6, .inl (d 0, 40, .inl (fun _ => 0))), (a7, .inl (d 0, 7, .inl (fun _ => 0))), (a8, .inl (d 0, 6, .inl (fun _ => 0))), (a9, .inl (d 0, 45, .inl (fun _ => 0))), (a10, .inl (d 2, 2, .inl (fun _ => 0))), (a11, .inl (d 0, 16, .inl (fun _ => 0)))] H locs := hw
  refine W.widen (k := 11) (n := 1809) (Nat.le_of_ble_eq_true rfl) (Nat.le_of_ble_eq_true rfl) ?_
  refine va_putF (ci := 0) (v := .ref a11) (ty := (.array .int)) (C := RX9) (T := TX9) (N := 19) hx hb hts in_X9 tyX9 tyX9_ok nmX9 hown hK hw.1 hw.2.1 hw.2.2 0 rfl rfl 17 (by decide) (hts _ q1265) (fun _ h9 => h9) rfl hnm rfl (by decide +kernel) rfl rfl (Nat.le_of_ble_eq_true rfl) dX9_init_90 (fun H locs hP hD hS => ?_)
  have hw : Wd D A s [(h, .inr (0, [.ref a1, .int 0, .ref a2, .int 0, .int 0, .int 0, .ref a3, .ref a4, .ref a5, .ref a6, .int 0, .int 0, .int 0, .ref a7, .ref a8, .ref a9, .ref a10, .ref a11, .int 0])), (a1, .inl (d 0, 1247, .inl (fun _ => 0))), (a2, .inl (d 0, 110, .inl (fun _ => 0))), (a3, .inl (d 0, 8, .inl (fun _ => 0))), (a4, .inl (d 0, 8, .inl (fun _ => 0))), (a5, .inl (d 0, 320, .inl (fun _ => 0))), (a6, .inl (d 0, 40, .inl (fun _ => 0))), (a7, .inl (d 0, 7, .inl (fun _ => 0))), (a8, .inl (d 0, 6, .inl (fun _ => 0))), (a9, .inl (d 0, 45, .inl (fun _ => 0))), (a10, .inl (d 2, 2, .inl (fun _ => 0))), (a11, .inl (d 0, 16, .inl (fun _ => 0)))] H locs := ⟨hP, hD, hS⟩
  refine lv_iconst (v := 0) hx hb dX9_init_93 (by decide) ?_
  refine lv_istore_n (lv' := [(1, .int 0), (0, .ref h)]) hx hb dX9_init_94 rfl hl (by decide) rfl (fun ls hl => ?_)
  obtain ⟨r12, hlp95, hf⟩ := op_e hf
  refine x_join (A := A) (D := D) (J := 114) (nL := 2) (cells' := 11) (slots' := 1809) (st := []) [(h, .inr (0, [.ref a1, .int 0, .ref a2, .int 0, .int 0, .int 0, .ref a3, .ref a4, .ref a5, .ref a6, .int 0, .int 0, .int 0, .ref a7, .ref a8, .ref a9, .ref a10, .ref a11, .int 0])), (a1, .inl (d 0, 1247, .inl (fun _ => 0))), (a2, .inl (d 0, 110, .inl (fun _ => 0))), (a3, .inl (d 0, 8, .inl r12)), (a4, .inl (d 0, 8, .inl (fun _ => 0))), (a5, .inl (d 0, 320, .inl (fun _ => 0))), (a6, .inl (d 0, 40, .inl (fun _ => 0))), (a7, .inl (d 0, 7, .inl (fun _ => 0))), (a8, .inl (d 0, 6, .inl (fun _ => 0))), (a9, .inl (d 0, 45, .inl (fun _ => 0))), (a10, .inl (d 2, 2, .inl (fun _ => 0))), (a11, .inl (d 0, 16, .inl (fun _ => 0)))] [] (fun H locs ls hw hl => ?_) (fun hK95 => ?_)
  · have hf := sm_e hf
    subst hf
    exact x_retV cx hw (a1, a2, a3, a4, a5, a6, a7, a8, a9, a10, a11) trivial [0, 1, 2, 3, 4, 5, 6, 7, 8, 9, 10, 11] rfl rfl (Nat.le_of_ble_eq_true rfl) (Nat.le_of_ble_eq_true rfl) dX9_init_114
  · refine x_lp hlp95 (fun x95 => [(h, .inr (0, [.ref a1, .int 0, .ref a2, .int 0, .int 0, .int 0, .ref a3, .ref a4, .ref a5, .ref a6, .int 0, .int 0, .int 0, .ref a7, .ref a8, .ref a9, .ref a10, .ref a11, .int 0])), (a1, .inl (d 0, 1247, .inl (fun _ => 0))), (a2, .inl (d 0, 110, .inl (fun _ => 0))), (a3, .inl (d 0, 8, .inl x95.2)), (a4, .inl (d 0, 8, .inl (fun _ => 0))), (a5, .inl (d 0, 320, .inl (fun _ => 0))), (a6, .inl (d 0, 40, .inl (fun _ => 0))), (a7, .inl (d 0, 7, .inl (fun _ => 0))), (a8, .inl (d 0, 6, .inl (fun _ => 0))), (a9, .inl (d 0, 45, .inl (fun _ => 0))), (a10, .inl (d 2, 2, .inl (fun _ => 0))), (a11, .inl (d 0, 16, .inl (fun _ => 0)))]) (fun x95 => [(0, .ref h), (1, .int x95.1)]) hw (lv_sub hl [1, 0] rfl) (fun x95 y95 hf hin95 hout95 H locs ls hw hl => ?_)
    have hw : Wd D A s [(h, .inr (0, [.ref a1, .int 0, .ref a2, .int 0, .int 0, .int 0, .ref a3, .ref a4, .ref a5, .ref a6, .int 0, .int 0, .int 0, .ref a7, .ref a8, .ref a9, .ref a10, .ref a11, .int 0])), (a1, .inl (d 0, 1247, .inl (fun _ => 0))), (a2, .inl (d 0, 110, .inl (fun _ => 0))), (a3, .inl (d 0, 8, .inl x95.2)), (a4, .inl (d 0, 8, .inl (fun _ => 0))), (a5, .inl (d 0, 320, .inl (fun _ => 0))), (a6, .inl (d 0, 40, .inl (fun _ => 0))), (a7, .inl (d 0, 7, .inl (fun _ => 0))), (a8, .inl (d 0, 6, .inl (fun _ => 0))), (a9, .inl (d 0, 45, .inl (fun _ => 0))), (a10, .inl (d 2, 2, .inl (fun _ => 0))), (a11, .inl (d 0, 16, .inl (fun _ => 0)))] H locs := hw
    have hl : lv_has ls 2 [(0, .ref h), (1, .int x95.1)] := hl
    refine lv_iload_n hx hb dX9_init_95 rfl (lv_at hl 1 rfl) ?_
    refine lv_bipush (v := 8) hx hb dX9_init_96 (by decide) ?_
    refine lv_icmp_ge (tgt := 114) hx hb dX9_init_98 (by decide) (fun c98 => ?_) (fun c98 => ?_)
    · have hf := if_t hf c98
      have hf := sm_e hf
      subst hf
      have hz := hout95 _ rfl
      subst hz
      exact hK95 _ _ _ hw (lv_sub hl [] rfl)
    · have hf := if_f hf c98
      refine lv_aload_n hx hb dX9_init_101 rfl (lv_at hl 0 rfl) ?_
      refine va_get (ci := 0) (C := RX9) (T := TX9) (N := 19) hx hb hts in_X9 hown hK hw.1 0 rfl rfl 6 (by decide) (hts _ q1254) (fun _ h9 => h9) rfl dX9_init_102 ?_
      refine lv_iload_n hx hb dX9_init_105 rfl (lv_at hl 1 rfl) ?_
      refine lv_iconst (v := (-1)) hx hb dX9_init_106 (by decide) ?_
      obtain ⟨w13, hrd, hf⟩ := op_e hf
      refine x_iast (q0 := 3) cx hw rfl hrd dX9_init_107 (fun H locs hw => ?_)
      have hw : Wd D A s [(h, .inr (0, [.ref a1, .int 0, .ref a2, .int 0, .int 0, .int 0, .ref a3, .ref a4, .ref a5, .ref a6, .int 0, .int 0, .int 0, .ref a7, .ref a8, .ref a9, .ref a10, .ref a11, .int 0])), (a1, .inl (d 0, 1247, .inl (fun _ => 0))), (a2, .inl (d 0, 110, .inl (fun _ => 0))), (a3, .inl (d 0, 8, .inl w13)), (a4, .inl (d 0, 8, .inl (fun _ => 0))), (a5, .inl (d 0, 320, .inl (fun _ => 0))), (a6, .inl (d 0, 40, .inl (fun _ => 0))), (a7, .inl (d 0, 7, .inl (fun _ => 0))), (a8, .inl (d 0, 6, .inl (fun _ => 0))), (a9, .inl (d 0, 45, .inl (fun _ => 0))), (a10, .inl (d 2, 2, .inl (fun _ => 0))), (a11, .inl (d 0, 16, .inl (fun _ => 0)))] H locs := hw
      refine lv_iinc (v := (x95.1 + 1)) (lv' := [(1, .int (x95.1 + 1)), (0, .ref h)]) hx hb dX9_init_108 hl (k := 1) rfl (by first | rfl | decide) (by decide) rfl (fun ls hl => ?_)
      refine lv_goto (tgt := 95) hx hb dX9_init_111 (by decide) ?_
      have hf := sm_e hf
      subst hf
      exact hin95 _ rfl _ _ _ hw (lv_sub hl [1, 0] rfl)
