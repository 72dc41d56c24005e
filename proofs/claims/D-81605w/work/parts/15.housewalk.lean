set_option maxRecDepth 100000
theorem hd_X1_many : yX1_many.cls = "DishLift$House" ∧ yX1_many.cls ≠ "java/lang/invoke/MethodHandle" ∧ yX1_many.cls ≠ "java/lang/invoke/VarHandle" ∧ (parseMethodDescriptor yX1_many.desc).map (fun d => d.parameters.length) = some 0 := by decide +kernel
set_option maxHeartbeats 4000000 in
theorem mX1_many (l : Launch)  (D : va_G) (d : Nat → ClassId) (cs : Nat → Nat) (wi : va_W) (ln : Nat → Option Int32) (lf : Nat → Nat → Option Nat) (dk : Nat → Option Nat) (dn : Nat → Int32) (him : ImF d wi ln lf dk dn) (ha : Nat → Nat) (hfl : Int32) (hro : Int32) (hrp : Int32) (hca : Int32) (hwy : Int32) (hla : Nat) (hmi : Int32) (htf : Int32) (htk : Option Nat) (hHO : Nat → Int32) (hAT : Nat → Int32) (hTO : Nat → Int32) (hWE : Nat → Int32) (hHE : Nat → Int32) (hRA : Nat → Int32)  (res : Int32) (hf : fX1_many ln hla = some res) : MetI l yX1_many (ws_ yX1_many cX1_many 1 (some .int)) { frames := 1, cells := 0, slots := 0, locals := 40 } [.ref (ha 0)] (XI D cs wi) D d [oH ha hfl hro hrp hca hwy hla hmi htf htk, ((ha 1), .inl (d 0, 6, .inl hHO)), ((ha 2), .inl (d 0, 6, .inl hAT)), ((ha 3), .inl (d 0, 6, .inl hTO)), ((ha 4), .inl (d 0, 6, .inl hWE)), ((ha 5), .inl (d 0, 6, .inl hHE)), ((ha 6), .inl (d 0, 6, .inl hRA))] (fun r (_ : Unit) => r = res) (fun _ => [oH ha hfl hro hrp hca hwy hla hmi htf htk, ((ha 1), .inl (d 0, 6, .inl hHO)), ((ha 2), .inl (d 0, 6, .inl hAT)), ((ha 3), .inl (d 0, 6, .inl hTO)), ((ha 4), .inl (d 0, 6, .inl hWE)), ((ha 5), .inl (d 0, 6, .inl hHE)), ((ha 6), .inl (d 0, 6, .inl hRA))]) := by
  have hX := XI.ok (D := D) (cs := cs) (wi := wi)
  refine MetI.of (by decide +kernel) (Nat.le_of_ble_eq_true rfl) ?_
  intro p e s m below meth c A cx hw ls hl
  have cx : Cx p s m _ meth c (XI D cs wi) D d A "DishLift$House" cX1_many 1 (some .int) "many" := cx
  have cx' := cx
  obtain ⟨hx, hb, hr, hlk, hml, hown, hts, hK, hA, hXs, hnm⟩ := cx'
  have hl : lv_has ls 1 [(0, .ref (ha 0))] := hl
  unfold fX1_many at hf
  refine lv_aload_n hx hb dX1_many_0 rfl (lv_at hl 0 rfl) ?_
  refine va_get (ci := 2) (C := RX1) (T := TX1) (N := 15) hx hb hts in_X1 hown hK hw.1 0 rfl rfl 5 (by decide) (hts _ q172) (fun _ h9 => h9) rfl dX1_many_1 ?_
  obtain ⟨v1, hv, hf⟩ := op_e hf
  refine x_size him hv cx hw hl.1 q667 ⟨(Nat.le_of_ble_eq_true rfl), (Nat.le_of_ble_eq_true rfl)⟩ (Nat.le_of_ble_eq_true rfl) ⟨(Nat.le_of_ble_eq_true rfl), (Nat.le_of_ble_eq_true rfl)⟩ dX1_many_4 (fun H locs hw => ?_)
  have hf := sm_e hf
  subst hf
  exact x_retI cx hw rfl () rfl [0, 1, 2, 3, 4, 5, 6] rfl rfl (Nat.le_of_ble_eq_true rfl) (Nat.le_of_ble_eq_true rfl) dX1_many_9
theorem hd_X1_dish : yX1_dish.cls = "DishLift$House" ∧ yX1_dish.cls ≠ "java/lang/invoke/MethodHandle" ∧ yX1_dish.cls ≠ "java/lang/invoke/VarHandle" ∧ (parseMethodDescriptor yX1_dish.desc).map (fun d => d.parameters.length) = some 1 := by decide +kernel
set_option maxHeartbeats 4000000 in
theorem mX1_dish (l : Launch)  (D : va_G) (d : Nat → ClassId) (cs : Nat → Nat) (wi : va_W) (ln : Nat → Option Int32) (lf : Nat → Nat → Option Nat) (dk : Nat → Option Nat) (dn : Nat → Int32) (him : ImF d wi ln lf dk dn) (ha : Nat → Nat) (hfl : Int32) (hro : Int32) (hrp : Int32) (hca : Int32) (hwy : Int32) (hla : Nat) (hmi : Int32) (htf : Int32) (htk : Option Nat) (hHO : Nat → Int32) (hAT : Nat → Int32) (hTO : Nat → Int32) (hWE : Nat → Int32) (hHE : Nat → Int32) (hRA : Nat → Int32) (p1 : Int32)  (res : Nat) (hf : fX1_dish ln lf dk hla htf htk p1 = some res) : MetA l yX1_dish (ws_ yX1_dish cX1_dish 2 (some (.object "DishLift$Dish"))) { frames := 3, cells := 0, slots := 0, locals := 120 } [.ref (ha 0), .int p1] (XI D cs wi) D d [oH ha hfl hro hrp hca hwy hla hmi htf htk, ((ha 1), .inl (d 0, 6, .inl hHO)), ((ha 2), .inl (d 0, 6, .inl hAT)), ((ha 3), .inl (d 0, 6, .inl hTO)), ((ha 4), .inl (d 0, 6, .inl hWE)), ((ha 5), .inl (d 0, 6, .inl hHE)), ((ha 6), .inl (d 0, 6, .inl hRA))] res (fun (_ : Unit) => True) (fun _ => [oH ha hfl hro hrp hca hwy hla hmi htf htk, ((ha 1), .inl (d 0, 6, .inl hHO)), ((ha 2), .inl (d 0, 6, .inl hAT)), ((ha 3), .inl (d 0, 6, .inl hTO)), ((ha 4), .inl (d 0, 6, .inl hWE)), ((ha 5), .inl (d 0, 6, .inl hHE)), ((ha 6), .inl (d 0, 6, .inl hRA))]) := by
  have hX := XI.ok (D := D) (cs := cs) (wi := wi)
  refine MetA.of (by decide +kernel) (Nat.le_of_ble_eq_true rfl) ?_
  intro p e s m below meth c A cx hw ls hl
  have cx : Cx p s m _ meth c (XI D cs wi) D d A "DishLift$House" cX1_dish 2 (some (.object "DishLift$Dish")) "dish" := cx
  have cx' := cx
  obtain ⟨hx, hb, hr, hlk, hml, hown, hts, hK, hA, hXs, hnm⟩ := cx'
  have hl : lv_has ls 2 [(0, .ref (ha 0)), (1, .int p1)] := hl
  unfold fX1_dish at hf
  refine lv_iload_n hx hb dX1_dish_0 rfl (lv_at hl 1 rfl) ?_
  refine lv_aload_n hx hb dX1_dish_1 rfl (lv_at hl 0 rfl) ?_
  refine va_get (ci := 2) (C := RX1) (T := TX1) (N := 15) hx hb hts in_X1 hown hK hw.1 0 rfl rfl 13 (by decide) (hts _ q195) (fun _ h9 => h9) rfl dX1_dish_2 ?_
  refine lv_icmp_ne (tgt := 15) hx hb dX1_dish_5 (by decide) (fun c5 => ?_) (fun c5 => ?_)
  · have hf := if_f hf c5
    refine lv_aload_n hx hb dX1_dish_15 rfl (lv_at hl 0 rfl) ?_
    refine va_get (ci := 2) (C := RX1) (T := TX1) (N := 15) hx hb hts in_X1 hown hK hw.1 0 rfl rfl 5 (by decide) (hts _ q172) (fun _ h9 => h9) rfl dX1_dish_16 ?_
    refine lv_iload_n hx hb dX1_dish_19 rfl (lv_at hl 1 rfl) ?_
    obtain ⟨e2, hv, hf⟩ := op_e hf
    refine x_lget him hv cx hw hl.1 q818 ⟨(Nat.le_of_ble_eq_true rfl), (Nat.le_of_ble_eq_true rfl)⟩ (Nat.le_of_ble_eq_true rfl) ⟨(Nat.le_of_ble_eq_true rfl), (Nat.le_of_ble_eq_true rfl)⟩ dX1_dish_20 (fun H locs hw => ?_)
    obtain ⟨k3, hv, hf⟩ := op_e hf
    refine x_cast him hv cx hw (hts _ q834) dX1_dish_25 ?_
    have hf := sm_e hf
    subst hf
    exact x_retA cx hw (Or.inl ⟨_, rfl⟩) () trivial [0, 1, 2, 3, 4, 5, 6] rfl rfl (Nat.le_of_ble_eq_true rfl) (Nat.le_of_ble_eq_true rfl) dX1_dish_28
  · have hf := if_t hf c5
    refine lv_aload_n hx hb dX1_dish_8 rfl (lv_at hl 0 rfl) ?_
    refine va_get (ci := 2) (C := RX1) (T := TX1) (N := 15) hx hb hts in_X1 hown hK hw.1 0 rfl rfl 14 (by decide) (hts _ q197) (fun _ h9 => h9) rfl dX1_dish_9 ?_
    refine lv_goto (tgt := 28) hx hb dX1_dish_12 (by decide) ?_
    obtain ⟨e1, ho, hf⟩ := op_e hf
    refine W.eq (g2 := F0 m 28 ls [.ref e1]) (by rw [ho]; rfl) ?_
    have hf := sm_e hf
    subst hf
    exact x_retA cx hw (Or.inl ⟨_, rfl⟩) () trivial [0, 1, 2, 3, 4, 5, 6] rfl rfl (Nat.le_of_ble_eq_true rfl) (Nat.le_of_ble_eq_true rfl) dX1_dish_28
theorem hd_X1_areSo : yX1_areSo.cls = "DishLift$House" ∧ yX1_areSo.cls ≠ "java/lang/invoke/MethodHandle" ∧ yX1_areSo.cls ≠ "java/lang/invoke/VarHandle" ∧ (parseMethodDescriptor yX1_areSo.desc).map (fun d => d.parameters.length) = some 1 := by decide +kernel
set_option maxHeartbeats 4000000 in
theorem mX1_areSo (l : Launch)  (D : va_G) (d : Nat → ClassId) (cs : Nat → Nat) (wi : va_W) (ln : Nat → Option Int32) (lf : Nat → Nat → Option Nat) (dk : Nat → Option Nat) (dn : Nat → Int32) (him : ImF d wi ln lf dk dn) (ha : Nat → Nat) (hfl : Int32) (hro : Int32) (hrp : Int32) (hca : Int32) (hwy : Int32) (hla : Nat) (hmi : Int32) (htf : Int32) (htk : Option Nat) (hHO : Nat → Int32) (hAT : Nat → Int32) (hTO : Nat → Int32) (hWE : Nat → Int32) (hHE : Nat → Int32) (hRA : Nat → Int32) (p1 : Int32)  (res : Int32) (hf : fX1_areSo ln hla hHO p1 = some res) : MetI l yX1_areSo (ws_ yX1_areSo cX1_areSo 4 (some .int)) { frames := 2, cells := 0, slots := 0, locals := 60 } [.ref (ha 0), .int p1] (XI D cs wi) D d [oH ha hfl hro hrp hca hwy hla hmi htf htk, ((ha 1), .inl (d 0, 6, .inl hHO)), ((ha 2), .inl (d 0, 6, .inl hAT)), ((ha 3), .inl (d 0, 6, .inl hTO)), ((ha 4), .inl (d 0, 6, .inl hWE)), ((ha 5), .inl (d 0, 6, .inl hHE)), ((ha 6), .inl (d 0, 6, .inl hRA))] (fun r (_ : Unit) => r = res) (fun _ => [oH ha hfl hro hrp hca hwy hla hmi htf htk, ((ha 1), .inl (d 0, 6, .inl hHO)), ((ha 2), .inl (d 0, 6, .inl hAT)), ((ha 3), .inl (d 0, 6, .inl hTO)), ((ha 4), .inl (d 0, 6, .inl hWE)), ((ha 5), .inl (d 0, 6, .inl hHE)), ((ha 6), .inl (d 0, 6, .inl hRA))]) := by
  have hX := XI.ok (D := D) (cs := cs) (wi := wi)
  refine MetI.of (by decide +kernel) (Nat.le_of_ble_eq_true rfl) ?_
  intro p e s m below meth c A cx hw ls hl
  have cx : Cx p s m _ meth c (XI D cs wi) D d A "DishLift$House" cX1_areSo 4 (some .int) "areSo" := cx
  have cx' := cx
  obtain ⟨hx, hb, hr, hlk, hml, hown, hts, hK, hA, hXs, hnm⟩ := cx'
  have hl : lv_has ls 4 [(0, .ref (ha 0)), (1, .int p1)] := hl
  unfold fX1_areSo at hf
  refine lv_iconst (v := 0) hx hb dX1_areSo_0 (by decide) ?_
  refine lv_istore_n (lv' := [(2, .int 0), (0, .ref (ha 0)), (1, .int p1)]) hx hb dX1_areSo_1 rfl hl (by decide) rfl (fun ls hl => ?_)
  refine lv_iconst (v := 0) hx hb dX1_areSo_2 (by decide) ?_
  refine lv_istore_n (lv' := [(3, .int 0), (2, .int 0), (0, .ref (ha 0)), (1, .int p1)]) hx hb dX1_areSo_3 rfl hl (by decide) rfl (fun ls hl => ?_)
  obtain ⟨r1, hlp4, hf⟩ := op_e hf
  refine x_join (A := A) (D := D) (J := 38) (nL := 4) (cells' := 0) (slots' := 0) (st := []) [oH ha hfl hro hrp hca hwy hla hmi htf htk, ((ha 1), .inl (d 0, 6, .inl hHO)), ((ha 2), .inl (d 0, 6, .inl hAT)), ((ha 3), .inl (d 0, 6, .inl hTO)), ((ha 4), .inl (d 0, 6, .inl hWE)), ((ha 5), .inl (d 0, 6, .inl hHE)), ((ha 6), .inl (d 0, 6, .inl hRA))] [(2, .int r1)] (fun H locs ls hw hl => ?_) (fun hK4 => ?_)
  · refine lv_iload_n hx hb dX1_areSo_38 rfl (lv_at hl 0 rfl) ?_
    have hf := sm_e hf
    subst hf
    exact x_retI cx hw rfl () rfl [0, 1, 2, 3, 4, 5, 6] rfl rfl (Nat.le_of_ble_eq_true rfl) (Nat.le_of_ble_eq_true rfl) dX1_areSo_39
  · refine x_lp hlp4 (fun x4 => [oH ha hfl hro hrp hca hwy hla hmi htf htk, ((ha 1), .inl (d 0, 6, .inl hHO)), ((ha 2), .inl (d 0, 6, .inl hAT)), ((ha 3), .inl (d 0, 6, .inl hTO)), ((ha 4), .inl (d 0, 6, .inl hWE)), ((ha 5), .inl (d 0, 6, .inl hHE)), ((ha 6), .inl (d 0, 6, .inl hRA))]) (fun x4 => [(0, .ref (ha 0)), (1, .int p1), (2, .int x4.1), (3, .int x4.2)]) hw (lv_sub hl [2, 3, 1, 0] rfl) (fun x4 y4 hf hin4 hout4 H locs ls hw hl => ?_)
    have hw : Wd D A s [oH ha hfl hro hrp hca hwy hla hmi htf htk, ((ha 1), .inl (d 0, 6, .inl hHO)), ((ha 2), .inl (d 0, 6, .inl hAT)), ((ha 3), .inl (d 0, 6, .inl hTO)), ((ha 4), .inl (d 0, 6, .inl hWE)), ((ha 5), .inl (d 0, 6, .inl hHE)), ((ha 6), .inl (d 0, 6, .inl hRA))] H locs := hw
    have hl : lv_has ls 4 [(0, .ref (ha 0)), (1, .int p1), (2, .int x4.1), (3, .int x4.2)] := hl
    refine lv_iload_n hx hb dX1_areSo_4 rfl (lv_at hl 3 rfl) ?_
    refine lv_aload_n hx hb dX1_areSo_5 rfl (lv_at hl 0 rfl) ?_
    obtain ⟨q2, hcq2, hf⟩ := op_e hf
    refine x_VI (wr := []) (rest := [.int x4.2]) [] hX cx hw hl.1 (mX1_many l  D d cs wi ln lf dk dn him ha hfl hro hrp hca hwy hla hmi htf htk hHO hAT hTO hWE hHE hRA q2 hcq2) (lw_V q786 q663 q664 q83 q665) hd_X1_many ⟨(Nat.le_of_ble_eq_true rfl), (Nat.le_of_ble_eq_true rfl)⟩ (va_recv hK hw.1 (ci := 2) (q0 := 0) rfl rfl) rfl rfl (Nat.le_of_ble_eq_true rfl) dX1_areSo_6 [0, 1, 2, 3, 4, 5, 6] [] rfl rfl rfl rfl (by decide) ⟨(Nat.le_of_ble_eq_true rfl), (Nat.le_of_ble_eq_true rfl)⟩ (fun r u H locs hp hw => ?_)
    have hw : Wd D A s [oH ha hfl hro hrp hca hwy hla hmi htf htk, ((ha 1), .inl (d 0, 6, .inl hHO)), ((ha 2), .inl (d 0, 6, .inl hAT)), ((ha 3), .inl (d 0, 6, .inl hTO)), ((ha 4), .inl (d 0, 6, .inl hWE)), ((ha 5), .inl (d 0, 6, .inl hHE)), ((ha 6), .inl (d 0, 6, .inl hRA))] H locs := hw
    subst r
    refine lv_icmp_ge (tgt := 38) hx hb dX1_areSo_9 (by decide) (fun c9 => ?_) (fun c9 => ?_)
    · have hf := if_t hf c9
      have hf := sm_e hf
      subst hf
      have hz := hout4 _ rfl
      subst hz
      exact hK4 _ _ _ hw (lv_sub hl [2] rfl)
    · have hf := if_f hf c9
      refine lv_iload_n hx hb dX1_areSo_12 rfl (lv_at hl 2 rfl) ?_
      refine lv_aload_n hx hb dX1_areSo_13 rfl (lv_at hl 0 rfl) ?_
      refine va_get (ci := 2) (C := RX1) (T := TX1) (N := 15) hx hb hts in_X1 hown hK hw.1 0 rfl rfl 6 (by decide) (hts _ q175) (fun _ h9 => h9) rfl dX1_areSo_14 ?_
      refine lv_iload_n hx hb dX1_areSo_17 rfl (lv_at hl 3 rfl) ?_
      obtain ⟨v3, hv, hf⟩ := op_e hf
      refine x_iald (q0 := 1) cx hw rfl hv dX1_areSo_18 ?_
      refine lv_iload_n hx hb dX1_areSo_19 rfl (lv_at hl 1 rfl) ?_
      refine lv_icmp_ne (tgt := 29) hx hb dX1_areSo_20 (by decide) (fun c20 => ?_) (fun c20 => ?_)
      · have hf := if_f hf c20
        refine lv_iconst (v := 0) hx hb dX1_areSo_29 (by decide) ?_
        refine lv_ior hx hb dX1_areSo_30 ?_
        refine lv_istore_n (lv' := [(2, .int (x4.1 ||| 0)), (0, .ref (ha 0)), (1, .int p1), (3, .int x4.2)]) hx hb dX1_areSo_31 rfl hl (by decide) rfl (fun ls hl => ?_)
        refine lv_iinc (v := (x4.2 + 1)) (lv' := [(3, .int (x4.2 + 1)), (2, .int (x4.1 ||| 0)), (0, .ref (ha 0)), (1, .int p1)]) hx hb dX1_areSo_32 hl (k := 3) rfl (by first | rfl | decide) (by decide) rfl (fun ls hl => ?_)
        refine lv_goto (tgt := 4) hx hb dX1_areSo_35 (by decide) ?_
        have hf := sm_e hf
        subst hf
        exact hin4 _ rfl _ _ _ hw (lv_sub hl [2, 3, 1, 0] rfl)
      · have hf := if_t hf c20
        refine lv_iconst (v := 1) hx hb dX1_areSo_23 (by decide) ?_
        refine lv_iload_n hx hb dX1_areSo_24 rfl (lv_at hl 3 rfl) ?_
        refine lv_ishl hx hb dX1_areSo_25 ?_
        refine lv_goto (tgt := 30) hx hb dX1_areSo_26 (by decide) ?_
        refine lv_ior hx hb dX1_areSo_30 ?_
        refine lv_istore_n (lv' := [(2, .int (x4.1 ||| ((1 : Int32) <<< (x4.2 &&& 31)))), (0, .ref (ha 0)), (1, .int p1), (3, .int x4.2)]) hx hb dX1_areSo_31 rfl hl (by decide) rfl (fun ls hl => ?_)
        refine lv_iinc (v := (x4.2 + 1)) (lv' := [(3, .int (x4.2 + 1)), (2, .int (x4.1 ||| ((1 : Int32) <<< (x4.2 &&& 31)))), (0, .ref (ha 0)), (1, .int p1)]) hx hb dX1_areSo_32 hl (k := 3) rfl (by first | rfl | decide) (by decide) rfl (fun ls hl => ?_)
        refine lv_goto (tgt := 4) hx hb dX1_areSo_35 (by decide) ?_
        have hf := sm_e hf
        subst hf
        exact hin4 _ rfl _ _ _ hw (lv_sub hl [2, 3, 1, 0] rfl)
theorem hd_X1_load : yX1_load.cls = "DishLift$House" ∧ yX1_load.cls ≠ "java/lang/invoke/MethodHandle" ∧ yX1_load.cls ≠ "java/lang/invoke/VarHandle" ∧ (parseMethodDescriptor yX1_load.desc).map (fun d => d.parameters.length) = some 0 := by decide +kernel
set_option maxHeartbeats 4000000 in
theorem mX1_load (l : Launch)  (D : va_G) (d : Nat → ClassId) (cs : Nat → Nat) (wi : va_W) (ln : Nat → Option Int32) (lf : Nat → Nat → Option Nat) (dk : Nat → Option Nat) (dn : Nat → Int32) (him : ImF d wi ln lf dk dn) (ha : Nat → Nat) (hfl : Int32) (hro : Int32) (hrp : Int32) (hca : Int32) (hwy : Int32) (hla : Nat) (hmi : Int32) (htf : Int32) (htk : Option Nat) (hHO : Nat → Int32) (hAT : Nat → Int32) (hTO : Nat → Int32) (hWE : Nat → Int32) (hHE : Nat → Int32) (hRA : Nat → Int32)  (res : Int32) (hf : fX1_load ln hla hHO hWE = some res) : MetI l yX1_load (ws_ yX1_load cX1_load 3 (some .int)) { frames := 2, cells := 0, slots := 0, locals := 60 } [.ref (ha 0)] (XI D cs wi) D d [oH ha hfl hro hrp hca hwy hla hmi htf htk, ((ha 1), .inl (d 0, 6, .inl hHO)), ((ha 2), .inl (d 0, 6, .inl hAT)), ((ha 3), .inl (d 0, 6, .inl hTO)), ((ha 4), .inl (d 0, 6, .inl hWE)), ((ha 5), .inl (d 0, 6, .inl hHE)), ((ha 6), .inl (d 0, 6, .inl hRA))] (fun r (_ : Unit) => r = res) (fun _ => [oH ha hfl hro hrp hca hwy hla hmi htf htk, ((ha 1), .inl (d 0, 6, .inl hHO)), ((ha 2), .inl (d 0, 6, .inl hAT)), ((ha 3), .inl (d 0, 6, .inl hTO)), ((ha 4), .inl (d 0, 6, .inl hWE)), ((ha 5), .inl (d 0, 6, .inl hHE)), ((ha 6), .inl (d 0, 6, .inl hRA))]) := by
  have hX := XI.ok (D := D) (cs := cs) (wi := wi)
  refine MetI.of (by decide +kernel) (Nat.le_of_ble_eq_true rfl) ?_
  intro p e s m below meth c A cx hw ls hl
  have cx : Cx p s m _ meth c (XI D cs wi) D d A "DishLift$House" cX1_load 3 (some .int) "load" := cx
  have cx' := cx
  obtain ⟨hx, hb, hr, hlk, hml, hown, hts, hK, hA, hXs, hnm⟩ := cx'
  have hl : lv_has ls 3 [(0, .ref (ha 0))] := hl
  unfold fX1_load at hf
  refine lv_iconst (v := 0) hx hb dX1_load_0 (by decide) ?_
  refine lv_istore_n (lv' := [(1, .int 0), (0, .ref (ha 0))]) hx hb dX1_load_1 rfl hl (by decide) rfl (fun ls hl => ?_)
  refine lv_iconst (v := 0) hx hb dX1_load_2 (by decide) ?_
  refine lv_istore_n (lv' := [(2, .int 0), (1, .int 0), (0, .ref (ha 0))]) hx hb dX1_load_3 rfl hl (by decide) rfl (fun ls hl => ?_)
  obtain ⟨r1, hlp4, hf⟩ := op_e hf
  refine x_join (A := A) (D := D) (J := 41) (nL := 3) (cells' := 0) (slots' := 0) (st := []) [oH ha hfl hro hrp hca hwy hla hmi htf htk, ((ha 1), .inl (d 0, 6, .inl hHO)), ((ha 2), .inl (d 0, 6, .inl hAT)), ((ha 3), .inl (d 0, 6, .inl hTO)), ((ha 4), .inl (d 0, 6, .inl hWE)), ((ha 5), .inl (d 0, 6, .inl hHE)), ((ha 6), .inl (d 0, 6, .inl hRA))] [(1, .int r1)] (fun H locs ls hw hl => ?_) (fun hK4 => ?_)
  · refine lv_iload_n hx hb dX1_load_41 rfl (lv_at hl 0 rfl) ?_
    have hf := sm_e hf
    subst hf
    exact x_retI cx hw rfl () rfl [0, 1, 2, 3, 4, 5, 6] rfl rfl (Nat.le_of_ble_eq_true rfl) (Nat.le_of_ble_eq_true rfl) dX1_load_42
  · refine x_lp hlp4 (fun x4 => [oH ha hfl hro hrp hca hwy hla hmi htf htk, ((ha 1), .inl (d 0, 6, .inl hHO)), ((ha 2), .inl (d 0, 6, .inl hAT)), ((ha 3), .inl (d 0, 6, .inl hTO)), ((ha 4), .inl (d 0, 6, .inl hWE)), ((ha 5), .inl (d 0, 6, .inl hHE)), ((ha 6), .inl (d 0, 6, .inl hRA))]) (fun x4 => [(0, .ref (ha 0)), (1, .int x4.1), (2, .int x4.2)]) hw (lv_sub hl [2, 1, 0] rfl) (fun x4 y4 hf hin4 hout4 H locs ls hw hl => ?_)
    have hw : Wd D A s [oH ha hfl hro hrp hca hwy hla hmi htf htk, ((ha 1), .inl (d 0, 6, .inl hHO)), ((ha 2), .inl (d 0, 6, .inl hAT)), ((ha 3), .inl (d 0, 6, .inl hTO)), ((ha 4), .inl (d 0, 6, .inl hWE)), ((ha 5), .inl (d 0, 6, .inl hHE)), ((ha 6), .inl (d 0, 6, .inl hRA))] H locs := hw
    have hl : lv_has ls 3 [(0, .ref (ha 0)), (1, .int x4.1), (2, .int x4.2)] := hl
    refine lv_iload_n hx hb dX1_load_4 rfl (lv_at hl 2 rfl) ?_
    refine lv_aload_n hx hb dX1_load_5 rfl (lv_at hl 0 rfl) ?_
    obtain ⟨q2, hcq2, hf⟩ := op_e hf
    refine x_VI (wr := []) (rest := [.int x4.2]) [] hX cx hw hl.1 (mX1_many l  D d cs wi ln lf dk dn him ha hfl hro hrp hca hwy hla hmi htf htk hHO hAT hTO hWE hHE hRA q2 hcq2) (lw_V q786 q663 q664 q83 q665) hd_X1_many ⟨(Nat.le_of_ble_eq_true rfl), (Nat.le_of_ble_eq_true rfl)⟩ (va_recv hK hw.1 (ci := 2) (q0 := 0) rfl rfl) rfl rfl (Nat.le_of_ble_eq_true rfl) dX1_load_6 [0, 1, 2, 3, 4, 5, 6] [] rfl rfl rfl rfl (by decide) ⟨(Nat.le_of_ble_eq_true rfl), (Nat.le_of_ble_eq_true rfl)⟩ (fun r u H locs hp hw => ?_)
    have hw : Wd D A s [oH ha hfl hro hrp hca hwy hla hmi htf htk, ((ha 1), .inl (d 0, 6, .inl hHO)), ((ha 2), .inl (d 0, 6, .inl hAT)), ((ha 3), .inl (d 0, 6, .inl hTO)), ((ha 4), .inl (d 0, 6, .inl hWE)), ((ha 5), .inl (d 0, 6, .inl hHE)), ((ha 6), .inl (d 0, 6, .inl hRA))] H locs := hw
    subst r
    refine lv_icmp_ge (tgt := 41) hx hb dX1_load_9 (by decide) (fun c9 => ?_) (fun c9 => ?_)
    · have hf := if_t hf c9
      have hf := sm_e hf
      subst hf
      have hz := hout4 _ rfl
      subst hz
      exact hK4 _ _ _ hw (lv_sub hl [1] rfl)
    · have hf := if_f hf c9
      refine lv_iload_n hx hb dX1_load_12 rfl (lv_at hl 1 rfl) ?_
      refine lv_aload_n hx hb dX1_load_13 rfl (lv_at hl 0 rfl) ?_
      refine va_get (ci := 2) (C := RX1) (T := TX1) (N := 15) hx hb hts in_X1 hown hK hw.1 0 rfl rfl 6 (by decide) (hts _ q175) (fun _ h9 => h9) rfl dX1_load_14 ?_
      refine lv_iload_n hx hb dX1_load_17 rfl (lv_at hl 2 rfl) ?_
      obtain ⟨v3, hv, hf⟩ := op_e hf
      refine x_iald (q0 := 1) cx hw rfl hv dX1_load_18 ?_
      refine lv_iconst (v := 1) hx hb dX1_load_19 (by decide) ?_
      refine lv_icmp_ne (tgt := 32) hx hb dX1_load_20 (by decide) (fun c20 => ?_) (fun c20 => ?_)
      · have hf := if_f hf c20
        refine lv_iconst (v := 0) hx hb dX1_load_32 (by decide) ?_
        refine lv_iadd hx hb dX1_load_33 ?_
        refine lv_istore_n (lv' := [(1, .int (x4.1 + 0)), (0, .ref (ha 0)), (2, .int x4.2)]) hx hb dX1_load_34 rfl hl (by decide) rfl (fun ls hl => ?_)
        refine lv_iinc (v := (x4.2 + 1)) (lv' := [(2, .int (x4.2 + 1)), (1, .int (x4.1 + 0)), (0, .ref (ha 0))]) hx hb dX1_load_35 hl (k := 2) rfl (by first | rfl | decide) (by decide) rfl (fun ls hl => ?_)
        refine lv_goto (tgt := 4) hx hb dX1_load_38 (by decide) ?_
        have hf := sm_e hf
        subst hf
        exact hin4 _ rfl _ _ _ hw (lv_sub hl [2, 1, 0] rfl)
      · have hf := if_t hf c20
        refine lv_aload_n hx hb dX1_load_23 rfl (lv_at hl 0 rfl) ?_
        refine va_get (ci := 2) (C := RX1) (T := TX1) (N := 15) hx hb hts in_X1 hown hK hw.1 0 rfl rfl 9 (by decide) (hts _ q183) (fun _ h9 => h9) rfl dX1_load_24 ?_
        refine lv_iload_n hx hb dX1_load_27 rfl (lv_at hl 2 rfl) ?_
        obtain ⟨v4, hv, hf⟩ := op_e hf
        refine x_iald (q0 := 4) cx hw rfl hv dX1_load_28 ?_
        refine lv_goto (tgt := 33) hx hb dX1_load_29 (by decide) ?_
        refine lv_iadd hx hb dX1_load_33 ?_
        refine lv_istore_n (lv' := [(1, .int (x4.1 + v4)), (0, .ref (ha 0)), (2, .int x4.2)]) hx hb dX1_load_34 rfl hl (by decide) rfl (fun ls hl => ?_)
        refine lv_iinc (v := (x4.2 + 1)) (lv' := [(2, .int (x4.2 + 1)), (1, .int (x4.1 + v4)), (0, .ref (ha 0))]) hx hb dX1_load_35 hl (k := 2) rfl (by first | rfl | decide) (by decide) rfl (fun ls hl => ?_)
        refine lv_goto (tgt := 4) hx hb dX1_load_38 (by decide) ?_
        have hf := sm_e hf
        subst hf
        exact hin4 _ rfl _ _ _ hw (lv_sub hl [2, 1, 0] rfl)
theorem hd_X1_stops : yX1_stops.cls = "DishLift$House" ∧ yX1_stops.cls ≠ "java/lang/invoke/MethodHandle" ∧ yX1_stops.cls ≠ "java/lang/invoke/VarHandle" ∧ (parseMethodDescriptor yX1_stops.desc).map (fun d => d.parameters.length) = some 0 := by decide +kernel
set_option maxHeartbeats 4000000 in
theorem mX1_stops (l : Launch)  (D : va_G) (d : Nat → ClassId) (cs : Nat → Nat) (wi : va_W) (ln : Nat → Option Int32) (lf : Nat → Nat → Option Nat) (dk : Nat → Option Nat) (dn : Nat → Int32) (him : ImF d wi ln lf dk dn) (ha : Nat → Nat) (hfl : Int32) (hro : Int32) (hrp : Int32) (hca : Int32) (hwy : Int32) (hla : Nat) (hmi : Int32) (htf : Int32) (htk : Option Nat) (hHO : Nat → Int32) (hAT : Nat → Int32) (hTO : Nat → Int32) (hWE : Nat → Int32) (hHE : Nat → Int32) (hRA : Nat → Int32)  (res : (Nat → Int32)) (hf : fX1_stops ln hro hrp hca hla hHO hAT hTO hWE hRA = some res) : MetV l yX1_stops (ws_ yX1_stops cX1_stops 3 none) { frames := 3, cells := 0, slots := 0, locals := 83 } [.ref (ha 0)] (XI D cs wi) D d [oH ha hfl hro hrp hca hwy hla hmi htf htk, ((ha 1), .inl (d 0, 6, .inl hHO)), ((ha 2), .inl (d 0, 6, .inl hAT)), ((ha 3), .inl (d 0, 6, .inl hTO)), ((ha 4), .inl (d 0, 6, .inl hWE)), ((ha 5), .inl (d 0, 6, .inl hHE)), ((ha 6), .inl (d 0, 6, .inl hRA))] (fun (_ : Unit) => True) (fun _ => [oH ha hfl hro hrp hca hwy hla hmi htf htk, ((ha 1), .inl (d 0, 6, .inl res)), ((ha 2), .inl (d 0, 6, .inl hAT)), ((ha 3), .inl (d 0, 6, .inl hTO)), ((ha 4), .inl (d 0, 6, .inl hWE)), ((ha 5), .inl (d 0, 6, .inl hHE)), ((ha 6), .inl (d 0, 6, .inl hRA))]) := by
  have hX := XI.ok (D := D) (cs := cs) (wi := wi)
  refine MetV.of (by decide +kernel) (Nat.le_of_ble_eq_true rfl) ?_
  intro p e s m below meth c A cx hw ls hl
  have cx : Cx p s m _ meth c (XI D cs wi) D d A "DishLift$House" cX1_stops 3 none "stops" := cx
  have cx' := cx
  obtain ⟨hx, hb, hr, hlk, hml, hown, hts, hK, hA, hXs, hnm⟩ := cx'
  have hl : lv_has ls 3 [(0, .ref (ha 0))] := hl
  unfold fX1_stops at hf
  refine lv_iconst (v := 0) hx hb dX1_stops_0 (by decide) ?_
  refine lv_istore_n (lv' := [(1, .int 0), (0, .ref (ha 0))]) hx hb dX1_stops_1 rfl hl (by decide) rfl (fun ls hl => ?_)
  obtain ⟨r1, hlp2, hf⟩ := op_e hf
  refine x_join (A := A) (D := D) (J := 69) (nL := 3) (cells' := 0) (slots' := 0) (st := []) [oH ha hfl hro hrp hca hwy hla hmi htf htk, ((ha 1), .inl (d 0, 6, .inl r1)), ((ha 2), .inl (d 0, 6, .inl hAT)), ((ha 3), .inl (d 0, 6, .inl hTO)), ((ha 4), .inl (d 0, 6, .inl hWE)), ((ha 5), .inl (d 0, 6, .inl hHE)), ((ha 6), .inl (d 0, 6, .inl hRA))] [(0, .ref (ha 0))] (fun H locs ls hw hl => ?_) (fun hK2 => ?_)
  · refine lv_iconst (v := 0) hx hb dX1_stops_69 (by decide) ?_
    refine lv_istore_n (lv' := [(1, .int 0), (0, .ref (ha 0))]) hx hb dX1_stops_70 rfl hl (by decide) rfl (fun ls hl => ?_)
    obtain ⟨r2, hlp71, hf⟩ := op_e hf
    refine x_join (A := A) (D := D) (J := 154) (nL := 3) (cells' := 0) (slots' := 0) (st := []) [oH ha hfl hro hrp hca hwy hla hmi htf htk, ((ha 1), .inl (d 0, 6, .inl r2)), ((ha 2), .inl (d 0, 6, .inl hAT)), ((ha 3), .inl (d 0, 6, .inl hTO)), ((ha 4), .inl (d 0, 6, .inl hWE)), ((ha 5), .inl (d 0, 6, .inl hHE)), ((ha 6), .inl (d 0, 6, .inl hRA))] [] (fun H locs ls hw hl => ?_) (fun hK71 => ?_)
    · have hf := sm_e hf
      subst hf
      exact x_retV cx hw () trivial [0, 1, 2, 3, 4, 5, 6] rfl rfl (Nat.le_of_ble_eq_true rfl) (Nat.le_of_ble_eq_true rfl) dX1_stops_154
    · refine x_lp hlp71 (fun x71 => [oH ha hfl hro hrp hca hwy hla hmi htf htk, ((ha 1), .inl (d 0, 6, .inl x71.2)), ((ha 2), .inl (d 0, 6, .inl hAT)), ((ha 3), .inl (d 0, 6, .inl hTO)), ((ha 4), .inl (d 0, 6, .inl hWE)), ((ha 5), .inl (d 0, 6, .inl hHE)), ((ha 6), .inl (d 0, 6, .inl hRA))]) (fun x71 => [(0, .ref (ha 0)), (1, .int x71.1)]) hw (lv_sub hl [1, 0] rfl) (fun x71 y71 hf hin71 hout71 H locs ls hw hl => ?_)
      have hw : Wd D A s [oH ha hfl hro hrp hca hwy hla hmi htf htk, ((ha 1), .inl (d 0, 6, .inl x71.2)), ((ha 2), .inl (d 0, 6, .inl hAT)), ((ha 3), .inl (d 0, 6, .inl hTO)), ((ha 4), .inl (d 0, 6, .inl hWE)), ((ha 5), .inl (d 0, 6, .inl hHE)), ((ha 6), .inl (d 0, 6, .inl hRA))] H locs := hw
      have hl : lv_has ls 3 [(0, .ref (ha 0)), (1, .int x71.1)] := hl
      refine lv_iload_n hx hb dX1_stops_71 rfl (lv_at hl 1 rfl) ?_
      refine lv_aload_n hx hb dX1_stops_72 rfl (lv_at hl 0 rfl) ?_
      obtain ⟨q3, hcq3, hf⟩ := op_e hf
      refine x_VI (wr := []) (rest := [.int x71.1]) [] hX cx hw hl.1 (mX1_many l  D d cs wi ln lf dk dn him ha hfl hro hrp hca hwy hla hmi htf htk x71.2 hAT hTO hWE hHE hRA q3 hcq3) (lw_V q786 q663 q664 q83 q665) hd_X1_many ⟨(Nat.le_of_ble_eq_true rfl), (Nat.le_of_ble_eq_true rfl)⟩ (va_recv hK hw.1 (ci := 2) (q0 := 0) rfl rfl) rfl rfl (Nat.le_of_ble_eq_true rfl) dX1_stops_73 [0, 1, 2, 3, 4, 5, 6] [] rfl rfl rfl rfl (by decide) ⟨(Nat.le_of_ble_eq_true rfl), (Nat.le_of_ble_eq_true rfl)⟩ (fun r u H locs hp hw => ?_)
      have hw : Wd D A s [oH ha hfl hro hrp hca hwy hla hmi htf htk, ((ha 1), .inl (d 0, 6, .inl x71.2)), ((ha 2), .inl (d 0, 6, .inl hAT)), ((ha 3), .inl (d 0, 6, .inl hTO)), ((ha 4), .inl (d 0, 6, .inl hWE)), ((ha 5), .inl (d 0, 6, .inl hHE)), ((ha 6), .inl (d 0, 6, .inl hRA))] H locs := hw
      subst r
      refine lv_icmp_ge (tgt := 154) hx hb dX1_stops_76 (by decide) (fun c76 => ?_) (fun c76 => ?_)
      · have hf := if_t hf c76
        have hf := sm_e hf
        subst hf
        have hz := hout71 _ rfl
        subst hz
        exact hK71 _ _ _ hw (lv_sub hl [] rfl)
      · have hf := if_f hf c76
        refine lv_aload_n hx hb dX1_stops_79 rfl (lv_at hl 0 rfl) ?_
        refine va_get (ci := 2) (C := RX1) (T := TX1) (N := 15) hx hb hts in_X1 hown hK hw.1 0 rfl rfl 11 (by decide) (hts _ q191) (fun _ h9 => h9) rfl dX1_stops_80 ?_
        refine lv_iload_n hx hb dX1_stops_83 rfl (lv_at hl 1 rfl) ?_
        obtain ⟨v4, hv, hf⟩ := op_e hf
        refine x_iald (q0 := 6) cx hw rfl hv dX1_stops_84 ?_
        refine lv_istore_n (lv' := [(2, .int v4), (0, .ref (ha 0)), (1, .int x71.1)]) hx hb dX1_stops_85 rfl hl (by decide) rfl (fun ls hl => ?_)
        refine lv_aload_n hx hb dX1_stops_86 rfl (lv_at hl 1 rfl) ?_
        refine va_get (ci := 2) (C := RX1) (T := TX1) (N := 15) hx hb hts in_X1 hown hK hw.1 0 rfl rfl 6 (by decide) (hts _ q175) (fun _ h9 => h9) rfl dX1_stops_87 ?_
        refine lv_iload_n hx hb dX1_stops_90 rfl (lv_at hl 0 rfl) ?_
        obtain ⟨v5, hv, hf⟩ := op_e hf
        refine x_iald (q0 := 1) cx hw rfl hv dX1_stops_91 ?_
        refine lv_if_ne (tgt := 148) hx hb dX1_stops_92 (by decide) (fun c92 => ?_) (fun c92 => ?_)
        · have hf := if_f hf c92
          refine lv_iinc (v := (x71.1 + 1)) (lv' := [(1, .int (x71.1 + 1)), (2, .int v4), (0, .ref (ha 0))]) hx hb dX1_stops_148 hl (k := 2) rfl (by first | rfl | decide) (by decide) rfl (fun ls hl => ?_)
          refine lv_goto (tgt := 71) hx hb dX1_stops_151 (by decide) ?_
          have hf := sm_e hf
          subst hf
          exact hin71 _ rfl _ _ _ hw (lv_sub hl [2, 0] rfl)
        · have hf := if_t hf c92
          refine lv_aload_n hx hb dX1_stops_95 rfl (lv_at hl 1 rfl) ?_
          refine va_get (ci := 2) (C := RX1) (T := TX1) (N := 15) hx hb hts in_X1 hown hK hw.1 0 rfl rfl 7 (by decide) (hts _ q177) (fun _ h9 => h9) rfl dX1_stops_96 ?_
          refine lv_iload_n hx hb dX1_stops_99 rfl (lv_at hl 0 rfl) ?_
          obtain ⟨v6, hv, hf⟩ := op_e hf
          refine x_iald (q0 := 2) cx hw rfl hv dX1_stops_100 ?_
          refine lv_aload_n hx hb dX1_stops_101 rfl (lv_at hl 1 rfl) ?_
          refine va_get (ci := 2) (C := RX1) (T := TX1) (N := 15) hx hb hts in_X1 hown hK hw.1 0 rfl rfl 3 (by decide) (hts _ q168) (fun _ h9 => h9) rfl dX1_stops_102 ?_
          refine lv_icmp_ne (tgt := 148) hx hb dX1_stops_105 (by decide) (fun c105 => ?_) (fun c105 => ?_)
          · have hf := if_f hf c105
            refine lv_iinc (v := (x71.1 + 1)) (lv' := [(1, .int (x71.1 + 1)), (2, .int v4), (0, .ref (ha 0))]) hx hb dX1_stops_148 hl (k := 2) rfl (by first | rfl | decide) (by decide) rfl (fun ls hl => ?_)
            refine lv_goto (tgt := 71) hx hb dX1_stops_151 (by decide) ?_
            have hf := sm_e hf
            subst hf
            exact hin71 _ rfl _ _ _ hw (lv_sub hl [2, 0] rfl)
          · have hf := if_t hf c105
            refine lv_aload_n hx hb dX1_stops_108 rfl (lv_at hl 1 rfl) ?_
            refine lv_iconst (v := 1) hx hb dX1_stops_109 (by decide) ?_
            obtain ⟨q7, hcq7, hf⟩ := op_e hf
            refine x_VI (wr := []) (rest := []) [.int 1] hX cx hw hl.1 (mX1_areSo l  D d cs wi ln lf dk dn him ha hfl hro hrp hca hwy hla hmi htf htk x71.2 hAT hTO hWE hHE hRA 1 q7 hcq7) (lw_V q787 q788 q789 q83 q790) hd_X1_areSo ⟨(Nat.le_of_ble_eq_true rfl), (Nat.le_of_ble_eq_true rfl)⟩ (va_recv hK hw.1 (ci := 2) (q0 := 0) rfl rfl) rfl rfl (Nat.le_of_ble_eq_true rfl) dX1_stops_110 [0, 1, 2, 3, 4, 5, 6] [] rfl rfl rfl rfl (by decide) ⟨(Nat.le_of_ble_eq_true rfl), (Nat.le_of_ble_eq_true rfl)⟩ (fun r u H locs hp hw => ?_)
            have hw : Wd D A s [oH ha hfl hro hrp hca hwy hla hmi htf htk, ((ha 1), .inl (d 0, 6, .inl x71.2)), ((ha 2), .inl (d 0, 6, .inl hAT)), ((ha 3), .inl (d 0, 6, .inl hTO)), ((ha 4), .inl (d 0, 6, .inl hWE)), ((ha 5), .inl (d 0, 6, .inl hHE)), ((ha 6), .inl (d 0, 6, .inl hRA))] H locs := hw
            subst r
            obtain ⟨q8, hcq8, hf⟩ := op_e hf
            refine x_SI (wr := [oH ha hfl hro hrp hca hwy hla hmi htf htk, ((ha 1), .inl (d 0, 6, .inl x71.2)), ((ha 2), .inl (d 0, 6, .inl hAT)), ((ha 3), .inl (d 0, 6, .inl hTO)), ((ha 4), .inl (d 0, 6, .inl hWE)), ((ha 5), .inl (d 0, 6, .inl hHE)), ((ha 6), .inl (d 0, 6, .inl hRA))]) (rest := []) [.int q7] hX cx hw hl.1 (mJ15_bitCount l (XI D cs wi) hX D d  q7 q8 hcq8) (lw_S q791 q792 q112 q793) hd_J15_bitCount ⟨(Nat.le_of_ble_eq_true rfl), (Nat.le_of_ble_eq_true rfl)⟩ rfl rfl (Nat.le_of_ble_eq_true rfl) dX1_stops_113 [] [0, 1, 2, 3, 4, 5, 6] rfl rfl rfl rfl (by decide) ⟨(Nat.le_of_ble_eq_true rfl), (Nat.le_of_ble_eq_true rfl)⟩ (fun r u H locs hp hw => ?_)
            have hw : Wd D A s [oH ha hfl hro hrp hca hwy hla hmi htf htk, ((ha 1), .inl (d 0, 6, .inl x71.2)), ((ha 2), .inl (d 0, 6, .inl hAT)), ((ha 3), .inl (d 0, 6, .inl hTO)), ((ha 4), .inl (d 0, 6, .inl hWE)), ((ha 5), .inl (d 0, 6, .inl hHE)), ((ha 6), .inl (d 0, 6, .inl hRA))] H locs := hw
            subst r
            refine lv_aload_n hx hb dX1_stops_116 rfl (lv_at hl 1 rfl) ?_
            refine va_get (ci := 2) (C := RX1) (T := TX1) (N := 15) hx hb hts in_X1 hown hK hw.1 0 rfl rfl 1 (by decide) (hts _ q162) (fun _ h9 => h9) rfl dX1_stops_117 ?_
            refine lv_icmp_ge (tgt := 148) hx hb dX1_stops_120 (by decide) (fun c120 => ?_) (fun c120 => ?_)
            · have hf := if_t hf c120
              refine lv_iinc (v := (x71.1 + 1)) (lv' := [(1, .int (x71.1 + 1)), (2, .int v4), (0, .ref (ha 0))]) hx hb dX1_stops_148 hl (k := 2) rfl (by first | rfl | decide) (by decide) rfl (fun ls hl => ?_)
              refine lv_goto (tgt := 71) hx hb dX1_stops_151 (by decide) ?_
              have hf := sm_e hf
              subst hf
              exact hin71 _ rfl _ _ _ hw (lv_sub hl [2, 0] rfl)
            · have hf := if_f hf c120
              refine lv_aload_n hx hb dX1_stops_123 rfl (lv_at hl 1 rfl) ?_
              obtain ⟨q9, hcq9, hf⟩ := op_e hf
              refine x_VI (wr := []) (rest := []) [] hX cx hw hl.1 (mX1_load l  D d cs wi ln lf dk dn him ha hfl hro hrp hca hwy hla hmi htf htk x71.2 hAT hTO hWE hHE hRA q9 hcq9) (lw_V q797 q798 q799 q83 q800) hd_X1_load ⟨(Nat.le_of_ble_eq_true rfl), (Nat.le_of_ble_eq_true rfl)⟩ (va_recv hK hw.1 (ci := 2) (q0 := 0) rfl rfl) rfl rfl (Nat.le_of_ble_eq_true rfl) dX1_stops_124 [0, 1, 2, 3, 4, 5, 6] [] rfl rfl rfl rfl (by decide) ⟨(Nat.le_of_ble_eq_true rfl), (Nat.le_of_ble_eq_true rfl)⟩ (fun r u H locs hp hw => ?_)
              have hw : Wd D A s [oH ha hfl hro hrp hca hwy hla hmi htf htk, ((ha 1), .inl (d 0, 6, .inl x71.2)), ((ha 2), .inl (d 0, 6, .inl hAT)), ((ha 3), .inl (d 0, 6, .inl hTO)), ((ha 4), .inl (d 0, 6, .inl hWE)), ((ha 5), .inl (d 0, 6, .inl hHE)), ((ha 6), .inl (d 0, 6, .inl hRA))] H locs := hw
              subst r
              refine lv_aload_n hx hb dX1_stops_127 rfl (lv_at hl 1 rfl) ?_
              refine va_get (ci := 2) (C := RX1) (T := TX1) (N := 15) hx hb hts in_X1 hown hK hw.1 0 rfl rfl 9 (by decide) (hts _ q183) (fun _ h9 => h9) rfl dX1_stops_128 ?_
              refine lv_iload_n hx hb dX1_stops_131 rfl (lv_at hl 0 rfl) ?_
              obtain ⟨v10, hv, hf⟩ := op_e hf
              refine x_iald (q0 := 4) cx hw rfl hv dX1_stops_132 ?_
              refine lv_iadd hx hb dX1_stops_133 ?_
              refine lv_aload_n hx hb dX1_stops_134 rfl (lv_at hl 1 rfl) ?_
              refine va_get (ci := 2) (C := RX1) (T := TX1) (N := 15) hx hb hts in_X1 hown hK hw.1 0 rfl rfl 2 (by decide) (hts _ q165) (fun _ h9 => h9) rfl dX1_stops_135 ?_
              refine lv_icmp_gt (tgt := 148) hx hb dX1_stops_138 (by decide) (fun c138 => ?_) (fun c138 => ?_)
              · have hf := if_t hf c138
                refine lv_iinc (v := (x71.1 + 1)) (lv' := [(1, .int (x71.1 + 1)), (2, .int v4), (0, .ref (ha 0))]) hx hb dX1_stops_148 hl (k := 2) rfl (by first | rfl | decide) (by decide) rfl (fun ls hl => ?_)
                refine lv_goto (tgt := 71) hx hb dX1_stops_151 (by decide) ?_
                have hf := sm_e hf
                subst hf
                exact hin71 _ rfl _ _ _ hw (lv_sub hl [2, 0] rfl)
              · have hf := if_f hf c138
                refine lv_aload_n hx hb dX1_stops_141 rfl (lv_at hl 1 rfl) ?_
                refine va_get (ci := 2) (C := RX1) (T := TX1) (N := 15) hx hb hts in_X1 hown hK hw.1 0 rfl rfl 6 (by decide) (hts _ q175) (fun _ h9 => h9) rfl dX1_stops_142 ?_
                refine lv_iload_n hx hb dX1_stops_145 rfl (lv_at hl 0 rfl) ?_
                refine lv_iconst (v := 1) hx hb dX1_stops_146 (by decide) ?_
                obtain ⟨w11, hv, hf⟩ := op_e hf
                refine x_iast (q0 := 1) cx hw rfl hv dX1_stops_147 (fun H locs hw => ?_)
                have hw : Wd D A s [oH ha hfl hro hrp hca hwy hla hmi htf htk, ((ha 1), .inl (d 0, 6, .inl w11)), ((ha 2), .inl (d 0, 6, .inl hAT)), ((ha 3), .inl (d 0, 6, .inl hTO)), ((ha 4), .inl (d 0, 6, .inl hWE)), ((ha 5), .inl (d 0, 6, .inl hHE)), ((ha 6), .inl (d 0, 6, .inl hRA))] H locs := hw
                refine lv_iinc (v := (x71.1 + 1)) (lv' := [(1, .int (x71.1 + 1)), (2, .int v4), (0, .ref (ha 0))]) hx hb dX1_stops_148 hl (k := 2) rfl (by first | rfl | decide) (by decide) rfl (fun ls hl => ?_)
                refine lv_goto (tgt := 71) hx hb dX1_stops_151 (by decide) ?_
                have hf := sm_e hf
                subst hf
                exact hin71 _ rfl _ _ _ hw (lv_sub hl [2, 0] rfl)
  · refine x_lp hlp2 (fun x2 => [oH ha hfl hro hrp hca hwy hla hmi htf htk, ((ha 1), .inl (d 0, 6, .inl x2.2)), ((ha 2), .inl (d 0, 6, .inl hAT)), ((ha 3), .inl (d 0, 6, .inl hTO)), ((ha 4), .inl (d 0, 6, .inl hWE)), ((ha 5), .inl (d 0, 6, .inl hHE)), ((ha 6), .inl (d 0, 6, .inl hRA))]) (fun x2 => [(0, .ref (ha 0)), (1, .int x2.1)]) hw (lv_sub hl [1, 0] rfl) (fun x2 y2 hf hin2 hout2 H locs ls hw hl => ?_)
    have hw : Wd D A s [oH ha hfl hro hrp hca hwy hla hmi htf htk, ((ha 1), .inl (d 0, 6, .inl x2.2)), ((ha 2), .inl (d 0, 6, .inl hAT)), ((ha 3), .inl (d 0, 6, .inl hTO)), ((ha 4), .inl (d 0, 6, .inl hWE)), ((ha 5), .inl (d 0, 6, .inl hHE)), ((ha 6), .inl (d 0, 6, .inl hRA))] H locs := hw
    have hl : lv_has ls 3 [(0, .ref (ha 0)), (1, .int x2.1)] := hl
    refine lv_iload_n hx hb dX1_stops_2 rfl (lv_at hl 1 rfl) ?_
    refine lv_aload_n hx hb dX1_stops_3 rfl (lv_at hl 0 rfl) ?_
    obtain ⟨q12, hcq12, hf⟩ := op_e hf
    refine x_VI (wr := []) (rest := [.int x2.1]) [] hX cx hw hl.1 (mX1_many l  D d cs wi ln lf dk dn him ha hfl hro hrp hca hwy hla hmi htf htk x2.2 hAT hTO hWE hHE hRA q12 hcq12) (lw_V q786 q663 q664 q83 q665) hd_X1_many ⟨(Nat.le_of_ble_eq_true rfl), (Nat.le_of_ble_eq_true rfl)⟩ (va_recv hK hw.1 (ci := 2) (q0 := 0) rfl rfl) rfl rfl (Nat.le_of_ble_eq_true rfl) dX1_stops_4 [0, 1, 2, 3, 4, 5, 6] [] rfl rfl rfl rfl (by decide) ⟨(Nat.le_of_ble_eq_true rfl), (Nat.le_of_ble_eq_true rfl)⟩ (fun r u H locs hp hw => ?_)
    have hw : Wd D A s [oH ha hfl hro hrp hca hwy hla hmi htf htk, ((ha 1), .inl (d 0, 6, .inl x2.2)), ((ha 2), .inl (d 0, 6, .inl hAT)), ((ha 3), .inl (d 0, 6, .inl hTO)), ((ha 4), .inl (d 0, 6, .inl hWE)), ((ha 5), .inl (d 0, 6, .inl hHE)), ((ha 6), .inl (d 0, 6, .inl hRA))] H locs := hw
    subst r
    refine lv_icmp_ge (tgt := 69) hx hb dX1_stops_7 (by decide) (fun c7 => ?_) (fun c7 => ?_)
    · have hf := if_t hf c7
      have hf := sm_e hf
      subst hf
      have hz := hout2 _ rfl
      subst hz
      exact hK2 _ _ _ hw (lv_sub hl [0] rfl)
    · have hf := if_f hf c7
      refine lv_aload_n hx hb dX1_stops_10 rfl (lv_at hl 0 rfl) ?_
      refine va_get (ci := 2) (C := RX1) (T := TX1) (N := 15) hx hb hts in_X1 hown hK hw.1 0 rfl rfl 6 (by decide) (hts _ q175) (fun _ h9 => h9) rfl dX1_stops_11 ?_
      refine lv_iload_n hx hb dX1_stops_14 rfl (lv_at hl 1 rfl) ?_
      obtain ⟨v13, hv, hf⟩ := op_e hf
      refine x_iald (q0 := 1) cx hw rfl hv dX1_stops_15 ?_
      refine lv_iconst (v := 2) hx hb dX1_stops_16 (by decide) ?_
      refine lv_icmp_eq (tgt := 63) hx hb dX1_stops_17 (by decide) (fun c17 => ?_) (fun c17 => ?_)
      · have hf := if_t hf c17
        refine lv_iinc (v := (x2.1 + 1)) (lv' := [(1, .int (x2.1 + 1)), (0, .ref (ha 0))]) hx hb dX1_stops_63 hl (k := 1) rfl (by first | rfl | decide) (by decide) rfl (fun ls hl => ?_)
        refine lv_goto (tgt := 2) hx hb dX1_stops_66 (by decide) ?_
        have hf := sm_e hf
        subst hf
        exact hin2 _ rfl _ _ _ hw (lv_sub hl [1, 0] rfl)
      · have hf := if_f hf c17
        refine lv_aload_n hx hb dX1_stops_20 rfl (lv_at hl 0 rfl) ?_
        refine va_get (ci := 2) (C := RX1) (T := TX1) (N := 15) hx hb hts in_X1 hown hK hw.1 0 rfl rfl 8 (by decide) (hts _ q180) (fun _ h9 => h9) rfl dX1_stops_21 ?_
        refine lv_iload_n hx hb dX1_stops_24 rfl (lv_at hl 1 rfl) ?_
        obtain ⟨v14, hv, hf⟩ := op_e hf
        refine x_iald (q0 := 3) cx hw rfl hv dX1_stops_25 ?_
        refine lv_aload_n hx hb dX1_stops_26 rfl (lv_at hl 0 rfl) ?_
        refine va_get (ci := 2) (C := RX1) (T := TX1) (N := 15) hx hb hts in_X1 hown hK hw.1 0 rfl rfl 3 (by decide) (hts _ q168) (fun _ h9 => h9) rfl dX1_stops_27 ?_
        refine lv_icmp_ne (tgt := 63) hx hb dX1_stops_30 (by decide) (fun c30 => ?_) (fun c30 => ?_)
        · have hf := if_f hf c30
          refine lv_iinc (v := (x2.1 + 1)) (lv' := [(1, .int (x2.1 + 1)), (0, .ref (ha 0))]) hx hb dX1_stops_63 hl (k := 1) rfl (by first | rfl | decide) (by decide) rfl (fun ls hl => ?_)
          refine lv_goto (tgt := 2) hx hb dX1_stops_66 (by decide) ?_
          have hf := sm_e hf
          subst hf
          exact hin2 _ rfl _ _ _ hw (lv_sub hl [1, 0] rfl)
        · have hf := if_t hf c30
          refine lv_aload_n hx hb dX1_stops_33 rfl (lv_at hl 0 rfl) ?_
          refine va_get (ci := 2) (C := RX1) (T := TX1) (N := 15) hx hb hts in_X1 hown hK hw.1 0 rfl rfl 6 (by decide) (hts _ q175) (fun _ h9 => h9) rfl dX1_stops_34 ?_
          refine lv_iload_n hx hb dX1_stops_37 rfl (lv_at hl 1 rfl) ?_
          obtain ⟨v15, hv, hf⟩ := op_e hf
          refine x_iald (q0 := 1) cx hw rfl hv dX1_stops_38 ?_
          refine lv_iconst (v := 1) hx hb dX1_stops_39 (by decide) ?_
          refine lv_icmp_eq (tgt := 56) hx hb dX1_stops_40 (by decide) (fun c40 => ?_) (fun c40 => ?_)
          · have hf := if_t hf c40
            refine lv_aload_n hx hb dX1_stops_56 rfl (lv_at hl 0 rfl) ?_
            refine va_get (ci := 2) (C := RX1) (T := TX1) (N := 15) hx hb hts in_X1 hown hK hw.1 0 rfl rfl 6 (by decide) (hts _ q175) (fun _ h9 => h9) rfl dX1_stops_57 ?_
            refine lv_iload_n hx hb dX1_stops_60 rfl (lv_at hl 1 rfl) ?_
            refine lv_iconst (v := 2) hx hb dX1_stops_61 (by decide) ?_
            obtain ⟨w16, hv, hf⟩ := op_e hf
            refine x_iast (q0 := 1) cx hw rfl hv dX1_stops_62 (fun H locs hw => ?_)
            have hw : Wd D A s [oH ha hfl hro hrp hca hwy hla hmi htf htk, ((ha 1), .inl (d 0, 6, .inl w16)), ((ha 2), .inl (d 0, 6, .inl hAT)), ((ha 3), .inl (d 0, 6, .inl hTO)), ((ha 4), .inl (d 0, 6, .inl hWE)), ((ha 5), .inl (d 0, 6, .inl hHE)), ((ha 6), .inl (d 0, 6, .inl hRA))] H locs := hw
            refine lv_iinc (v := (x2.1 + 1)) (lv' := [(1, .int (x2.1 + 1)), (0, .ref (ha 0))]) hx hb dX1_stops_63 hl (k := 1) rfl (by first | rfl | decide) (by decide) rfl (fun ls hl => ?_)
            refine lv_goto (tgt := 2) hx hb dX1_stops_66 (by decide) ?_
            have hf := sm_e hf
            subst hf
            exact hin2 _ rfl _ _ _ hw (lv_sub hl [1, 0] rfl)
          · have hf := if_f hf c40
            refine lv_aload_n hx hb dX1_stops_43 rfl (lv_at hl 0 rfl) ?_
            refine va_get (ci := 2) (C := RX1) (T := TX1) (N := 15) hx hb hts in_X1 hown hK hw.1 0 rfl rfl 7 (by decide) (hts _ q177) (fun _ h9 => h9) rfl dX1_stops_44 ?_
            refine lv_iload_n hx hb dX1_stops_47 rfl (lv_at hl 1 rfl) ?_
            obtain ⟨v17, hv, hf⟩ := op_e hf
            refine x_iald (q0 := 2) cx hw rfl hv dX1_stops_48 ?_
            refine lv_aload_n hx hb dX1_stops_49 rfl (lv_at hl 0 rfl) ?_
            refine va_get (ci := 2) (C := RX1) (T := TX1) (N := 15) hx hb hts in_X1 hown hK hw.1 0 rfl rfl 3 (by decide) (hts _ q168) (fun _ h9 => h9) rfl dX1_stops_50 ?_
            refine lv_icmp_ne (tgt := 63) hx hb dX1_stops_53 (by decide) (fun c53 => ?_) (fun c53 => ?_)
            · have hf := if_f hf c53
              refine lv_iinc (v := (x2.1 + 1)) (lv' := [(1, .int (x2.1 + 1)), (0, .ref (ha 0))]) hx hb dX1_stops_63 hl (k := 1) rfl (by first | rfl | decide) (by decide) rfl (fun ls hl => ?_)
              refine lv_goto (tgt := 2) hx hb dX1_stops_66 (by decide) ?_
              have hf := sm_e hf
              subst hf
              exact hin2 _ rfl _ _ _ hw (lv_sub hl [1, 0] rfl)
            · have hf := if_t hf c53
              refine lv_aload_n hx hb dX1_stops_56 rfl (lv_at hl 0 rfl) ?_
              refine va_get (ci := 2) (C := RX1) (T := TX1) (N := 15) hx hb hts in_X1 hown hK hw.1 0 rfl rfl 6 (by decide) (hts _ q175) (fun _ h9 => h9) rfl dX1_stops_57 ?_
              refine lv_iload_n hx hb dX1_stops_60 rfl (lv_at hl 1 rfl) ?_
              refine lv_iconst (v := 2) hx hb dX1_stops_61 (by decide) ?_
              obtain ⟨w18, hv, hf⟩ := op_e hf
              refine x_iast (q0 := 1) cx hw rfl hv dX1_stops_62 (fun H locs hw => ?_)
              have hw : Wd D A s [oH ha hfl hro hrp hca hwy hla hmi htf htk, ((ha 1), .inl (d 0, 6, .inl w18)), ((ha 2), .inl (d 0, 6, .inl hAT)), ((ha 3), .inl (d 0, 6, .inl hTO)), ((ha 4), .inl (d 0, 6, .inl hWE)), ((ha 5), .inl (d 0, 6, .inl hHE)), ((ha 6), .inl (d 0, 6, .inl hRA))] H locs := hw
              refine lv_iinc (v := (x2.1 + 1)) (lv' := [(1, .int (x2.1 + 1)), (0, .ref (ha 0))]) hx hb dX1_stops_63 hl (k := 1) rfl (by first | rfl | decide) (by decide) rfl (fun ls hl => ?_)
              refine lv_goto (tgt := 2) hx hb dX1_stops_66 (by decide) ?_
              have hf := sm_e hf
              subst hf
              exact hin2 _ rfl _ _ _ hw (lv_sub hl [1, 0] rfl)
theorem hd_X1_called : yX1_called.cls = "DishLift$House" ∧ yX1_called.cls ≠ "java/lang/invoke/MethodHandle" ∧ yX1_called.cls ≠ "java/lang/invoke/VarHandle" ∧ (parseMethodDescriptor yX1_called.desc).map (fun d => d.parameters.length) = some 0 := by decide +kernel
set_option maxHeartbeats 4000000 in
theorem mX1_called (l : Launch)  (D : va_G) (d : Nat → ClassId) (cs : Nat → Nat) (wi : va_W) (ln : Nat → Option Int32) (lf : Nat → Nat → Option Nat) (dk : Nat → Option Nat) (dn : Nat → Int32) (him : ImF d wi ln lf dk dn) (ha : Nat → Nat) (hfl : Int32) (hro : Int32) (hrp : Int32) (hca : Int32) (hwy : Int32) (hla : Nat) (hmi : Int32) (htf : Int32) (htk : Option Nat) (hHO : Nat → Int32) (hAT : Nat → Int32) (hTO : Nat → Int32) (hWE : Nat → Int32) (hHE : Nat → Int32) (hRA : Nat → Int32)  (res : Int32) (hf : fX1_called ln hrp hca hla hHO hAT hTO hWE = some res) : MetI l yX1_called (ws_ yX1_called cX1_called 3 (some .int)) { frames := 2, cells := 0, slots := 0, locals := 60 } [.ref (ha 0)] (XI D cs wi) D d [oH ha hfl hro hrp hca hwy hla hmi htf htk, ((ha 1), .inl (d 0, 6, .inl hHO)), ((ha 2), .inl (d 0, 6, .inl hAT)), ((ha 3), .inl (d 0, 6, .inl hTO)), ((ha 4), .inl (d 0, 6, .inl hWE)), ((ha 5), .inl (d 0, 6, .inl hHE)), ((ha 6), .inl (d 0, 6, .inl hRA))] (fun r (_ : Unit) => r = res) (fun _ => [oH ha hfl hro hrp hca hwy hla hmi htf htk, ((ha 1), .inl (d 0, 6, .inl hHO)), ((ha 2), .inl (d 0, 6, .inl hAT)), ((ha 3), .inl (d 0, 6, .inl hTO)), ((ha 4), .inl (d 0, 6, .inl hWE)), ((ha 5), .inl (d 0, 6, .inl hHE)), ((ha 6), .inl (d 0, 6, .inl hRA))]) := by
  have hX := XI.ok (D := D) (cs := cs) (wi := wi)
  refine MetI.of (by decide +kernel) (Nat.le_of_ble_eq_true rfl) ?_
  intro p e s m below meth c A cx hw ls hl
  have cx : Cx p s m _ meth c (XI D cs wi) D d A "DishLift$House" cX1_called 3 (some .int) "called" := cx
  have cx' := cx
  obtain ⟨hx, hb, hr, hlk, hml, hown, hts, hK, hA, hXs, hnm⟩ := cx'
  have hl : lv_has ls 3 [(0, .ref (ha 0))] := hl
  unfold fX1_called at hf
  refine lv_iconst (v := 0) hx hb dX1_called_0 (by decide) ?_
  refine lv_istore_n (lv' := [(1, .int 0), (0, .ref (ha 0))]) hx hb dX1_called_1 rfl hl (by decide) rfl (fun ls hl => ?_)
  refine lv_iconst (v := 0) hx hb dX1_called_2 (by decide) ?_
  refine lv_istore_n (lv' := [(2, .int 0), (1, .int 0), (0, .ref (ha 0))]) hx hb dX1_called_3 rfl hl (by decide) rfl (fun ls hl => ?_)
  obtain ⟨r1, hlp4, hf⟩ := op_e hf
  refine x_join (A := A) (D := D) (J := 72) (nL := 3) (cells' := 0) (slots' := 0) (st := []) [oH ha hfl hro hrp hca hwy hla hmi htf htk, ((ha 1), .inl (d 0, 6, .inl hHO)), ((ha 2), .inl (d 0, 6, .inl hAT)), ((ha 3), .inl (d 0, 6, .inl hTO)), ((ha 4), .inl (d 0, 6, .inl hWE)), ((ha 5), .inl (d 0, 6, .inl hHE)), ((ha 6), .inl (d 0, 6, .inl hRA))] [(0, .ref (ha 0)), (1, .int r1)] (fun H locs ls hw hl => ?_) (fun hK4 => ?_)
  · refine lv_iload_n hx hb dX1_called_72 rfl (lv_at hl 1 rfl) ?_
    refine lv_iconst (v := 1) hx hb dX1_called_73 (by decide) ?_
    refine lv_aload_n hx hb dX1_called_74 rfl (lv_at hl 0 rfl) ?_
    refine va_get (ci := 2) (C := RX1) (T := TX1) (N := 15) hx hb hts in_X1 hown hK hw.1 0 rfl rfl 3 (by decide) (hts _ q168) (fun _ h9 => h9) rfl dX1_called_75 ?_
    refine lv_ishl hx hb dX1_called_78 ?_
    refine lv_iconst (v := (-1)) hx hb dX1_called_79 (by decide) ?_
    refine lv_ixor hx hb dX1_called_80 ?_
    refine lv_iand hx hb dX1_called_81 ?_
    have hf := sm_e hf
    subst hf
    exact x_retI cx hw rfl () rfl [0, 1, 2, 3, 4, 5, 6] rfl rfl (Nat.le_of_ble_eq_true rfl) (Nat.le_of_ble_eq_true rfl) dX1_called_82
  · refine x_lp hlp4 (fun x4 => [oH ha hfl hro hrp hca hwy hla hmi htf htk, ((ha 1), .inl (d 0, 6, .inl hHO)), ((ha 2), .inl (d 0, 6, .inl hAT)), ((ha 3), .inl (d 0, 6, .inl hTO)), ((ha 4), .inl (d 0, 6, .inl hWE)), ((ha 5), .inl (d 0, 6, .inl hHE)), ((ha 6), .inl (d 0, 6, .inl hRA))]) (fun x4 => [(0, .ref (ha 0)), (1, .int x4.1), (2, .int x4.2)]) hw (lv_sub hl [2, 1, 0] rfl) (fun x4 y4 hf hin4 hout4 H locs ls hw hl => ?_)
    have hw : Wd D A s [oH ha hfl hro hrp hca hwy hla hmi htf htk, ((ha 1), .inl (d 0, 6, .inl hHO)), ((ha 2), .inl (d 0, 6, .inl hAT)), ((ha 3), .inl (d 0, 6, .inl hTO)), ((ha 4), .inl (d 0, 6, .inl hWE)), ((ha 5), .inl (d 0, 6, .inl hHE)), ((ha 6), .inl (d 0, 6, .inl hRA))] H locs := hw
    have hl : lv_has ls 3 [(0, .ref (ha 0)), (1, .int x4.1), (2, .int x4.2)] := hl
    refine lv_iload_n hx hb dX1_called_4 rfl (lv_at hl 2 rfl) ?_
    refine lv_aload_n hx hb dX1_called_5 rfl (lv_at hl 0 rfl) ?_
    obtain ⟨q2, hcq2, hf⟩ := op_e hf
    refine x_VI (wr := []) (rest := [.int x4.2]) [] hX cx hw hl.1 (mX1_many l  D d cs wi ln lf dk dn him ha hfl hro hrp hca hwy hla hmi htf htk hHO hAT hTO hWE hHE hRA q2 hcq2) (lw_V q786 q663 q664 q83 q665) hd_X1_many ⟨(Nat.le_of_ble_eq_true rfl), (Nat.le_of_ble_eq_true rfl)⟩ (va_recv hK hw.1 (ci := 2) (q0 := 0) rfl rfl) rfl rfl (Nat.le_of_ble_eq_true rfl) dX1_called_6 [0, 1, 2, 3, 4, 5, 6] [] rfl rfl rfl rfl (by decide) ⟨(Nat.le_of_ble_eq_true rfl), (Nat.le_of_ble_eq_true rfl)⟩ (fun r u H locs hp hw => ?_)
    have hw : Wd D A s [oH ha hfl hro hrp hca hwy hla hmi htf htk, ((ha 1), .inl (d 0, 6, .inl hHO)), ((ha 2), .inl (d 0, 6, .inl hAT)), ((ha 3), .inl (d 0, 6, .inl hTO)), ((ha 4), .inl (d 0, 6, .inl hWE)), ((ha 5), .inl (d 0, 6, .inl hHE)), ((ha 6), .inl (d 0, 6, .inl hRA))] H locs := hw
    subst r
    refine lv_icmp_ge (tgt := 72) hx hb dX1_called_9 (by decide) (fun c9 => ?_) (fun c9 => ?_)
    · have hf := if_t hf c9
      have hf := sm_e hf
      subst hf
      have hz := hout4 _ rfl
      subst hz
      exact hK4 _ _ _ hw (lv_sub hl [0, 1] rfl)
    · have hf := if_f hf c9
      refine lv_aload_n hx hb dX1_called_12 rfl (lv_at hl 0 rfl) ?_
      refine va_get (ci := 2) (C := RX1) (T := TX1) (N := 15) hx hb hts in_X1 hown hK hw.1 0 rfl rfl 6 (by decide) (hts _ q175) (fun _ h9 => h9) rfl dX1_called_13 ?_
      refine lv_iload_n hx hb dX1_called_16 rfl (lv_at hl 2 rfl) ?_
      obtain ⟨v3, hv, hf⟩ := op_e hf
      refine x_iald (q0 := 1) cx hw rfl hv dX1_called_17 ?_
      refine lv_iconst (v := 1) hx hb dX1_called_18 (by decide) ?_
      obtain ⟨j4, hjA, hjR⟩ := op_e hf
      refine x_join (A := A) (D := D) (J := 33) (nL := 3) (cells' := 0) (slots' := 0) (st := []) [oH ha hfl hro hrp hca hwy hla hmi htf htk, ((ha 1), .inl (d 0, 6, .inl hHO)), ((ha 2), .inl (d 0, 6, .inl hAT)), ((ha 3), .inl (d 0, 6, .inl hTO)), ((ha 4), .inl (d 0, 6, .inl hWE)), ((ha 5), .inl (d 0, 6, .inl hHE)), ((ha 6), .inl (d 0, 6, .inl hRA))] [(0, .ref (ha 0)), (1, .int j4), (2, .int x4.2)] (fun H locs ls hw hl => ?_) (fun hKj33_j4 => ?_)
      · have hf := hjR
        refine lv_aload_n hx hb dX1_called_33 rfl (lv_at hl 0 rfl) ?_
        refine va_get (ci := 2) (C := RX1) (T := TX1) (N := 15) hx hb hts in_X1 hown hK hw.1 0 rfl rfl 6 (by decide) (hts _ q175) (fun _ h9 => h9) rfl dX1_called_34 ?_
        refine lv_iload_n hx hb dX1_called_37 rfl (lv_at hl 2 rfl) ?_
        obtain ⟨v5, hv, hf⟩ := op_e hf
        refine x_iald (q0 := 1) cx hw rfl hv dX1_called_38 ?_
        refine lv_if_ne (tgt := 66) hx hb dX1_called_39 (by decide) (fun c39 => ?_) (fun c39 => ?_)
        · have hf := if_f hf c39
          refine lv_iinc (v := (x4.2 + 1)) (lv' := [(2, .int (x4.2 + 1)), (0, .ref (ha 0)), (1, .int j4)]) hx hb dX1_called_66 hl (k := 2) rfl (by first | rfl | decide) (by decide) rfl (fun ls hl => ?_)
          refine lv_goto (tgt := 4) hx hb dX1_called_69 (by decide) ?_
          have hf := sm_e hf
          subst hf
          exact hin4 _ rfl _ _ _ hw (lv_sub hl [1, 2, 0] rfl)
        · have hf := if_t hf c39
          refine lv_aload_n hx hb dX1_called_42 rfl (lv_at hl 0 rfl) ?_
          refine va_get (ci := 2) (C := RX1) (T := TX1) (N := 15) hx hb hts in_X1 hown hK hw.1 0 rfl rfl 9 (by decide) (hts _ q183) (fun _ h9 => h9) rfl dX1_called_43 ?_
          refine lv_iload_n hx hb dX1_called_46 rfl (lv_at hl 2 rfl) ?_
          obtain ⟨v6, hv, hf⟩ := op_e hf
          refine x_iald (q0 := 4) cx hw rfl hv dX1_called_47 ?_
          refine lv_aload_n hx hb dX1_called_48 rfl (lv_at hl 0 rfl) ?_
          refine va_get (ci := 2) (C := RX1) (T := TX1) (N := 15) hx hb hts in_X1 hown hK hw.1 0 rfl rfl 2 (by decide) (hts _ q165) (fun _ h9 => h9) rfl dX1_called_49 ?_
          refine lv_icmp_gt (tgt := 66) hx hb dX1_called_52 (by decide) (fun c52 => ?_) (fun c52 => ?_)
          · have hf := if_t hf c52
            refine lv_iinc (v := (x4.2 + 1)) (lv' := [(2, .int (x4.2 + 1)), (0, .ref (ha 0)), (1, .int j4)]) hx hb dX1_called_66 hl (k := 2) rfl (by first | rfl | decide) (by decide) rfl (fun ls hl => ?_)
            refine lv_goto (tgt := 4) hx hb dX1_called_69 (by decide) ?_
            have hf := sm_e hf
            subst hf
            exact hin4 _ rfl _ _ _ hw (lv_sub hl [1, 2, 0] rfl)
          · have hf := if_f hf c52
            refine lv_iload_n hx hb dX1_called_55 rfl (lv_at hl 1 rfl) ?_
            refine lv_iconst (v := 1) hx hb dX1_called_56 (by decide) ?_
            refine lv_aload_n hx hb dX1_called_57 rfl (lv_at hl 0 rfl) ?_
            refine va_get (ci := 2) (C := RX1) (T := TX1) (N := 15) hx hb hts in_X1 hown hK hw.1 0 rfl rfl 7 (by decide) (hts _ q177) (fun _ h9 => h9) rfl dX1_called_58 ?_
            refine lv_iload_n hx hb dX1_called_61 rfl (lv_at hl 2 rfl) ?_
            obtain ⟨v7, hv, hf⟩ := op_e hf
            refine x_iald (q0 := 2) cx hw rfl hv dX1_called_62 ?_
            refine lv_ishl hx hb dX1_called_63 ?_
            refine lv_ior hx hb dX1_called_64 ?_
            refine lv_istore_n (lv' := [(1, .int (j4 ||| ((1 : Int32) <<< (v7 &&& 31)))), (0, .ref (ha 0)), (2, .int x4.2)]) hx hb dX1_called_65 rfl hl (by decide) rfl (fun ls hl => ?_)
            refine lv_iinc (v := (x4.2 + 1)) (lv' := [(2, .int (x4.2 + 1)), (1, .int (j4 ||| ((1 : Int32) <<< (v7 &&& 31)))), (0, .ref (ha 0))]) hx hb dX1_called_66 hl (k := 2) rfl (by first | rfl | decide) (by decide) rfl (fun ls hl => ?_)
            refine lv_goto (tgt := 4) hx hb dX1_called_69 (by decide) ?_
            have hf := sm_e hf
            subst hf
            exact hin4 _ rfl _ _ _ hw (lv_sub hl [2, 1, 0] rfl)
      · have hf := hjA
        refine lv_icmp_ne (tgt := 33) hx hb dX1_called_19 (by decide) (fun c19 => ?_) (fun c19 => ?_)
        · have hf := if_f hf c19
          have hf := sm_e hf
          subst hf
          exact hKj33_j4 _ _ _ hw hl
        · have hf := if_t hf c19
          refine lv_iload_n hx hb dX1_called_22 rfl (lv_at hl 1 rfl) ?_
          refine lv_iconst (v := 1) hx hb dX1_called_23 (by decide) ?_
          refine lv_aload_n hx hb dX1_called_24 rfl (lv_at hl 0 rfl) ?_
          refine va_get (ci := 2) (C := RX1) (T := TX1) (N := 15) hx hb hts in_X1 hown hK hw.1 0 rfl rfl 8 (by decide) (hts _ q180) (fun _ h9 => h9) rfl dX1_called_25 ?_
          refine lv_iload_n hx hb dX1_called_28 rfl (lv_at hl 2 rfl) ?_
          obtain ⟨v8, hv, hf⟩ := op_e hf
          refine x_iald (q0 := 3) cx hw rfl hv dX1_called_29 ?_
          refine lv_ishl hx hb dX1_called_30 ?_
          refine lv_ior hx hb dX1_called_31 ?_
          refine lv_istore_n (lv' := [(1, .int (x4.1 ||| ((1 : Int32) <<< (v8 &&& 31)))), (0, .ref (ha 0)), (2, .int x4.2)]) hx hb dX1_called_32 rfl hl (by decide) rfl (fun ls hl => ?_)
          have hf := sm_e hf
          subst hf
          exact hKj33_j4 _ _ _ hw (lv_sub hl [1, 0, 2] rfl)
theorem hd_X1_goes : yX1_goes.cls = "DishLift$House" ∧ yX1_goes.cls ≠ "java/lang/invoke/MethodHandle" ∧ yX1_goes.cls ≠ "java/lang/invoke/VarHandle" ∧ (parseMethodDescriptor yX1_goes.desc).map (fun d => d.parameters.length) = some 0 := by decide +kernel
set_option maxHeartbeats 4000000 in
theorem mX1_goes (l : Launch)  (D : va_G) (d : Nat → ClassId) (cs : Nat → Nat) (wi : va_W) (ln : Nat → Option Int32) (lf : Nat → Nat → Option Nat) (dk : Nat → Option Nat) (dn : Nat → Int32) (him : ImF d wi ln lf dk dn) (ha : Nat → Nat) (hfl : Int32) (hro : Int32) (hrp : Int32) (hca : Int32) (hwy : Int32) (hla : Nat) (hmi : Int32) (htf : Int32) (htk : Option Nat) (hHO : Nat → Int32) (hAT : Nat → Int32) (hTO : Nat → Int32) (hWE : Nat → Int32) (hHE : Nat → Int32) (hRA : Nat → Int32)  (res : Int32 × Int32 × Int32) (hf : fX1_goes ln hrp hca hwy hla hHO hAT hTO hWE = some res) : MetI l yX1_goes (ws_ yX1_goes cX1_goes 3 (some .boolean)) { frames := 3, cells := 0, slots := 0, locals := 82 } [.ref (ha 0)] (XI D cs wi) D d [oH ha hfl hro hrp hca hwy hla hmi htf htk, ((ha 1), .inl (d 0, 6, .inl hHO)), ((ha 2), .inl (d 0, 6, .inl hAT)), ((ha 3), .inl (d 0, 6, .inl hTO)), ((ha 4), .inl (d 0, 6, .inl hWE)), ((ha 5), .inl (d 0, 6, .inl hHE)), ((ha 6), .inl (d 0, 6, .inl hRA))] (fun r (_ : Unit) => r = res.1) (fun _ => [oH ha hfl hro hrp res.2.1 res.2.2 hla hmi htf htk, ((ha 1), .inl (d 0, 6, .inl hHO)), ((ha 2), .inl (d 0, 6, .inl hAT)), ((ha 3), .inl (d 0, 6, .inl hTO)), ((ha 4), .inl (d 0, 6, .inl hWE)), ((ha 5), .inl (d 0, 6, .inl hHE)), ((ha 6), .inl (d 0, 6, .inl hRA))]) := by
  have hX := XI.ok (D := D) (cs := cs) (wi := wi)
  refine MetI.of (by decide +kernel) (Nat.le_of_ble_eq_true rfl) ?_
  intro p e s m below meth c A cx hw ls hl
  have cx : Cx p s m _ meth c (XI D cs wi) D d A "DishLift$House" cX1_goes 3 (some .boolean) "goes" := cx
  have cx' := cx
  obtain ⟨hx, hb, hr, hlk, hml, hown, hts, hK, hA, hXs, hnm⟩ := cx'
  have hl : lv_has ls 3 [(0, .ref (ha 0))] := hl
  unfold fX1_goes at hf
  refine lv_aload_n hx hb dX1_goes_0 rfl (lv_at hl 0 rfl) ?_
  obtain ⟨q1, hcq1, hf⟩ := op_e hf
  refine x_VI (wr := []) (rest := []) [] hX cx hw hl.1 (mX1_called l  D d cs wi ln lf dk dn him ha hfl hro hrp hca hwy hla hmi htf htk hHO hAT hTO hWE hHE hRA q1 hcq1) (lw_V q805 q806 q807 q83 q808) hd_X1_called ⟨(Nat.le_of_ble_eq_true rfl), (Nat.le_of_ble_eq_true rfl)⟩ (va_recv hK hw.1 (ci := 2) (q0 := 0) rfl rfl) rfl rfl (Nat.le_of_ble_eq_true rfl) dX1_goes_1 [0, 1, 2, 3, 4, 5, 6] [] rfl rfl rfl rfl (by decide) ⟨(Nat.le_of_ble_eq_true rfl), (Nat.le_of_ble_eq_true rfl)⟩ (fun r u H locs hp hw => ?_)
  have hw : Wd D A s [oH ha hfl hro hrp hca hwy hla hmi htf htk, ((ha 1), .inl (d 0, 6, .inl hHO)), ((ha 2), .inl (d 0, 6, .inl hAT)), ((ha 3), .inl (d 0, 6, .inl hTO)), ((ha 4), .inl (d 0, 6, .inl hWE)), ((ha 5), .inl (d 0, 6, .inl hHE)), ((ha 6), .inl (d 0, 6, .inl hRA))] H locs := hw
  subst r
  refine lv_aload_n hx hb dX1_goes_4 rfl (lv_at hl 0 rfl) ?_
  refine va_get (ci := 2) (C := RX1) (T := TX1) (N := 15) hx hb hts in_X1 hown hK hw.1 0 rfl rfl 3 (by decide) (hts _ q168) (fun _ h9 => h9) rfl dX1_goes_5 ?_
  refine lv_ishr hx hb dX1_goes_8 ?_
  refine lv_istore_n (lv' := [(1, .int (q1 >>> (hca &&& 31))), (0, .ref (ha 0))]) hx hb dX1_goes_9 rfl hl (by decide) rfl (fun ls hl => ?_)
  refine lv_aload_n hx hb dX1_goes_10 rfl (lv_at hl 1 rfl) ?_
  obtain ⟨q2, hcq2, hf⟩ := op_e hf
  refine x_VI (wr := []) (rest := []) [] hX cx hw hl.1 (mX1_called l  D d cs wi ln lf dk dn him ha hfl hro hrp hca hwy hla hmi htf htk hHO hAT hTO hWE hHE hRA q2 hcq2) (lw_V q805 q806 q807 q83 q808) hd_X1_called ⟨(Nat.le_of_ble_eq_true rfl), (Nat.le_of_ble_eq_true rfl)⟩ (va_recv hK hw.1 (ci := 2) (q0 := 0) rfl rfl) rfl rfl (Nat.le_of_ble_eq_true rfl) dX1_goes_11 [0, 1, 2, 3, 4, 5, 6] [] rfl rfl rfl rfl (by decide) ⟨(Nat.le_of_ble_eq_true rfl), (Nat.le_of_ble_eq_true rfl)⟩ (fun r u H locs hp hw => ?_)
  have hw : Wd D A s [oH ha hfl hro hrp hca hwy hla hmi htf htk, ((ha 1), .inl (d 0, 6, .inl hHO)), ((ha 2), .inl (d 0, 6, .inl hAT)), ((ha 3), .inl (d 0, 6, .inl hTO)), ((ha 4), .inl (d 0, 6, .inl hWE)), ((ha 5), .inl (d 0, 6, .inl hHE)), ((ha 6), .inl (d 0, 6, .inl hRA))] H locs := hw
  subst r
  refine lv_iconst (v := 1) hx hb dX1_goes_14 (by decide) ?_
  refine lv_aload_n hx hb dX1_goes_15 rfl (lv_at hl 1 rfl) ?_
  refine va_get (ci := 2) (C := RX1) (T := TX1) (N := 15) hx hb hts in_X1 hown hK hw.1 0 rfl rfl 3 (by decide) (hts _ q168) (fun _ h9 => h9) rfl dX1_goes_16 ?_
  refine lv_ishl hx hb dX1_goes_19 ?_
  refine lv_iconst (v := 1) hx hb dX1_goes_20 (by decide) ?_
  refine lv_isub hx hb dX1_goes_21 ?_
  refine lv_iand hx hb dX1_goes_22 ?_
  refine lv_istore_n (lv' := [(2, .int (q2 &&& (((1 : Int32) <<< (hca &&& 31)) - 1))), (1, .int (q1 >>> (hca &&& 31))), (0, .ref (ha 0))]) hx hb dX1_goes_23 rfl hl (by decide) rfl (fun ls hl => ?_)
  refine lv_iload_n hx hb dX1_goes_24 rfl (lv_at hl 1 rfl) ?_
  refine lv_if_ne (tgt := 34) hx hb dX1_goes_25 (by decide) (fun c25 => ?_) (fun c25 => ?_)
  · have hf := if_f hf c25
    refine lv_aload_n hx hb dX1_goes_34 rfl (lv_at hl 2 rfl) ?_
    refine lv_aload_n hx hb dX1_goes_35 rfl (lv_at hl 2 rfl) ?_
    refine va_get (ci := 2) (C := RX1) (T := TX1) (N := 15) hx hb hts in_X1 hown hK hw.1 0 rfl rfl 4 (by decide) (hts _ q170) (fun _ h9 => h9) rfl dX1_goes_36 ?_
    refine lv_iconst (v := 1) hx hb dX1_goes_39 (by decide) ?_
    obtain ⟨j5, hjA, hjR⟩ := op_e hf
    refine x_join (A := A) (D := D) (J := 48) (nL := 3) (cells' := 0) (slots' := 0) (st := [.int j5, .ref (ha 0)]) [oH ha hfl hro hrp hca hwy hla hmi htf htk, ((ha 1), .inl (d 0, 6, .inl hHO)), ((ha 2), .inl (d 0, 6, .inl hAT)), ((ha 3), .inl (d 0, 6, .inl hTO)), ((ha 4), .inl (d 0, 6, .inl hWE)), ((ha 5), .inl (d 0, 6, .inl hHE)), ((ha 6), .inl (d 0, 6, .inl hRA))] [(0, .ref (ha 0))] (fun H locs ls hw hl => ?_) (fun hKj48_j5 => ?_)
    · have hf := hjR
      obtain ⟨j6, hjA, hjR⟩ := op_e hf
      refine x_join (A := A) (D := D) (J := 64) (nL := 3) (cells' := 0) (slots' := 0) (st := [.int j6, .ref (ha 0)]) [oH ha hfl hro hrp hca hwy hla hmi htf htk, ((ha 1), .inl (d 0, 6, .inl hHO)), ((ha 2), .inl (d 0, 6, .inl hAT)), ((ha 3), .inl (d 0, 6, .inl hTO)), ((ha 4), .inl (d 0, 6, .inl hWE)), ((ha 5), .inl (d 0, 6, .inl hHE)), ((ha 6), .inl (d 0, 6, .inl hRA))] [(0, .ref (ha 0))] (fun H locs ls hw hl => ?_) (fun hKj64_j6 => ?_)
      · have hf := hjR
        refine va_put (ci := 2) (v := .int j6) (ty := .int) (C := RX1) (T := TX1) (N := 15) hx hb hts in_X1 tyX1 tyX1_ok nmX1 hown hK hw.1 hw.2.1 hw.2.2 0 rfl rfl 4 (by decide) (hts _ q170) (fun _ h9 => h9) rfl (by decide +kernel) rfl rfl (Nat.le_of_ble_eq_true rfl) dX1_goes_64 (fun H locs hP hD hS => ?_)
        have hw : Wd D A s [oH ha hfl hro hrp hca j6 hla hmi htf htk, ((ha 1), .inl (d 0, 6, .inl hHO)), ((ha 2), .inl (d 0, 6, .inl hAT)), ((ha 3), .inl (d 0, 6, .inl hTO)), ((ha 4), .inl (d 0, 6, .inl hWE)), ((ha 5), .inl (d 0, 6, .inl hHE)), ((ha 6), .inl (d 0, 6, .inl hRA))] H locs := ⟨hP, hD, hS⟩
        refine lv_aload_n hx hb dX1_goes_67 rfl (lv_at hl 0 rfl) ?_
        refine lv_dup hx hb dX1_goes_68 rfl ?_
        refine va_get (ci := 2) (C := RX1) (T := TX1) (N := 15) hx hb hts in_X1 hown hK hw.1 0 rfl rfl 3 (by decide) (hts _ q168) (fun _ h9 => h9) rfl dX1_goes_69 ?_
        refine lv_iconst (v := 2) hx hb dX1_goes_72 (by decide) ?_
        refine lv_aload_n hx hb dX1_goes_73 rfl (lv_at hl 0 rfl) ?_
        refine va_get (ci := 2) (C := RX1) (T := TX1) (N := 15) hx hb hts in_X1 hown hK hw.1 0 rfl rfl 4 (by decide) (hts _ q170) (fun _ h9 => h9) rfl dX1_goes_74 ?_
        refine lv_imul hx hb dX1_goes_77 ?_
        refine lv_iconst (v := 1) hx hb dX1_goes_78 (by decide) ?_
        refine lv_isub hx hb dX1_goes_79 ?_
        refine lv_iadd hx hb dX1_goes_80 ?_
        refine va_put (ci := 2) (v := .int (hca + ((2 * j6) - 1))) (ty := .int) (C := RX1) (T := TX1) (N := 15) hx hb hts in_X1 tyX1 tyX1_ok nmX1 hown hK hw.1 hw.2.1 hw.2.2 0 rfl rfl 3 (by decide) (hts _ q168) (fun _ h9 => h9) rfl (by decide +kernel) rfl rfl (Nat.le_of_ble_eq_true rfl) dX1_goes_81 (fun H locs hP hD hS => ?_)
        have hw : Wd D A s [oH ha hfl hro hrp (hca + ((2 * j6) - 1)) j6 hla hmi htf htk, ((ha 1), .inl (d 0, 6, .inl hHO)), ((ha 2), .inl (d 0, 6, .inl hAT)), ((ha 3), .inl (d 0, 6, .inl hTO)), ((ha 4), .inl (d 0, 6, .inl hWE)), ((ha 5), .inl (d 0, 6, .inl hHE)), ((ha 6), .inl (d 0, 6, .inl hRA))] H locs := ⟨hP, hD, hS⟩
        refine lv_iconst (v := 1) hx hb dX1_goes_84 (by decide) ?_
        have hf := sm_e hf
        subst hf
        exact x_retI cx hw rfl () rfl [0, 1, 2, 3, 4, 5, 6] rfl rfl (Nat.le_of_ble_eq_true rfl) (Nat.le_of_ble_eq_true rfl) dX1_goes_85
      · have hf := hjA
        refine lv_if_ne (tgt := 60) hx hb dX1_goes_48 (by decide) (fun c48 => ?_) (fun c48 => ?_)
        · have hf := if_f hf c48
          refine lv_aload_n hx hb dX1_goes_60 rfl (lv_at hl 0 rfl) ?_
          refine va_get (ci := 2) (C := RX1) (T := TX1) (N := 15) hx hb hts in_X1 hown hK hw.1 0 rfl rfl 4 (by decide) (hts _ q170) (fun _ h9 => h9) rfl dX1_goes_61 ?_
          have hf := sm_e hf
          subst hf
          exact hKj64_j6 _ _ _ hw hl
        · have hf := if_t hf c48
          refine lv_iconst (v := 1) hx hb dX1_goes_51 (by decide) ?_
          refine lv_aload_n hx hb dX1_goes_52 rfl (lv_at hl 0 rfl) ?_
          refine va_get (ci := 2) (C := RX1) (T := TX1) (N := 15) hx hb hts in_X1 hown hK hw.1 0 rfl rfl 4 (by decide) (hts _ q170) (fun _ h9 => h9) rfl dX1_goes_53 ?_
          refine lv_isub hx hb dX1_goes_56 ?_
          refine lv_goto (tgt := 64) hx hb dX1_goes_57 (by decide) ?_
          have hf := sm_e hf
          subst hf
          exact hKj64_j6 _ _ _ hw hl
    · have hf := hjA
      refine lv_icmp_ne (tgt := 47) hx hb dX1_goes_40 (by decide) (fun c40 => ?_) (fun c40 => ?_)
      · have hf := if_f hf c40
        refine lv_iload_n hx hb dX1_goes_47 rfl (lv_at hl 0 rfl) ?_
        have hf := sm_e hf
        subst hf
        exact hKj48_j5 _ _ _ hw (lv_sub hl [2] rfl)
      · have hf := if_t hf c40
        refine lv_iload_n hx hb dX1_goes_43 rfl (lv_at hl 1 rfl) ?_
        refine lv_goto (tgt := 48) hx hb dX1_goes_44 (by decide) ?_
        have hf := sm_e hf
        subst hf
        exact hKj48_j5 _ _ _ hw (lv_sub hl [2] rfl)
  · have hf := if_t hf c25
    refine lv_iload_n hx hb dX1_goes_28 rfl (lv_at hl 0 rfl) ?_
    refine lv_if_ne (tgt := 34) hx hb dX1_goes_29 (by decide) (fun c29 => ?_) (fun c29 => ?_)
    · have hf := if_f hf c29
      refine lv_aload_n hx hb dX1_goes_34 rfl (lv_at hl 2 rfl) ?_
      refine lv_aload_n hx hb dX1_goes_35 rfl (lv_at hl 2 rfl) ?_
      refine va_get (ci := 2) (C := RX1) (T := TX1) (N := 15) hx hb hts in_X1 hown hK hw.1 0 rfl rfl 4 (by decide) (hts _ q170) (fun _ h9 => h9) rfl dX1_goes_36 ?_
      refine lv_iconst (v := 1) hx hb dX1_goes_39 (by decide) ?_
      obtain ⟨j3, hjA, hjR⟩ := op_e hf
      refine x_join (A := A) (D := D) (J := 48) (nL := 3) (cells' := 0) (slots' := 0) (st := [.int j3, .ref (ha 0)]) [oH ha hfl hro hrp hca hwy hla hmi htf htk, ((ha 1), .inl (d 0, 6, .inl hHO)), ((ha 2), .inl (d 0, 6, .inl hAT)), ((ha 3), .inl (d 0, 6, .inl hTO)), ((ha 4), .inl (d 0, 6, .inl hWE)), ((ha 5), .inl (d 0, 6, .inl hHE)), ((ha 6), .inl (d 0, 6, .inl hRA))] [(0, .ref (ha 0))] (fun H locs ls hw hl => ?_) (fun hKj48_j3 => ?_)
      · have hf := hjR
        obtain ⟨j4, hjA, hjR⟩ := op_e hf
        refine x_join (A := A) (D := D) (J := 64) (nL := 3) (cells' := 0) (slots' := 0) (st := [.int j4, .ref (ha 0)]) [oH ha hfl hro hrp hca hwy hla hmi htf htk, ((ha 1), .inl (d 0, 6, .inl hHO)), ((ha 2), .inl (d 0, 6, .inl hAT)), ((ha 3), .inl (d 0, 6, .inl hTO)), ((ha 4), .inl (d 0, 6, .inl hWE)), ((ha 5), .inl (d 0, 6, .inl hHE)), ((ha 6), .inl (d 0, 6, .inl hRA))] [(0, .ref (ha 0))] (fun H locs ls hw hl => ?_) (fun hKj64_j4 => ?_)
        · have hf := hjR
          refine va_put (ci := 2) (v := .int j4) (ty := .int) (C := RX1) (T := TX1) (N := 15) hx hb hts in_X1 tyX1 tyX1_ok nmX1 hown hK hw.1 hw.2.1 hw.2.2 0 rfl rfl 4 (by decide) (hts _ q170) (fun _ h9 => h9) rfl (by decide +kernel) rfl rfl (Nat.le_of_ble_eq_true rfl) dX1_goes_64 (fun H locs hP hD hS => ?_)
          have hw : Wd D A s [oH ha hfl hro hrp hca j4 hla hmi htf htk, ((ha 1), .inl (d 0, 6, .inl hHO)), ((ha 2), .inl (d 0, 6, .inl hAT)), ((ha 3), .inl (d 0, 6, .inl hTO)), ((ha 4), .inl (d 0, 6, .inl hWE)), ((ha 5), .inl (d 0, 6, .inl hHE)), ((ha 6), .inl (d 0, 6, .inl hRA))] H locs := ⟨hP, hD, hS⟩
          refine lv_aload_n hx hb dX1_goes_67 rfl (lv_at hl 0 rfl) ?_
          refine lv_dup hx hb dX1_goes_68 rfl ?_
          refine va_get (ci := 2) (C := RX1) (T := TX1) (N := 15) hx hb hts in_X1 hown hK hw.1 0 rfl rfl 3 (by decide) (hts _ q168) (fun _ h9 => h9) rfl dX1_goes_69 ?_
          refine lv_iconst (v := 2) hx hb dX1_goes_72 (by decide) ?_
          refine lv_aload_n hx hb dX1_goes_73 rfl (lv_at hl 0 rfl) ?_
          refine va_get (ci := 2) (C := RX1) (T := TX1) (N := 15) hx hb hts in_X1 hown hK hw.1 0 rfl rfl 4 (by decide) (hts _ q170) (fun _ h9 => h9) rfl dX1_goes_74 ?_
          refine lv_imul hx hb dX1_goes_77 ?_
          refine lv_iconst (v := 1) hx hb dX1_goes_78 (by decide) ?_
          refine lv_isub hx hb dX1_goes_79 ?_
          refine lv_iadd hx hb dX1_goes_80 ?_
          refine va_put (ci := 2) (v := .int (hca + ((2 * j4) - 1))) (ty := .int) (C := RX1) (T := TX1) (N := 15) hx hb hts in_X1 tyX1 tyX1_ok nmX1 hown hK hw.1 hw.2.1 hw.2.2 0 rfl rfl 3 (by decide) (hts _ q168) (fun _ h9 => h9) rfl (by decide +kernel) rfl rfl (Nat.le_of_ble_eq_true rfl) dX1_goes_81 (fun H locs hP hD hS => ?_)
          have hw : Wd D A s [oH ha hfl hro hrp (hca + ((2 * j4) - 1)) j4 hla hmi htf htk, ((ha 1), .inl (d 0, 6, .inl hHO)), ((ha 2), .inl (d 0, 6, .inl hAT)), ((ha 3), .inl (d 0, 6, .inl hTO)), ((ha 4), .inl (d 0, 6, .inl hWE)), ((ha 5), .inl (d 0, 6, .inl hHE)), ((ha 6), .inl (d 0, 6, .inl hRA))] H locs := ⟨hP, hD, hS⟩
          refine lv_iconst (v := 1) hx hb dX1_goes_84 (by decide) ?_
          have hf := sm_e hf
          subst hf
          exact x_retI cx hw rfl () rfl [0, 1, 2, 3, 4, 5, 6] rfl rfl (Nat.le_of_ble_eq_true rfl) (Nat.le_of_ble_eq_true rfl) dX1_goes_85
        · have hf := hjA
          refine lv_if_ne (tgt := 60) hx hb dX1_goes_48 (by decide) (fun c48 => ?_) (fun c48 => ?_)
          · have hf := if_f hf c48
            refine lv_aload_n hx hb dX1_goes_60 rfl (lv_at hl 0 rfl) ?_
            refine va_get (ci := 2) (C := RX1) (T := TX1) (N := 15) hx hb hts in_X1 hown hK hw.1 0 rfl rfl 4 (by decide) (hts _ q170) (fun _ h9 => h9) rfl dX1_goes_61 ?_
            have hf := sm_e hf
            subst hf
            exact hKj64_j4 _ _ _ hw hl
          · have hf := if_t hf c48
            refine lv_iconst (v := 1) hx hb dX1_goes_51 (by decide) ?_
            refine lv_aload_n hx hb dX1_goes_52 rfl (lv_at hl 0 rfl) ?_
            refine va_get (ci := 2) (C := RX1) (T := TX1) (N := 15) hx hb hts in_X1 hown hK hw.1 0 rfl rfl 4 (by decide) (hts _ q170) (fun _ h9 => h9) rfl dX1_goes_53 ?_
            refine lv_isub hx hb dX1_goes_56 ?_
            refine lv_goto (tgt := 64) hx hb dX1_goes_57 (by decide) ?_
            have hf := sm_e hf
            subst hf
            exact hKj64_j4 _ _ _ hw hl
      · have hf := hjA
        refine lv_icmp_ne (tgt := 47) hx hb dX1_goes_40 (by decide) (fun c40 => ?_) (fun c40 => ?_)
        · have hf := if_f hf c40
          refine lv_iload_n hx hb dX1_goes_47 rfl (lv_at hl 0 rfl) ?_
          have hf := sm_e hf
          subst hf
          exact hKj48_j3 _ _ _ hw (lv_sub hl [2] rfl)
        · have hf := if_t hf c40
          refine lv_iload_n hx hb dX1_goes_43 rfl (lv_at hl 1 rfl) ?_
          refine lv_goto (tgt := 48) hx hb dX1_goes_44 (by decide) ?_
          have hf := sm_e hf
          subst hf
          exact hKj48_j3 _ _ _ hw (lv_sub hl [2] rfl)
    · have hf := if_t hf c29
      refine lv_iconst (v := 0) hx hb dX1_goes_32 (by decide) ?_
      have hf := sm_e hf
      subst hf
      exact x_retI cx hw rfl () rfl [0, 1, 2, 3, 4, 5, 6] rfl rfl (Nat.le_of_ble_eq_true rfl) (Nat.le_of_ble_eq_true rfl) dX1_goes_33
theorem hd_X1_cools : yX1_cools.cls = "DishLift$House" ∧ yX1_cools.cls ≠ "java/lang/invoke/MethodHandle" ∧ yX1_cools.cls ≠ "java/lang/invoke/VarHandle" ∧ (parseMethodDescriptor yX1_cools.desc).map (fun d => d.parameters.length) = some 1 := by decide +kernel
set_option maxHeartbeats 4000000 in
theorem mX1_cools (l : Launch)  (D : va_G) (d : Nat → ClassId) (cs : Nat → Nat) (wi : va_W) (ln : Nat → Option Int32) (lf : Nat → Nat → Option Nat) (dk : Nat → Option Nat) (dn : Nat → Int32) (him : ImF d wi ln lf dk dn) (ha : Nat → Nat) (hfl : Int32) (hro : Int32) (hrp : Int32) (hca : Int32) (hwy : Int32) (hla : Nat) (hmi : Int32) (htf : Int32) (htk : Option Nat) (hHO : Nat → Int32) (hAT : Nat → Int32) (hTO : Nat → Int32) (hWE : Nat → Int32) (hHE : Nat → Int32) (hRA : Nat → Int32) (p1 : Int32)  (res : Int32 × (Nat → Int32) × (Nat → Int32)) (hf : fX1_cools ln lf dk hla hmi htf htk hHO hWE hHE p1 = some res) : MetV l yX1_cools (ws_ yX1_cools cX1_cools 3 none) { frames := 4, cells := 0, slots := 0, locals := 141 } [.ref (ha 0), .int p1] (XI D cs wi) D d [oH ha hfl hro hrp hca hwy hla hmi htf htk, ((ha 1), .inl (d 0, 6, .inl hHO)), ((ha 2), .inl (d 0, 6, .inl hAT)), ((ha 3), .inl (d 0, 6, .inl hTO)), ((ha 4), .inl (d 0, 6, .inl hWE)), ((ha 5), .inl (d 0, 6, .inl hHE)), ((ha 6), .inl (d 0, 6, .inl hRA))] (fun (_ : Unit) => True) (fun _ => [oH ha hfl hro hrp hca hwy hla res.1 htf htk, ((ha 1), .inl (d 0, 6, .inl hHO)), ((ha 2), .inl (d 0, 6, .inl hAT)), ((ha 3), .inl (d 0, 6, .inl hTO)), ((ha 4), .inl (d 0, 6, .inl res.2.1)), ((ha 5), .inl (d 0, 6, .inl res.2.2)), ((ha 6), .inl (d 0, 6, .inl hRA))]) := by
  have hX := XI.ok (D := D) (cs := cs) (wi := wi)
  refine MetV.of (by decide +kernel) (Nat.le_of_ble_eq_true rfl) ?_
  intro p e s m below meth c A cx hw ls hl
  have cx : Cx p s m _ meth c (XI D cs wi) D d A "DishLift$House" cX1_cools 3 none "cools" := cx
  have cx' := cx
  obtain ⟨hx, hb, hr, hlk, hml, hown, hts, hK, hA, hXs, hnm⟩ := cx'
  have hl : lv_has ls 3 [(0, .ref (ha 0)), (1, .int p1)] := hl
  unfold fX1_cools at hf
  refine lv_iconst (v := 0) hx hb dX1_cools_0 (by decide) ?_
  refine lv_istore_n (lv' := [(2, .int 0), (0, .ref (ha 0)), (1, .int p1)]) hx hb dX1_cools_1 rfl hl (by decide) rfl (fun ls hl => ?_)
  obtain ⟨r1, hlp2, hf⟩ := op_e hf
  refine x_join (A := A) (D := D) (J := 98) (nL := 3) (cells' := 0) (slots' := 0) (st := []) [oH ha hfl hro hrp hca hwy hla hmi htf htk, ((ha 1), .inl (d 0, 6, .inl hHO)), ((ha 2), .inl (d 0, 6, .inl hAT)), ((ha 3), .inl (d 0, 6, .inl hTO)), ((ha 4), .inl (d 0, 6, .inl r1.1)), ((ha 5), .inl (d 0, 6, .inl r1.2)), ((ha 6), .inl (d 0, 6, .inl hRA))] [(0, .ref (ha 0))] (fun H locs ls hw hl => ?_) (fun hK2 => ?_)
  · refine lv_aload_n hx hb dX1_cools_98 rfl (lv_at hl 0 rfl) ?_
    refine lv_dup hx hb dX1_cools_99 rfl ?_
    refine va_get (ci := 2) (C := RX1) (T := TX1) (N := 15) hx hb hts in_X1 hown hK hw.1 0 rfl rfl 12 (by decide) (hts _ q193) (fun _ h9 => h9) rfl dX1_cools_100 ?_
    refine lv_iconst (v := 1) hx hb dX1_cools_103 (by decide) ?_
    refine lv_iadd hx hb dX1_cools_104 ?_
    refine va_put (ci := 2) (v := .int (hmi + 1)) (ty := .int) (C := RX1) (T := TX1) (N := 15) hx hb hts in_X1 tyX1 tyX1_ok nmX1 hown hK hw.1 hw.2.1 hw.2.2 0 rfl rfl 12 (by decide) (hts _ q193) (fun _ h9 => h9) rfl (by decide +kernel) rfl rfl (Nat.le_of_ble_eq_true rfl) dX1_cools_105 (fun H locs hP hD hS => ?_)
    have hw : Wd D A s [oH ha hfl hro hrp hca hwy hla (hmi + 1) htf htk, ((ha 1), .inl (d 0, 6, .inl hHO)), ((ha 2), .inl (d 0, 6, .inl hAT)), ((ha 3), .inl (d 0, 6, .inl hTO)), ((ha 4), .inl (d 0, 6, .inl r1.1)), ((ha 5), .inl (d 0, 6, .inl r1.2)), ((ha 6), .inl (d 0, 6, .inl hRA))] H locs := ⟨hP, hD, hS⟩
    have hf := sm_e hf
    subst hf
    exact x_retV cx hw () trivial [0, 1, 2, 3, 4, 5, 6] rfl rfl (Nat.le_of_ble_eq_true rfl) (Nat.le_of_ble_eq_true rfl) dX1_cools_108
  · refine x_lp hlp2 (fun x2 => [oH ha hfl hro hrp hca hwy hla hmi htf htk, ((ha 1), .inl (d 0, 6, .inl hHO)), ((ha 2), .inl (d 0, 6, .inl hAT)), ((ha 3), .inl (d 0, 6, .inl hTO)), ((ha 4), .inl (d 0, 6, .inl x2.2.1)), ((ha 5), .inl (d 0, 6, .inl x2.2.2)), ((ha 6), .inl (d 0, 6, .inl hRA))]) (fun x2 => [(0, .ref (ha 0)), (1, .int p1), (2, .int x2.1)]) hw (lv_sub hl [1, 2, 0] rfl) (fun x2 y2 hf hin2 hout2 H locs ls hw hl => ?_)
    have hw : Wd D A s [oH ha hfl hro hrp hca hwy hla hmi htf htk, ((ha 1), .inl (d 0, 6, .inl hHO)), ((ha 2), .inl (d 0, 6, .inl hAT)), ((ha 3), .inl (d 0, 6, .inl hTO)), ((ha 4), .inl (d 0, 6, .inl x2.2.1)), ((ha 5), .inl (d 0, 6, .inl x2.2.2)), ((ha 6), .inl (d 0, 6, .inl hRA))] H locs := hw
    have hl : lv_has ls 3 [(0, .ref (ha 0)), (1, .int p1), (2, .int x2.1)] := hl
    refine lv_iload_n hx hb dX1_cools_2 rfl (lv_at hl 2 rfl) ?_
    refine lv_aload_n hx hb dX1_cools_3 rfl (lv_at hl 0 rfl) ?_
    obtain ⟨q2, hcq2, hf⟩ := op_e hf
    refine x_VI (wr := []) (rest := [.int x2.1]) [] hX cx hw hl.1 (mX1_many l  D d cs wi ln lf dk dn him ha hfl hro hrp hca hwy hla hmi htf htk hHO hAT hTO x2.2.1 x2.2.2 hRA q2 hcq2) (lw_V q786 q663 q664 q83 q665) hd_X1_many ⟨(Nat.le_of_ble_eq_true rfl), (Nat.le_of_ble_eq_true rfl)⟩ (va_recv hK hw.1 (ci := 2) (q0 := 0) rfl rfl) rfl rfl (Nat.le_of_ble_eq_true rfl) dX1_cools_4 [0, 1, 2, 3, 4, 5, 6] [] rfl rfl rfl rfl (by decide) ⟨(Nat.le_of_ble_eq_true rfl), (Nat.le_of_ble_eq_true rfl)⟩ (fun r u H locs hp hw => ?_)
    have hw : Wd D A s [oH ha hfl hro hrp hca hwy hla hmi htf htk, ((ha 1), .inl (d 0, 6, .inl hHO)), ((ha 2), .inl (d 0, 6, .inl hAT)), ((ha 3), .inl (d 0, 6, .inl hTO)), ((ha 4), .inl (d 0, 6, .inl x2.2.1)), ((ha 5), .inl (d 0, 6, .inl x2.2.2)), ((ha 6), .inl (d 0, 6, .inl hRA))] H locs := hw
    subst r
    refine lv_icmp_ge (tgt := 98) hx hb dX1_cools_7 (by decide) (fun c7 => ?_) (fun c7 => ?_)
    · have hf := if_t hf c7
      have hf := sm_e hf
      subst hf
      have hz := hout2 _ rfl
      subst hz
      exact hK2 _ _ _ hw (lv_sub hl [0] rfl)
    · have hf := if_f hf c7
      refine lv_aload_n hx hb dX1_cools_10 rfl (lv_at hl 0 rfl) ?_
      refine va_get (ci := 2) (C := RX1) (T := TX1) (N := 15) hx hb hts in_X1 hown hK hw.1 0 rfl rfl 6 (by decide) (hts _ q175) (fun _ h9 => h9) rfl dX1_cools_11 ?_
      refine lv_iload_n hx hb dX1_cools_14 rfl (lv_at hl 2 rfl) ?_
      obtain ⟨v3, hv, hf⟩ := op_e hf
      refine x_iald (q0 := 1) cx hw rfl hv dX1_cools_15 ?_
      refine lv_iconst (v := 2) hx hb dX1_cools_16 (by decide) ?_
      refine lv_icmp_ne (tgt := 23) hx hb dX1_cools_17 (by decide) (fun c17 => ?_) (fun c17 => ?_)
      · have hf := if_f hf c17
        refine lv_aload_n hx hb dX1_cools_23 rfl (lv_at hl 0 rfl) ?_
        refine va_get (ci := 2) (C := RX1) (T := TX1) (N := 15) hx hb hts in_X1 hown hK hw.1 0 rfl rfl 10 (by decide) (hts _ q187) (fun _ h9 => h9) rfl dX1_cools_24 ?_
        refine lv_iload_n hx hb dX1_cools_27 rfl (lv_at hl 2 rfl) ?_
        refine lv_aload_n hx hb dX1_cools_28 rfl (lv_at hl 0 rfl) ?_
        refine lv_iload_n hx hb dX1_cools_29 rfl (lv_at hl 2 rfl) ?_
        obtain ⟨q4, hcq4, hf⟩ := op_e hf
        refine x_VA (wr := []) (rest := [.int x2.1, .ref (ha 5)]) [.int x2.1] hX cx hw hl.1 (mX1_dish l  D d cs wi ln lf dk dn him ha hfl hro hrp hca hwy hla hmi htf htk hHO hAT hTO x2.2.1 x2.2.2 hRA x2.1 q4 hcq4) (lw_V q813 q814 q815 q83 q816) hd_X1_dish ⟨(Nat.le_of_ble_eq_true rfl), (Nat.le_of_ble_eq_true rfl)⟩ (va_recv hK hw.1 (ci := 2) (q0 := 0) rfl rfl) rfl rfl (Nat.le_of_ble_eq_true rfl) dX1_cools_30 [0, 1, 2, 3, 4, 5, 6] [] rfl rfl rfl rfl (by decide) ⟨(Nat.le_of_ble_eq_true rfl), (Nat.le_of_ble_eq_true rfl)⟩ (fun u H locs hp hw => ?_)
        have hw : Wd D A s [oH ha hfl hro hrp hca hwy hla hmi htf htk, ((ha 1), .inl (d 0, 6, .inl hHO)), ((ha 2), .inl (d 0, 6, .inl hAT)), ((ha 3), .inl (d 0, 6, .inl hTO)), ((ha 4), .inl (d 0, 6, .inl x2.2.1)), ((ha 5), .inl (d 0, 6, .inl x2.2.2)), ((ha 6), .inl (d 0, 6, .inl hRA))] H locs := hw
        refine lv_aload_n hx hb dX1_cools_33 rfl (lv_at hl 0 rfl) ?_
        refine va_get (ci := 2) (C := RX1) (T := TX1) (N := 15) hx hb hts in_X1 hown hK hw.1 0 rfl rfl 10 (by decide) (hts _ q187) (fun _ h9 => h9) rfl dX1_cools_34 ?_
        refine lv_iload_n hx hb dX1_cools_37 rfl (lv_at hl 2 rfl) ?_
        obtain ⟨v5, hv, hf⟩ := op_e hf
        refine x_iald (q0 := 5) cx hw rfl hv dX1_cools_38 ?_
        refine lv_aload_n hx hb dX1_cools_39 rfl (lv_at hl 0 rfl) ?_
        refine va_get (ci := 2) (C := RX1) (T := TX1) (N := 15) hx hb hts in_X1 hown hK hw.1 0 rfl rfl 12 (by decide) (hts _ q193) (fun _ h9 => h9) rfl dX1_cools_40 ?_
        obtain ⟨v6, hv, hf⟩ := op_e hf
        refine x_heatBehind him hv cx hw hl.1 q835 ⟨(Nat.le_of_ble_eq_true rfl), (Nat.le_of_ble_eq_true rfl)⟩ (Nat.le_of_ble_eq_true rfl) ⟨(Nat.le_of_ble_eq_true rfl), (Nat.le_of_ble_eq_true rfl)⟩ dX1_cools_43 (fun H locs hw => ?_)
        obtain ⟨w7, hv, hf⟩ := op_e hf
        refine x_iast (q0 := 5) cx hw rfl hv dX1_cools_46 (fun H locs hw => ?_)
        have hw : Wd D A s [oH ha hfl hro hrp hca hwy hla hmi htf htk, ((ha 1), .inl (d 0, 6, .inl hHO)), ((ha 2), .inl (d 0, 6, .inl hAT)), ((ha 3), .inl (d 0, 6, .inl hTO)), ((ha 4), .inl (d 0, 6, .inl x2.2.1)), ((ha 5), .inl (d 0, 6, .inl w7)), ((ha 6), .inl (d 0, 6, .inl hRA))] H locs := hw
        refine lv_aload_n hx hb dX1_cools_47 rfl (lv_at hl 0 rfl) ?_
        refine va_get (ci := 2) (C := RX1) (T := TX1) (N := 15) hx hb hts in_X1 hown hK hw.1 0 rfl rfl 9 (by decide) (hts _ q183) (fun _ h9 => h9) rfl dX1_cools_48 ?_
        refine lv_iload_n hx hb dX1_cools_51 rfl (lv_at hl 2 rfl) ?_
        refine lv_aload_n hx hb dX1_cools_52 rfl (lv_at hl 0 rfl) ?_
        refine lv_iload_n hx hb dX1_cools_53 rfl (lv_at hl 2 rfl) ?_
        obtain ⟨q8, hcq8, hf⟩ := op_e hf
        refine x_VA (wr := []) (rest := [.int x2.1, .ref (ha 4)]) [.int x2.1] hX cx hw hl.1 (mX1_dish l  D d cs wi ln lf dk dn him ha hfl hro hrp hca hwy hla hmi htf htk hHO hAT hTO x2.2.1 w7 hRA x2.1 q8 hcq8) (lw_V q813 q814 q815 q83 q816) hd_X1_dish ⟨(Nat.le_of_ble_eq_true rfl), (Nat.le_of_ble_eq_true rfl)⟩ (va_recv hK hw.1 (ci := 2) (q0 := 0) rfl rfl) rfl rfl (Nat.le_of_ble_eq_true rfl) dX1_cools_54 [0, 1, 2, 3, 4, 5, 6] [] rfl rfl rfl rfl (by decide) ⟨(Nat.le_of_ble_eq_true rfl), (Nat.le_of_ble_eq_true rfl)⟩ (fun u H locs hp hw => ?_)
        have hw : Wd D A s [oH ha hfl hro hrp hca hwy hla hmi htf htk, ((ha 1), .inl (d 0, 6, .inl hHO)), ((ha 2), .inl (d 0, 6, .inl hAT)), ((ha 3), .inl (d 0, 6, .inl hTO)), ((ha 4), .inl (d 0, 6, .inl x2.2.1)), ((ha 5), .inl (d 0, 6, .inl w7)), ((ha 6), .inl (d 0, 6, .inl hRA))] H locs := hw
        refine lv_aload_n hx hb dX1_cools_57 rfl (lv_at hl 0 rfl) ?_
        refine va_get (ci := 2) (C := RX1) (T := TX1) (N := 15) hx hb hts in_X1 hown hK hw.1 0 rfl rfl 9 (by decide) (hts _ q183) (fun _ h9 => h9) rfl dX1_cools_58 ?_
        refine lv_iload_n hx hb dX1_cools_61 rfl (lv_at hl 2 rfl) ?_
        obtain ⟨v9, hv, hf⟩ := op_e hf
        refine x_iald (q0 := 4) cx hw rfl hv dX1_cools_62 ?_
        refine lv_aload_n hx hb dX1_cools_63 rfl (lv_at hl 0 rfl) ?_
        refine va_get (ci := 2) (C := RX1) (T := TX1) (N := 15) hx hb hts in_X1 hown hK hw.1 0 rfl rfl 10 (by decide) (hts _ q187) (fun _ h9 => h9) rfl dX1_cools_64 ?_
        refine lv_iload_n hx hb dX1_cools_67 rfl (lv_at hl 2 rfl) ?_
        obtain ⟨v10, hv, hf⟩ := op_e hf
        refine x_iald (q0 := 5) cx hw rfl hv dX1_cools_68 ?_
        refine lv_iload_n hx hb dX1_cools_69 rfl (lv_at hl 1 rfl) ?_
        obtain ⟨j11, hjA, hjR⟩ := op_e hf
        refine x_join (A := A) (D := D) (J := 88) (nL := 3) (cells' := 0) (slots' := 0) (st := [.int j11, .int v10, .int v9, .ref q8, .int x2.1, .ref (ha 4)]) [oH ha hfl hro hrp hca hwy hla hmi htf htk, ((ha 1), .inl (d 0, 6, .inl hHO)), ((ha 2), .inl (d 0, 6, .inl hAT)), ((ha 3), .inl (d 0, 6, .inl hTO)), ((ha 4), .inl (d 0, 6, .inl x2.2.1)), ((ha 5), .inl (d 0, 6, .inl w7)), ((ha 6), .inl (d 0, 6, .inl hRA))] [(0, .ref (ha 0)), (1, .int p1), (2, .int x2.1)] (fun H locs ls hw hl => ?_) (fun hKj88_j11 => ?_)
        · have hf := hjR
          obtain ⟨v12, hv, hf⟩ := op_e hf
          refine x_weightBehind him hv cx hw hl.1 q852 ⟨(Nat.le_of_ble_eq_true rfl), (Nat.le_of_ble_eq_true rfl)⟩ (Nat.le_of_ble_eq_true rfl) ⟨(Nat.le_of_ble_eq_true rfl), (Nat.le_of_ble_eq_true rfl)⟩ dX1_cools_88 (fun H locs hw => ?_)
          obtain ⟨w13, hv, hf⟩ := op_e hf
          refine x_iast (q0 := 4) cx hw rfl hv dX1_cools_91 (fun H locs hw => ?_)
          have hw : Wd D A s [oH ha hfl hro hrp hca hwy hla hmi htf htk, ((ha 1), .inl (d 0, 6, .inl hHO)), ((ha 2), .inl (d 0, 6, .inl hAT)), ((ha 3), .inl (d 0, 6, .inl hTO)), ((ha 4), .inl (d 0, 6, .inl w13)), ((ha 5), .inl (d 0, 6, .inl w7)), ((ha 6), .inl (d 0, 6, .inl hRA))] H locs := hw
          refine lv_iinc (v := (x2.1 + 1)) (lv' := [(2, .int (x2.1 + 1)), (0, .ref (ha 0)), (1, .int p1)]) hx hb dX1_cools_92 hl (k := 2) rfl (by first | rfl | decide) (by decide) rfl (fun ls hl => ?_)
          refine lv_goto (tgt := 2) hx hb dX1_cools_95 (by decide) ?_
          have hf := sm_e hf
          subst hf
          exact hin2 _ rfl _ _ _ hw (lv_sub hl [1, 2, 0] rfl)
        · have hf := hjA
          refine lv_if_eq (tgt := 87) hx hb dX1_cools_70 (by decide) (fun c70 => ?_) (fun c70 => ?_)
          · have hf := if_t hf c70
            refine lv_iconst (v := 0) hx hb dX1_cools_87 (by decide) ?_
            have hf := sm_e hf
            subst hf
            exact hKj88_j11 _ _ _ hw hl
          · have hf := if_f hf c70
            refine lv_aload_n hx hb dX1_cools_73 rfl (lv_at hl 0 rfl) ?_
            refine va_get (ci := 2) (C := RX1) (T := TX1) (N := 15) hx hb hts in_X1 hown hK hw.1 0 rfl rfl 6 (by decide) (hts _ q175) (fun _ h9 => h9) rfl dX1_cools_74 ?_
            refine lv_iload_n hx hb dX1_cools_77 rfl (lv_at hl 2 rfl) ?_
            obtain ⟨v14, hv, hf⟩ := op_e hf
            refine x_iald (q0 := 1) cx hw rfl hv dX1_cools_78 ?_
            refine lv_iconst (v := 1) hx hb dX1_cools_79 (by decide) ?_
            refine lv_icmp_ne (tgt := 87) hx hb dX1_cools_80 (by decide) (fun c80 => ?_) (fun c80 => ?_)
            · have hf := if_f hf c80
              refine lv_iconst (v := 0) hx hb dX1_cools_87 (by decide) ?_
              have hf := sm_e hf
              subst hf
              exact hKj88_j11 _ _ _ hw hl
            · have hf := if_t hf c80
              refine lv_iconst (v := 1) hx hb dX1_cools_83 (by decide) ?_
              refine lv_goto (tgt := 88) hx hb dX1_cools_84 (by decide) ?_
              have hf := sm_e hf
              subst hf
              exact hKj88_j11 _ _ _ hw hl
      · have hf := if_t hf c17
        refine lv_goto (tgt := 92) hx hb dX1_cools_20 (by decide) ?_
        refine lv_iinc (v := (x2.1 + 1)) (lv' := [(2, .int (x2.1 + 1)), (0, .ref (ha 0)), (1, .int p1)]) hx hb dX1_cools_92 hl (k := 2) rfl (by first | rfl | decide) (by decide) rfl (fun ls hl => ?_)
        refine lv_goto (tgt := 2) hx hb dX1_cools_95 (by decide) ?_
        have hf := sm_e hf
        subst hf
        exact hin2 _ rfl _ _ _ hw (lv_sub hl [1, 2, 0] rfl)
theorem hd_X1_pass : yX1_pass.cls = "DishLift$House" ∧ yX1_pass.cls ≠ "java/lang/invoke/MethodHandle" ∧ yX1_pass.cls ≠ "java/lang/invoke/VarHandle" ∧ (parseMethodDescriptor yX1_pass.desc).map (fun d => d.parameters.length) = some 0 := by decide +kernel
set_option maxHeartbeats 4000000 in
theorem mX1_pass (l : Launch)  (D : va_G) (d : Nat → ClassId) (cs : Nat → Nat) (wi : va_W) (ln : Nat → Option Int32) (lf : Nat → Nat → Option Nat) (dk : Nat → Option Nat) (dn : Nat → Int32) (him : ImF d wi ln lf dk dn) (ha : Nat → Nat) (hfl : Int32) (hro : Int32) (hrp : Int32) (hca : Int32) (hwy : Int32) (hla : Nat) (hmi : Int32) (htf : Int32) (htk : Option Nat) (hHO : Nat → Int32) (hAT : Nat → Int32) (hTO : Nat → Int32) (hWE : Nat → Int32) (hHE : Nat → Int32) (hRA : Nat → Int32)  (res : Int32 × Int32 × Int32 × (Nat → Int32) × (Nat → Int32) × (Nat → Int32)) (hf : fX1_pass ln lf dk hro hrp hca hwy hla hmi htf htk hHO hAT hTO hWE hHE hRA = some res) : MetA l yX1_pass (ws_ yX1_pass cX1_pass 1 (some (.object "DishLift$House"))) { frames := 5, cells := 0, slots := 0, locals := 163 } [.ref (ha 0)] (XI D cs wi) D d [oH ha hfl hro hrp hca hwy hla hmi htf htk, ((ha 1), .inl (d 0, 6, .inl hHO)), ((ha 2), .inl (d 0, 6, .inl hAT)), ((ha 3), .inl (d 0, 6, .inl hTO)), ((ha 4), .inl (d 0, 6, .inl hWE)), ((ha 5), .inl (d 0, 6, .inl hHE)), ((ha 6), .inl (d 0, 6, .inl hRA))] (ha 0) (fun (_ : Unit) => True) (fun _ => [oH ha hfl hro hrp res.1 res.2.1 hla res.2.2.1 htf htk, ((ha 1), .inl (d 0, 6, .inl res.2.2.2.1)), ((ha 2), .inl (d 0, 6, .inl hAT)), ((ha 3), .inl (d 0, 6, .inl hTO)), ((ha 4), .inl (d 0, 6, .inl res.2.2.2.2.1)), ((ha 5), .inl (d 0, 6, .inl res.2.2.2.2.2)), ((ha 6), .inl (d 0, 6, .inl hRA))]) := by
  have hX := XI.ok (D := D) (cs := cs) (wi := wi)
  refine MetA.of (by decide +kernel) (Nat.le_of_ble_eq_true rfl) ?_
  intro p e s m below meth c A cx hw ls hl
  have cx : Cx p s m _ meth c (XI D cs wi) D d A "DishLift$House" cX1_pass 1 (some (.object "DishLift$House")) "pass" := cx
  have cx' := cx
  obtain ⟨hx, hb, hr, hlk, hml, hown, hts, hK, hA, hXs, hnm⟩ := cx'
  have hl : lv_has ls 1 [(0, .ref (ha 0))] := hl
  unfold fX1_pass at hf
  refine lv_aload_n hx hb dX1_pass_0 rfl (lv_at hl 0 rfl) ?_
  obtain ⟨q1, hcq1, hf⟩ := op_e hf
  refine x_VV (wr := []) (rest := []) [] hX cx hw hl.1 (mX1_stops l  D d cs wi ln lf dk dn him ha hfl hro hrp hca hwy hla hmi htf htk hHO hAT hTO hWE hHE hRA q1 hcq1) (lw_V q782 q784 qs19 q83 q785) hd_X1_stops ⟨(Nat.le_of_ble_eq_true rfl), (Nat.le_of_ble_eq_true rfl)⟩ (va_recv hK hw.1 (ci := 2) (q0 := 0) rfl rfl) rfl rfl (Nat.le_of_ble_eq_true rfl) dX1_pass_1 [0, 1, 2, 3, 4, 5, 6] [] rfl rfl rfl rfl (by decide) ⟨(Nat.le_of_ble_eq_true rfl), (Nat.le_of_ble_eq_true rfl)⟩ (fun u H locs hp hw => ?_)
  have hw : Wd D A s [oH ha hfl hro hrp hca hwy hla hmi htf htk, ((ha 1), .inl (d 0, 6, .inl q1)), ((ha 2), .inl (d 0, 6, .inl hAT)), ((ha 3), .inl (d 0, 6, .inl hTO)), ((ha 4), .inl (d 0, 6, .inl hWE)), ((ha 5), .inl (d 0, 6, .inl hHE)), ((ha 6), .inl (d 0, 6, .inl hRA))] H locs := hw
  refine lv_aload_n hx hb dX1_pass_4 rfl (lv_at hl 0 rfl) ?_
  refine lv_aload_n hx hb dX1_pass_5 rfl (lv_at hl 0 rfl) ?_
  obtain ⟨q2, hcq2, hf⟩ := op_e hf
  refine x_VI (wr := []) (rest := [.ref (ha 0)]) [] hX cx hw hl.1 (mX1_goes l  D d cs wi ln lf dk dn him ha hfl hro hrp hca hwy hla hmi htf htk q1 hAT hTO hWE hHE hRA q2 hcq2) (lw_V q801 q803 qs20 q83 q804) hd_X1_goes ⟨(Nat.le_of_ble_eq_true rfl), (Nat.le_of_ble_eq_true rfl)⟩ (va_recv hK hw.1 (ci := 2) (q0 := 0) rfl rfl) rfl rfl (Nat.le_of_ble_eq_true rfl) dX1_pass_6 [0, 1, 2, 3, 4, 5, 6] [] rfl rfl rfl rfl (by decide) ⟨(Nat.le_of_ble_eq_true rfl), (Nat.le_of_ble_eq_true rfl)⟩ (fun r u H locs hp hw => ?_)
  have hw : Wd D A s [oH ha hfl hro hrp q2.2.1 q2.2.2 hla hmi htf htk, ((ha 1), .inl (d 0, 6, .inl q1)), ((ha 2), .inl (d 0, 6, .inl hAT)), ((ha 3), .inl (d 0, 6, .inl hTO)), ((ha 4), .inl (d 0, 6, .inl hWE)), ((ha 5), .inl (d 0, 6, .inl hHE)), ((ha 6), .inl (d 0, 6, .inl hRA))] H locs := hw
  subst r
  obtain ⟨q3, hcq3, hf⟩ := op_e hf
  refine x_VV (wr := []) (rest := []) [.int q2.1] hX cx hw hl.1 (mX1_cools l  D d cs wi ln lf dk dn him ha hfl hro hrp q2.2.1 q2.2.2 hla hmi htf htk q1 hAT hTO hWE hHE hRA q2.1 q3 hcq3) (lw_V q809 q811 qs21 q83 q812) hd_X1_cools ⟨(Nat.le_of_ble_eq_true rfl), (Nat.le_of_ble_eq_true rfl)⟩ (va_recv hK hw.1 (ci := 2) (q0 := 0) rfl rfl) rfl rfl (Nat.le_of_ble_eq_true rfl) dX1_pass_9 [0, 1, 2, 3, 4, 5, 6] [] rfl rfl rfl rfl (by decide) ⟨(Nat.le_of_ble_eq_true rfl), (Nat.le_of_ble_eq_true rfl)⟩ (fun u H locs hp hw => ?_)
  have hw : Wd D A s [oH ha hfl hro hrp q2.2.1 q2.2.2 hla q3.1 htf htk, ((ha 1), .inl (d 0, 6, .inl q1)), ((ha 2), .inl (d 0, 6, .inl hAT)), ((ha 3), .inl (d 0, 6, .inl hTO)), ((ha 4), .inl (d 0, 6, .inl q3.2.1)), ((ha 5), .inl (d 0, 6, .inl q3.2.2)), ((ha 6), .inl (d 0, 6, .inl hRA))] H locs := hw
  refine lv_aload_n hx hb dX1_pass_12 rfl (lv_at hl 0 rfl) ?_
  have hf := sm_e hf
  subst hf
  exact x_retA cx hw (Or.inl ⟨_, rfl⟩) () trivial [0, 1, 2, 3, 4, 5, 6] rfl rfl (Nat.le_of_ble_eq_true rfl) (Nat.le_of_ble_eq_true rfl) dX1_pass_13
theorem hd_X1_sticks : yX1_sticks.cls = "DishLift$House" ∧ yX1_sticks.cls ≠ "java/lang/invoke/MethodHandle" ∧ yX1_sticks.cls ≠ "java/lang/invoke/VarHandle" ∧ (parseMethodDescriptor yX1_sticks.desc).map (fun d => d.parameters.length) = some 0 := by decide +kernel
set_option maxHeartbeats 4000000 in
theorem mX1_sticks (l : Launch)  (D : va_G) (d : Nat → ClassId) (cs : Nat → Nat) (wi : va_W) (ln : Nat → Option Int32) (lf : Nat → Nat → Option Nat) (dk : Nat → Option Nat) (dn : Nat → Int32) (him : ImF d wi ln lf dk dn) (ha : Nat → Nat) (hfl : Int32) (hro : Int32) (hrp : Int32) (hca : Int32) (hwy : Int32) (hla : Nat) (hmi : Int32) (htf : Int32) (htk : Option Nat) (hHO : Nat → Int32) (hAT : Nat → Int32) (hTO : Nat → Int32) (hWE : Nat → Int32) (hHE : Nat → Int32) (hRA : Nat → Int32)  (res : Int32 × (Nat → Int32) × (Nat → Int32)) (hf : fX1_sticks ln lf dk hla hmi htf htk hHO hWE hHE = some res) : MetA l yX1_sticks (ws_ yX1_sticks cX1_sticks 1 (some (.object "DishLift$House"))) { frames := 5, cells := 0, slots := 0, locals := 163 } [.ref (ha 0)] (XI D cs wi) D d [oH ha hfl hro hrp hca hwy hla hmi htf htk, ((ha 1), .inl (d 0, 6, .inl hHO)), ((ha 2), .inl (d 0, 6, .inl hAT)), ((ha 3), .inl (d 0, 6, .inl hTO)), ((ha 4), .inl (d 0, 6, .inl hWE)), ((ha 5), .inl (d 0, 6, .inl hHE)), ((ha 6), .inl (d 0, 6, .inl hRA))] (ha 0) (fun (_ : Unit) => True) (fun _ => [oH ha hfl hro hrp hca hwy hla res.1 htf htk, ((ha 1), .inl (d 0, 6, .inl hHO)), ((ha 2), .inl (d 0, 6, .inl hAT)), ((ha 3), .inl (d 0, 6, .inl hTO)), ((ha 4), .inl (d 0, 6, .inl res.2.1)), ((ha 5), .inl (d 0, 6, .inl res.2.2)), ((ha 6), .inl (d 0, 6, .inl hRA))]) := by
  have hX := XI.ok (D := D) (cs := cs) (wi := wi)
  refine MetA.of (by decide +kernel) (Nat.le_of_ble_eq_true rfl) ?_
  intro p e s m below meth c A cx hw ls hl
  have cx : Cx p s m _ meth c (XI D cs wi) D d A "DishLift$House" cX1_sticks 1 (some (.object "DishLift$House")) "sticks" := cx
  have cx' := cx
  obtain ⟨hx, hb, hr, hlk, hml, hown, hts, hK, hA, hXs, hnm⟩ := cx'
  have hl : lv_has ls 1 [(0, .ref (ha 0))] := hl
  unfold fX1_sticks at hf
  refine lv_aload_n hx hb dX1_sticks_0 rfl (lv_at hl 0 rfl) ?_
  refine lv_iconst (v := 0) hx hb dX1_sticks_1 (by decide) ?_
  obtain ⟨q1, hcq1, hf⟩ := op_e hf
  refine x_VV (wr := []) (rest := []) [.int 0] hX cx hw hl.1 (mX1_cools l  D d cs wi ln lf dk dn him ha hfl hro hrp hca hwy hla hmi htf htk hHO hAT hTO hWE hHE hRA 0 q1 hcq1) (lw_V q809 q811 qs21 q83 q812) hd_X1_cools ⟨(Nat.le_of_ble_eq_true rfl), (Nat.le_of_ble_eq_true rfl)⟩ (va_recv hK hw.1 (ci := 2) (q0 := 0) rfl rfl) rfl rfl (Nat.le_of_ble_eq_true rfl) dX1_sticks_2 [0, 1, 2, 3, 4, 5, 6] [] rfl rfl rfl rfl (by decide) ⟨(Nat.le_of_ble_eq_true rfl), (Nat.le_of_ble_eq_true rfl)⟩ (fun u H locs hp hw => ?_)
  have hw : Wd D A s [oH ha hfl hro hrp hca hwy hla q1.1 htf htk, ((ha 1), .inl (d 0, 6, .inl hHO)), ((ha 2), .inl (d 0, 6, .inl hAT)), ((ha 3), .inl (d 0, 6, .inl hTO)), ((ha 4), .inl (d 0, 6, .inl q1.2.1)), ((ha 5), .inl (d 0, 6, .inl q1.2.2)), ((ha 6), .inl (d 0, 6, .inl hRA))] H locs := hw
  refine lv_aload_n hx hb dX1_sticks_5 rfl (lv_at hl 0 rfl) ?_
  have hf := sm_e hf
  subst hf
  exact x_retA cx hw (Or.inl ⟨_, rfl⟩) () trivial [0, 1, 2, 3, 4, 5, 6] rfl rfl (Nat.le_of_ble_eq_true rfl) (Nat.le_of_ble_eq_true rfl) dX1_sticks_6
theorem hd_X1_fine : yX1_fine.cls = "DishLift$House" ∧ yX1_fine.cls ≠ "java/lang/invoke/MethodHandle" ∧ yX1_fine.cls ≠ "java/lang/invoke/VarHandle" ∧ (parseMethodDescriptor yX1_fine.desc).map (fun d => d.parameters.length) = some 0 := by decide +kernel
set_option maxHeartbeats 4000000 in
theorem mX1_fine (l : Launch)  (D : va_G) (d : Nat → ClassId) (cs : Nat → Nat) (wi : va_W) (ln : Nat → Option Int32) (lf : Nat → Nat → Option Nat) (dk : Nat → Option Nat) (dn : Nat → Int32) (him : ImF d wi ln lf dk dn) (ha : Nat → Nat) (hfl : Int32) (hro : Int32) (hrp : Int32) (hca : Int32) (hwy : Int32) (hla : Nat) (hmi : Int32) (htf : Int32) (htk : Option Nat) (hHO : Nat → Int32) (hAT : Nat → Int32) (hTO : Nat → Int32) (hWE : Nat → Int32) (hHE : Nat → Int32) (hRA : Nat → Int32)  (res : Int32) (hf : fX1_fine ln lf dk hla htf htk hHO hHE = some res) : MetI l yX1_fine (ws_ yX1_fine cX1_fine 3 (some .int)) { frames := 4, cells := 0, slots := 0, locals := 141 } [.ref (ha 0)] (XI D cs wi) D d [oH ha hfl hro hrp hca hwy hla hmi htf htk, ((ha 1), .inl (d 0, 6, .inl hHO)), ((ha 2), .inl (d 0, 6, .inl hAT)), ((ha 3), .inl (d 0, 6, .inl hTO)), ((ha 4), .inl (d 0, 6, .inl hWE)), ((ha 5), .inl (d 0, 6, .inl hHE)), ((ha 6), .inl (d 0, 6, .inl hRA))] (fun r (_ : Unit) => r = res) (fun _ => [oH ha hfl hro hrp hca hwy hla hmi htf htk, ((ha 1), .inl (d 0, 6, .inl hHO)), ((ha 2), .inl (d 0, 6, .inl hAT)), ((ha 3), .inl (d 0, 6, .inl hTO)), ((ha 4), .inl (d 0, 6, .inl hWE)), ((ha 5), .inl (d 0, 6, .inl hHE)), ((ha 6), .inl (d 0, 6, .inl hRA))]) := by
  have hX := XI.ok (D := D) (cs := cs) (wi := wi)
  refine MetI.of (by decide +kernel) (Nat.le_of_ble_eq_true rfl) ?_
  intro p e s m below meth c A cx hw ls hl
  have cx : Cx p s m _ meth c (XI D cs wi) D d A "DishLift$House" cX1_fine 3 (some .int) "fine" := cx
  have cx' := cx
  obtain ⟨hx, hb, hr, hlk, hml, hown, hts, hK, hA, hXs, hnm⟩ := cx'
  have hl : lv_has ls 3 [(0, .ref (ha 0))] := hl
  unfold fX1_fine at hf
  refine lv_iconst (v := 0) hx hb dX1_fine_0 (by decide) ?_
  refine lv_istore_n (lv' := [(1, .int 0), (0, .ref (ha 0))]) hx hb dX1_fine_1 rfl hl (by decide) rfl (fun ls hl => ?_)
  refine lv_iconst (v := 0) hx hb dX1_fine_2 (by decide) ?_
  refine lv_istore_n (lv' := [(2, .int 0), (1, .int 0), (0, .ref (ha 0))]) hx hb dX1_fine_3 rfl hl (by decide) rfl (fun ls hl => ?_)
  obtain ⟨r1, hlp4, hf⟩ := op_e hf
  refine x_join (A := A) (D := D) (J := 55) (nL := 3) (cells' := 0) (slots' := 0) (st := []) [oH ha hfl hro hrp hca hwy hla hmi htf htk, ((ha 1), .inl (d 0, 6, .inl hHO)), ((ha 2), .inl (d 0, 6, .inl hAT)), ((ha 3), .inl (d 0, 6, .inl hTO)), ((ha 4), .inl (d 0, 6, .inl hWE)), ((ha 5), .inl (d 0, 6, .inl hHE)), ((ha 6), .inl (d 0, 6, .inl hRA))] [(1, .int r1)] (fun H locs ls hw hl => ?_) (fun hK4 => ?_)
  · refine lv_iload_n hx hb dX1_fine_55 rfl (lv_at hl 0 rfl) ?_
    have hf := sm_e hf
    subst hf
    exact x_retI cx hw rfl () rfl [0, 1, 2, 3, 4, 5, 6] rfl rfl (Nat.le_of_ble_eq_true rfl) (Nat.le_of_ble_eq_true rfl) dX1_fine_56
  · refine x_lp hlp4 (fun x4 => [oH ha hfl hro hrp hca hwy hla hmi htf htk, ((ha 1), .inl (d 0, 6, .inl hHO)), ((ha 2), .inl (d 0, 6, .inl hAT)), ((ha 3), .inl (d 0, 6, .inl hTO)), ((ha 4), .inl (d 0, 6, .inl hWE)), ((ha 5), .inl (d 0, 6, .inl hHE)), ((ha 6), .inl (d 0, 6, .inl hRA))]) (fun x4 => [(0, .ref (ha 0)), (1, .int x4.1), (2, .int x4.2)]) hw (lv_sub hl [2, 1, 0] rfl) (fun x4 y4 hf hin4 hout4 H locs ls hw hl => ?_)
    have hw : Wd D A s [oH ha hfl hro hrp hca hwy hla hmi htf htk, ((ha 1), .inl (d 0, 6, .inl hHO)), ((ha 2), .inl (d 0, 6, .inl hAT)), ((ha 3), .inl (d 0, 6, .inl hTO)), ((ha 4), .inl (d 0, 6, .inl hWE)), ((ha 5), .inl (d 0, 6, .inl hHE)), ((ha 6), .inl (d 0, 6, .inl hRA))] H locs := hw
    have hl : lv_has ls 3 [(0, .ref (ha 0)), (1, .int x4.1), (2, .int x4.2)] := hl
    refine lv_iload_n hx hb dX1_fine_4 rfl (lv_at hl 2 rfl) ?_
    refine lv_aload_n hx hb dX1_fine_5 rfl (lv_at hl 0 rfl) ?_
    obtain ⟨q2, hcq2, hf⟩ := op_e hf
    refine x_VI (wr := []) (rest := [.int x4.2]) [] hX cx hw hl.1 (mX1_many l  D d cs wi ln lf dk dn him ha hfl hro hrp hca hwy hla hmi htf htk hHO hAT hTO hWE hHE hRA q2 hcq2) (lw_V q786 q663 q664 q83 q665) hd_X1_many ⟨(Nat.le_of_ble_eq_true rfl), (Nat.le_of_ble_eq_true rfl)⟩ (va_recv hK hw.1 (ci := 2) (q0 := 0) rfl rfl) rfl rfl (Nat.le_of_ble_eq_true rfl) dX1_fine_6 [0, 1, 2, 3, 4, 5, 6] [] rfl rfl rfl rfl (by decide) ⟨(Nat.le_of_ble_eq_true rfl), (Nat.le_of_ble_eq_true rfl)⟩ (fun r u H locs hp hw => ?_)
    have hw : Wd D A s [oH ha hfl hro hrp hca hwy hla hmi htf htk, ((ha 1), .inl (d 0, 6, .inl hHO)), ((ha 2), .inl (d 0, 6, .inl hAT)), ((ha 3), .inl (d 0, 6, .inl hTO)), ((ha 4), .inl (d 0, 6, .inl hWE)), ((ha 5), .inl (d 0, 6, .inl hHE)), ((ha 6), .inl (d 0, 6, .inl hRA))] H locs := hw
    subst r
    refine lv_icmp_ge (tgt := 55) hx hb dX1_fine_9 (by decide) (fun c9 => ?_) (fun c9 => ?_)
    · have hf := if_t hf c9
      have hf := sm_e hf
      subst hf
      have hz := hout4 _ rfl
      subst hz
      exact hK4 _ _ _ hw (lv_sub hl [1] rfl)
    · have hf := if_f hf c9
      refine lv_iload_n hx hb dX1_fine_12 rfl (lv_at hl 1 rfl) ?_
      refine lv_aload_n hx hb dX1_fine_13 rfl (lv_at hl 0 rfl) ?_
      refine va_get (ci := 2) (C := RX1) (T := TX1) (N := 15) hx hb hts in_X1 hown hK hw.1 0 rfl rfl 6 (by decide) (hts _ q175) (fun _ h9 => h9) rfl dX1_fine_14 ?_
      refine lv_iload_n hx hb dX1_fine_17 rfl (lv_at hl 2 rfl) ?_
      obtain ⟨v3, hv, hf⟩ := op_e hf
      refine x_iald (q0 := 1) cx hw rfl hv dX1_fine_18 ?_
      refine lv_iconst (v := 2) hx hb dX1_fine_19 (by decide) ?_
      refine lv_icmp_ne (tgt := 46) hx hb dX1_fine_20 (by decide) (fun c20 => ?_) (fun c20 => ?_)
      · have hf := if_f hf c20
        refine lv_iconst (v := 0) hx hb dX1_fine_46 (by decide) ?_
        refine lv_ior hx hb dX1_fine_47 ?_
        refine lv_istore_n (lv' := [(1, .int (x4.1 ||| 0)), (0, .ref (ha 0)), (2, .int x4.2)]) hx hb dX1_fine_48 rfl hl (by decide) rfl (fun ls hl => ?_)
        refine lv_iinc (v := (x4.2 + 1)) (lv' := [(2, .int (x4.2 + 1)), (1, .int (x4.1 ||| 0)), (0, .ref (ha 0))]) hx hb dX1_fine_49 hl (k := 2) rfl (by first | rfl | decide) (by decide) rfl (fun ls hl => ?_)
        refine lv_goto (tgt := 4) hx hb dX1_fine_52 (by decide) ?_
        have hf := sm_e hf
        subst hf
        exact hin4 _ rfl _ _ _ hw (lv_sub hl [2, 1, 0] rfl)
      · have hf := if_t hf c20
        refine lv_aload_n hx hb dX1_fine_23 rfl (lv_at hl 0 rfl) ?_
        refine lv_iload_n hx hb dX1_fine_24 rfl (lv_at hl 2 rfl) ?_
        obtain ⟨q4, hcq4, hf⟩ := op_e hf
        refine x_VA (wr := []) (rest := [.int x4.1]) [.int x4.2] hX cx hw hl.1 (mX1_dish l  D d cs wi ln lf dk dn him ha hfl hro hrp hca hwy hla hmi htf htk hHO hAT hTO hWE hHE hRA x4.2 q4 hcq4) (lw_V q813 q814 q815 q83 q816) hd_X1_dish ⟨(Nat.le_of_ble_eq_true rfl), (Nat.le_of_ble_eq_true rfl)⟩ (va_recv hK hw.1 (ci := 2) (q0 := 0) rfl rfl) rfl rfl (Nat.le_of_ble_eq_true rfl) dX1_fine_25 [0, 1, 2, 3, 4, 5, 6] [] rfl rfl rfl rfl (by decide) ⟨(Nat.le_of_ble_eq_true rfl), (Nat.le_of_ble_eq_true rfl)⟩ (fun u H locs hp hw => ?_)
        have hw : Wd D A s [oH ha hfl hro hrp hca hwy hla hmi htf htk, ((ha 1), .inl (d 0, 6, .inl hHO)), ((ha 2), .inl (d 0, 6, .inl hAT)), ((ha 3), .inl (d 0, 6, .inl hTO)), ((ha 4), .inl (d 0, 6, .inl hWE)), ((ha 5), .inl (d 0, 6, .inl hHE)), ((ha 6), .inl (d 0, 6, .inl hRA))] H locs := hw
        refine lv_aload_n hx hb dX1_fine_28 rfl (lv_at hl 0 rfl) ?_
        refine va_get (ci := 2) (C := RX1) (T := TX1) (N := 15) hx hb hts in_X1 hown hK hw.1 0 rfl rfl 10 (by decide) (hts _ q187) (fun _ h9 => h9) rfl dX1_fine_29 ?_
        refine lv_iload_n hx hb dX1_fine_32 rfl (lv_at hl 2 rfl) ?_
        obtain ⟨v5, hv, hf⟩ := op_e hf
        refine x_iald (q0 := 5) cx hw rfl hv dX1_fine_33 ?_
        obtain ⟨v6, hv, hf⟩ := op_e hf
        refine x_isGood him hv cx hw hl.1 q965 ⟨(Nat.le_of_ble_eq_true rfl), (Nat.le_of_ble_eq_true rfl)⟩ (Nat.le_of_ble_eq_true rfl) ⟨(Nat.le_of_ble_eq_true rfl), (Nat.le_of_ble_eq_true rfl)⟩ dX1_fine_34 (fun H locs hw => ?_)
        refine lv_if_eq (tgt := 46) hx hb dX1_fine_37 (by decide) (fun c37 => ?_) (fun c37 => ?_)
        · have hf := if_t hf c37
          refine lv_iconst (v := 0) hx hb dX1_fine_46 (by decide) ?_
          refine lv_ior hx hb dX1_fine_47 ?_
          refine lv_istore_n (lv' := [(1, .int (x4.1 ||| 0)), (0, .ref (ha 0)), (2, .int x4.2)]) hx hb dX1_fine_48 rfl hl (by decide) rfl (fun ls hl => ?_)
          refine lv_iinc (v := (x4.2 + 1)) (lv' := [(2, .int (x4.2 + 1)), (1, .int (x4.1 ||| 0)), (0, .ref (ha 0))]) hx hb dX1_fine_49 hl (k := 2) rfl (by first | rfl | decide) (by decide) rfl (fun ls hl => ?_)
          refine lv_goto (tgt := 4) hx hb dX1_fine_52 (by decide) ?_
          have hf := sm_e hf
          subst hf
          exact hin4 _ rfl _ _ _ hw (lv_sub hl [2, 1, 0] rfl)
        · have hf := if_f hf c37
          refine lv_iconst (v := 1) hx hb dX1_fine_40 (by decide) ?_
          refine lv_iload_n hx hb dX1_fine_41 rfl (lv_at hl 2 rfl) ?_
          refine lv_ishl hx hb dX1_fine_42 ?_
          refine lv_goto (tgt := 47) hx hb dX1_fine_43 (by decide) ?_
          refine lv_ior hx hb dX1_fine_47 ?_
          refine lv_istore_n (lv' := [(1, .int (x4.1 ||| ((1 : Int32) <<< (x4.2 &&& 31)))), (0, .ref (ha 0)), (2, .int x4.2)]) hx hb dX1_fine_48 rfl hl (by decide) rfl (fun ls hl => ?_)
          refine lv_iinc (v := (x4.2 + 1)) (lv' := [(2, .int (x4.2 + 1)), (1, .int (x4.1 ||| ((1 : Int32) <<< (x4.2 &&& 31)))), (0, .ref (ha 0))]) hx hb dX1_fine_49 hl (k := 2) rfl (by first | rfl | decide) (by decide) rfl (fun ls hl => ?_)
          refine lv_goto (tgt := 4) hx hb dX1_fine_52 (by decide) ?_
          have hf := sm_e hf
          subst hf
          exact hin4 _ rfl _ _ _ hw (lv_sub hl [2, 1, 0] rfl)
theorem hd_X1_isDone : yX1_isDone.cls = "DishLift$House" ∧ yX1_isDone.cls ≠ "java/lang/invoke/MethodHandle" ∧ yX1_isDone.cls ≠ "java/lang/invoke/VarHandle" ∧ (parseMethodDescriptor yX1_isDone.desc).map (fun d => d.parameters.length) = some 0 := by decide +kernel
set_option maxHeartbeats 4000000 in
theorem mX1_isDone (l : Launch)  (D : va_G) (d : Nat → ClassId) (cs : Nat → Nat) (wi : va_W) (ln : Nat → Option Int32) (lf : Nat → Nat → Option Nat) (dk : Nat → Option Nat) (dn : Nat → Int32) (him : ImF d wi ln lf dk dn) (ha : Nat → Nat) (hfl : Int32) (hro : Int32) (hrp : Int32) (hca : Int32) (hwy : Int32) (hla : Nat) (hmi : Int32) (htf : Int32) (htk : Option Nat) (hHO : Nat → Int32) (hAT : Nat → Int32) (hTO : Nat → Int32) (hWE : Nat → Int32) (hHE : Nat → Int32) (hRA : Nat → Int32)  (res : Int32) (hf : fX1_isDone ln hla hHO = some res) : MetI l yX1_isDone (ws_ yX1_isDone cX1_isDone 1 (some .boolean)) { frames := 3, cells := 0, slots := 0, locals := 83 } [.ref (ha 0)] (XI D cs wi) D d [oH ha hfl hro hrp hca hwy hla hmi htf htk, ((ha 1), .inl (d 0, 6, .inl hHO)), ((ha 2), .inl (d 0, 6, .inl hAT)), ((ha 3), .inl (d 0, 6, .inl hTO)), ((ha 4), .inl (d 0, 6, .inl hWE)), ((ha 5), .inl (d 0, 6, .inl hHE)), ((ha 6), .inl (d 0, 6, .inl hRA))] (fun r (_ : Unit) => r = res) (fun _ => [oH ha hfl hro hrp hca hwy hla hmi htf htk, ((ha 1), .inl (d 0, 6, .inl hHO)), ((ha 2), .inl (d 0, 6, .inl hAT)), ((ha 3), .inl (d 0, 6, .inl hTO)), ((ha 4), .inl (d 0, 6, .inl hWE)), ((ha 5), .inl (d 0, 6, .inl hHE)), ((ha 6), .inl (d 0, 6, .inl hRA))]) := by
  have hX := XI.ok (D := D) (cs := cs) (wi := wi)
  refine MetI.of (by decide +kernel) (Nat.le_of_ble_eq_true rfl) ?_
  intro p e s m below meth c A cx hw ls hl
  have cx : Cx p s m _ meth c (XI D cs wi) D d A "DishLift$House" cX1_isDone 1 (some .boolean) "isDone" := cx
  have cx' := cx
  obtain ⟨hx, hb, hr, hlk, hml, hown, hts, hK, hA, hXs, hnm⟩ := cx'
  have hl : lv_has ls 1 [(0, .ref (ha 0))] := hl
  unfold fX1_isDone at hf
  refine lv_aload_n hx hb dX1_isDone_0 rfl (lv_at hl 0 rfl) ?_
  refine lv_iconst (v := 2) hx hb dX1_isDone_1 (by decide) ?_
  obtain ⟨q1, hcq1, hf⟩ := op_e hf
  refine x_VI (wr := []) (rest := []) [.int 2] hX cx hw hl.1 (mX1_areSo l  D d cs wi ln lf dk dn him ha hfl hro hrp hca hwy hla hmi htf htk hHO hAT hTO hWE hHE hRA 2 q1 hcq1) (lw_V q787 q788 q789 q83 q790) hd_X1_areSo ⟨(Nat.le_of_ble_eq_true rfl), (Nat.le_of_ble_eq_true rfl)⟩ (va_recv hK hw.1 (ci := 2) (q0 := 0) rfl rfl) rfl rfl (Nat.le_of_ble_eq_true rfl) dX1_isDone_2 [0, 1, 2, 3, 4, 5, 6] [] rfl rfl rfl rfl (by decide) ⟨(Nat.le_of_ble_eq_true rfl), (Nat.le_of_ble_eq_true rfl)⟩ (fun r u H locs hp hw => ?_)
  have hw : Wd D A s [oH ha hfl hro hrp hca hwy hla hmi htf htk, ((ha 1), .inl (d 0, 6, .inl hHO)), ((ha 2), .inl (d 0, 6, .inl hAT)), ((ha 3), .inl (d 0, 6, .inl hTO)), ((ha 4), .inl (d 0, 6, .inl hWE)), ((ha 5), .inl (d 0, 6, .inl hHE)), ((ha 6), .inl (d 0, 6, .inl hRA))] H locs := hw
  subst r
  refine lv_iconst (v := 1) hx hb dX1_isDone_5 (by decide) ?_
  refine lv_aload_n hx hb dX1_isDone_6 rfl (lv_at hl 0 rfl) ?_
  obtain ⟨q2, hcq2, hf⟩ := op_e hf
  refine x_VI (wr := []) (rest := [.int 1, .int q1]) [] hX cx hw hl.1 (mX1_many l  D d cs wi ln lf dk dn him ha hfl hro hrp hca hwy hla hmi htf htk hHO hAT hTO hWE hHE hRA q2 hcq2) (lw_V q786 q663 q664 q83 q665) hd_X1_many ⟨(Nat.le_of_ble_eq_true rfl), (Nat.le_of_ble_eq_true rfl)⟩ (va_recv hK hw.1 (ci := 2) (q0 := 0) rfl rfl) rfl rfl (Nat.le_of_ble_eq_true rfl) dX1_isDone_7 [0, 1, 2, 3, 4, 5, 6] [] rfl rfl rfl rfl (by decide) ⟨(Nat.le_of_ble_eq_true rfl), (Nat.le_of_ble_eq_true rfl)⟩ (fun r u H locs hp hw => ?_)
  have hw : Wd D A s [oH ha hfl hro hrp hca hwy hla hmi htf htk, ((ha 1), .inl (d 0, 6, .inl hHO)), ((ha 2), .inl (d 0, 6, .inl hAT)), ((ha 3), .inl (d 0, 6, .inl hTO)), ((ha 4), .inl (d 0, 6, .inl hWE)), ((ha 5), .inl (d 0, 6, .inl hHE)), ((ha 6), .inl (d 0, 6, .inl hRA))] H locs := hw
  subst r
  refine lv_ishl hx hb dX1_isDone_10 ?_
  refine lv_iconst (v := 1) hx hb dX1_isDone_11 (by decide) ?_
  refine lv_isub hx hb dX1_isDone_12 ?_
  refine lv_icmp_ne (tgt := 20) hx hb dX1_isDone_13 (by decide) (fun c13 => ?_) (fun c13 => ?_)
  · have hf := if_f hf c13
    refine lv_iconst (v := 0) hx hb dX1_isDone_20 (by decide) ?_
    have hf := sm_e hf
    subst hf
    exact x_retI cx hw rfl () rfl [0, 1, 2, 3, 4, 5, 6] rfl rfl (Nat.le_of_ble_eq_true rfl) (Nat.le_of_ble_eq_true rfl) dX1_isDone_21
  · have hf := if_t hf c13
    refine lv_iconst (v := 1) hx hb dX1_isDone_16 (by decide) ?_
    refine lv_goto (tgt := 21) hx hb dX1_isDone_17 (by decide) ?_
    have hf := sm_e hf
    subst hf
    exact x_retI cx hw rfl () rfl [0, 1, 2, 3, 4, 5, 6] rfl rfl (Nat.le_of_ble_eq_true rfl) (Nat.le_of_ble_eq_true rfl) dX1_isDone_21
theorem hd_X1_heats : yX1_heats.cls = "DishLift$House" ∧ yX1_heats.cls ≠ "java/lang/invoke/MethodHandle" ∧ yX1_heats.cls ≠ "java/lang/invoke/VarHandle" ∧ (parseMethodDescriptor yX1_heats.desc).map (fun d => d.parameters.length) = some 1 := by decide +kernel
set_option maxHeartbeats 4000000 in
theorem mX1_heats (l : Launch)  (D : va_G) (d : Nat → ClassId) (cs : Nat → Nat) (wi : va_W) (ln : Nat → Option Int32) (lf : Nat → Nat → Option Nat) (dk : Nat → Option Nat) (dn : Nat → Int32) (him : ImF d wi ln lf dk dn) (ha : Nat → Nat) (hfl : Int32) (hro : Int32) (hrp : Int32) (hca : Int32) (hwy : Int32) (hla : Nat) (hmi : Int32) (htf : Int32) (htk : Option Nat) (hHO : Nat → Int32) (hAT : Nat → Int32) (hTO : Nat → Int32) (hWE : Nat → Int32) (hHE : Nat → Int32) (hRA : Nat → Int32) (p1 : Int32)  (res : Int32) (hf : fX1_heats ln hla hHO hHE p1 = some res) : MetI l yX1_heats (ws_ yX1_heats cX1_heats 4 (some .int)) { frames := 2, cells := 0, slots := 0, locals := 60 } [.ref (ha 0), .int p1] (XI D cs wi) D d [oH ha hfl hro hrp hca hwy hla hmi htf htk, ((ha 1), .inl (d 0, 6, .inl hHO)), ((ha 2), .inl (d 0, 6, .inl hAT)), ((ha 3), .inl (d 0, 6, .inl hTO)), ((ha 4), .inl (d 0, 6, .inl hWE)), ((ha 5), .inl (d 0, 6, .inl hHE)), ((ha 6), .inl (d 0, 6, .inl hRA))] (fun r (_ : Unit) => r = res) (fun _ => [oH ha hfl hro hrp hca hwy hla hmi htf htk, ((ha 1), .inl (d 0, 6, .inl hHO)), ((ha 2), .inl (d 0, 6, .inl hAT)), ((ha 3), .inl (d 0, 6, .inl hTO)), ((ha 4), .inl (d 0, 6, .inl hWE)), ((ha 5), .inl (d 0, 6, .inl hHE)), ((ha 6), .inl (d 0, 6, .inl hRA))]) := by
  have hX := XI.ok (D := D) (cs := cs) (wi := wi)
  refine MetI.of (by decide +kernel) (Nat.le_of_ble_eq_true rfl) ?_
  intro p e s m below meth c A cx hw ls hl
  have cx : Cx p s m _ meth c (XI D cs wi) D d A "DishLift$House" cX1_heats 4 (some .int) "heats" := cx
  have cx' := cx
  obtain ⟨hx, hb, hr, hlk, hml, hown, hts, hK, hA, hXs, hnm⟩ := cx'
  have hl : lv_has ls 4 [(0, .ref (ha 0)), (1, .int p1)] := hl
  unfold fX1_heats at hf
  refine lv_iconst (v := 0) hx hb dX1_heats_0 (by decide) ?_
  refine lv_istore_n (lv' := [(2, .int 0), (0, .ref (ha 0)), (1, .int p1)]) hx hb dX1_heats_1 rfl hl (by decide) rfl (fun ls hl => ?_)
  refine lv_iconst (v := 0) hx hb dX1_heats_2 (by decide) ?_
  refine lv_istore_n (lv' := [(3, .int 0), (2, .int 0), (0, .ref (ha 0)), (1, .int p1)]) hx hb dX1_heats_3 rfl hl (by decide) rfl (fun ls hl => ?_)
  obtain ⟨r1, hlp4, hf⟩ := op_e hf
  refine x_join (A := A) (D := D) (J := 45) (nL := 4) (cells' := 0) (slots' := 0) (st := []) [oH ha hfl hro hrp hca hwy hla hmi htf htk, ((ha 1), .inl (d 0, 6, .inl hHO)), ((ha 2), .inl (d 0, 6, .inl hAT)), ((ha 3), .inl (d 0, 6, .inl hTO)), ((ha 4), .inl (d 0, 6, .inl hWE)), ((ha 5), .inl (d 0, 6, .inl hHE)), ((ha 6), .inl (d 0, 6, .inl hRA))] [(2, .int r1)] (fun H locs ls hw hl => ?_) (fun hK4 => ?_)
  · refine lv_iload_n hx hb dX1_heats_45 rfl (lv_at hl 0 rfl) ?_
    have hf := sm_e hf
    subst hf
    exact x_retI cx hw rfl () rfl [0, 1, 2, 3, 4, 5, 6] rfl rfl (Nat.le_of_ble_eq_true rfl) (Nat.le_of_ble_eq_true rfl) dX1_heats_46
  · refine x_lp hlp4 (fun x4 => [oH ha hfl hro hrp hca hwy hla hmi htf htk, ((ha 1), .inl (d 0, 6, .inl hHO)), ((ha 2), .inl (d 0, 6, .inl hAT)), ((ha 3), .inl (d 0, 6, .inl hTO)), ((ha 4), .inl (d 0, 6, .inl hWE)), ((ha 5), .inl (d 0, 6, .inl hHE)), ((ha 6), .inl (d 0, 6, .inl hRA))]) (fun x4 => [(0, .ref (ha 0)), (1, .int p1), (2, .int x4.1), (3, .int x4.2)]) hw (lv_sub hl [2, 3, 1, 0] rfl) (fun x4 y4 hf hin4 hout4 H locs ls hw hl => ?_)
    have hw : Wd D A s [oH ha hfl hro hrp hca hwy hla hmi htf htk, ((ha 1), .inl (d 0, 6, .inl hHO)), ((ha 2), .inl (d 0, 6, .inl hAT)), ((ha 3), .inl (d 0, 6, .inl hTO)), ((ha 4), .inl (d 0, 6, .inl hWE)), ((ha 5), .inl (d 0, 6, .inl hHE)), ((ha 6), .inl (d 0, 6, .inl hRA))] H locs := hw
    have hl : lv_has ls 4 [(0, .ref (ha 0)), (1, .int p1), (2, .int x4.1), (3, .int x4.2)] := hl
    refine lv_iload_n hx hb dX1_heats_4 rfl (lv_at hl 3 rfl) ?_
    refine lv_aload_n hx hb dX1_heats_5 rfl (lv_at hl 0 rfl) ?_
    obtain ⟨q2, hcq2, hf⟩ := op_e hf
    refine x_VI (wr := []) (rest := [.int x4.2]) [] hX cx hw hl.1 (mX1_many l  D d cs wi ln lf dk dn him ha hfl hro hrp hca hwy hla hmi htf htk hHO hAT hTO hWE hHE hRA q2 hcq2) (lw_V q786 q663 q664 q83 q665) hd_X1_many ⟨(Nat.le_of_ble_eq_true rfl), (Nat.le_of_ble_eq_true rfl)⟩ (va_recv hK hw.1 (ci := 2) (q0 := 0) rfl rfl) rfl rfl (Nat.le_of_ble_eq_true rfl) dX1_heats_6 [0, 1, 2, 3, 4, 5, 6] [] rfl rfl rfl rfl (by decide) ⟨(Nat.le_of_ble_eq_true rfl), (Nat.le_of_ble_eq_true rfl)⟩ (fun r u H locs hp hw => ?_)
    have hw : Wd D A s [oH ha hfl hro hrp hca hwy hla hmi htf htk, ((ha 1), .inl (d 0, 6, .inl hHO)), ((ha 2), .inl (d 0, 6, .inl hAT)), ((ha 3), .inl (d 0, 6, .inl hTO)), ((ha 4), .inl (d 0, 6, .inl hWE)), ((ha 5), .inl (d 0, 6, .inl hHE)), ((ha 6), .inl (d 0, 6, .inl hRA))] H locs := hw
    subst r
    refine lv_icmp_ge (tgt := 45) hx hb dX1_heats_9 (by decide) (fun c9 => ?_) (fun c9 => ?_)
    · have hf := if_t hf c9
      have hf := sm_e hf
      subst hf
      have hz := hout4 _ rfl
      subst hz
      exact hK4 _ _ _ hw (lv_sub hl [2] rfl)
    · have hf := if_f hf c9
      refine lv_iload_n hx hb dX1_heats_12 rfl (lv_at hl 2 rfl) ?_
      refine lv_iload_n hx hb dX1_heats_13 rfl (lv_at hl 1 rfl) ?_
      refine lv_if_eq (tgt := 27) hx hb dX1_heats_14 (by decide) (fun c14 => ?_) (fun c14 => ?_)
      · have hf := if_t hf c14
        refine lv_aload_n hx hb dX1_heats_27 rfl (lv_at hl 0 rfl) ?_
        refine va_get (ci := 2) (C := RX1) (T := TX1) (N := 15) hx hb hts in_X1 hown hK hw.1 0 rfl rfl 10 (by decide) (hts _ q187) (fun _ h9 => h9) rfl dX1_heats_28 ?_
        refine lv_iload_n hx hb dX1_heats_31 rfl (lv_at hl 3 rfl) ?_
        obtain ⟨v3, hv, hf⟩ := op_e hf
        refine x_iald (q0 := 5) cx hw rfl hv dX1_heats_32 ?_
        refine lv_goto (tgt := 37) hx hb dX1_heats_33 (by decide) ?_
        refine lv_iadd hx hb dX1_heats_37 ?_
        refine lv_istore_n (lv' := [(2, .int (x4.1 + v3)), (0, .ref (ha 0)), (1, .int p1), (3, .int x4.2)]) hx hb dX1_heats_38 rfl hl (by decide) rfl (fun ls hl => ?_)
        refine lv_iinc (v := (x4.2 + 1)) (lv' := [(3, .int (x4.2 + 1)), (2, .int (x4.1 + v3)), (0, .ref (ha 0)), (1, .int p1)]) hx hb dX1_heats_39 hl (k := 3) rfl (by first | rfl | decide) (by decide) rfl (fun ls hl => ?_)
        refine lv_goto (tgt := 4) hx hb dX1_heats_42 (by decide) ?_
        have hf := sm_e hf
        subst hf
        exact hin4 _ rfl _ _ _ hw (lv_sub hl [2, 3, 1, 0] rfl)
      · have hf := if_f hf c14
        refine lv_aload_n hx hb dX1_heats_17 rfl (lv_at hl 0 rfl) ?_
        refine va_get (ci := 2) (C := RX1) (T := TX1) (N := 15) hx hb hts in_X1 hown hK hw.1 0 rfl rfl 6 (by decide) (hts _ q175) (fun _ h9 => h9) rfl dX1_heats_18 ?_
        refine lv_iload_n hx hb dX1_heats_21 rfl (lv_at hl 3 rfl) ?_
        obtain ⟨v4, hv, hf⟩ := op_e hf
        refine x_iald (q0 := 1) cx hw rfl hv dX1_heats_22 ?_
        refine lv_iconst (v := 2) hx hb dX1_heats_23 (by decide) ?_
        refine lv_icmp_ne (tgt := 36) hx hb dX1_heats_24 (by decide) (fun c24 => ?_) (fun c24 => ?_)
        · have hf := if_f hf c24
          refine lv_iconst (v := 0) hx hb dX1_heats_36 (by decide) ?_
          refine lv_iadd hx hb dX1_heats_37 ?_
          refine lv_istore_n (lv' := [(2, .int (x4.1 + 0)), (0, .ref (ha 0)), (1, .int p1), (3, .int x4.2)]) hx hb dX1_heats_38 rfl hl (by decide) rfl (fun ls hl => ?_)
          refine lv_iinc (v := (x4.2 + 1)) (lv' := [(3, .int (x4.2 + 1)), (2, .int (x4.1 + 0)), (0, .ref (ha 0)), (1, .int p1)]) hx hb dX1_heats_39 hl (k := 3) rfl (by first | rfl | decide) (by decide) rfl (fun ls hl => ?_)
          refine lv_goto (tgt := 4) hx hb dX1_heats_42 (by decide) ?_
          have hf := sm_e hf
          subst hf
          exact hin4 _ rfl _ _ _ hw (lv_sub hl [2, 3, 1, 0] rfl)
        · have hf := if_t hf c24
          refine lv_aload_n hx hb dX1_heats_27 rfl (lv_at hl 0 rfl) ?_
          refine va_get (ci := 2) (C := RX1) (T := TX1) (N := 15) hx hb hts in_X1 hown hK hw.1 0 rfl rfl 10 (by decide) (hts _ q187) (fun _ h9 => h9) rfl dX1_heats_28 ?_
          refine lv_iload_n hx hb dX1_heats_31 rfl (lv_at hl 3 rfl) ?_
          obtain ⟨v5, hv, hf⟩ := op_e hf
          refine x_iald (q0 := 5) cx hw rfl hv dX1_heats_32 ?_
          refine lv_goto (tgt := 37) hx hb dX1_heats_33 (by decide) ?_
          refine lv_iadd hx hb dX1_heats_37 ?_
          refine lv_istore_n (lv' := [(2, .int (x4.1 + v5)), (0, .ref (ha 0)), (1, .int p1), (3, .int x4.2)]) hx hb dX1_heats_38 rfl hl (by decide) rfl (fun ls hl => ?_)
          refine lv_iinc (v := (x4.2 + 1)) (lv' := [(3, .int (x4.2 + 1)), (2, .int (x4.1 + v5)), (0, .ref (ha 0)), (1, .int p1)]) hx hb dX1_heats_39 hl (k := 3) rfl (by first | rfl | decide) (by decide) rfl (fun ls hl => ?_)
          refine lv_goto (tgt := 4) hx hb dX1_heats_42 (by decide) ?_
          have hf := sm_e hf
          subst hf
          exact hin4 _ rfl _ _ _ hw (lv_sub hl [2, 3, 1, 0] rfl)
theorem hd_X1_send : yX1_send.cls = "DishLift$House" ∧ yX1_send.cls ≠ "java/lang/invoke/MethodHandle" ∧ yX1_send.cls ≠ "java/lang/invoke/VarHandle" ∧ (parseMethodDescriptor yX1_send.desc).map (fun d => d.parameters.length) = some 3 := by decide +kernel
set_option maxHeartbeats 4000000 in
theorem mX1_send (l : Launch)  (D : va_G) (d : Nat → ClassId) (cs : Nat → Nat) (wi : va_W) (ln : Nat → Option Int32) (lf : Nat → Nat → Option Nat) (dk : Nat → Option Nat) (dn : Nat → Int32) (him : ImF d wi ln lf dk dn) (ha : Nat → Nat) (hfl : Int32) (hro : Int32) (hrp : Int32) (hca : Int32) (hwy : Int32) (hla : Nat) (hmi : Int32) (htf : Int32) (htk : Option Nat) (hHO : Nat → Int32) (hAT : Nat → Int32) (hTO : Nat → Int32) (hWE : Nat → Int32) (hHE : Nat → Int32) (hRA : Nat → Int32) (p1 : Int32) (p2 : Int32) (p3 : Int32)  (res : (Nat → Int32) × (Nat → Int32) × (Nat → Int32) × (Nat → Int32)) (hf : fX1_send hHO hAT hTO hHE p1 p2 p3 = some res) : MetV l yX1_send (ws_ yX1_send cX1_send 4 none) { frames := 0, cells := 0, slots := 0, locals := 0 } [.ref (ha 0), .int p1, .int p2, .int p3] (XI D cs wi) D d [oH ha hfl hro hrp hca hwy hla hmi htf htk, ((ha 1), .inl (d 0, 6, .inl hHO)), ((ha 2), .inl (d 0, 6, .inl hAT)), ((ha 3), .inl (d 0, 6, .inl hTO)), ((ha 4), .inl (d 0, 6, .inl hWE)), ((ha 5), .inl (d 0, 6, .inl hHE)), ((ha 6), .inl (d 0, 6, .inl hRA))] (fun (_ : Unit) => True) (fun _ => [oH ha hfl hro hrp hca hwy hla hmi htf htk, ((ha 1), .inl (d 0, 6, .inl res.1)), ((ha 2), .inl (d 0, 6, .inl res.2.1)), ((ha 3), .inl (d 0, 6, .inl res.2.2.1)), ((ha 4), .inl (d 0, 6, .inl hWE)), ((ha 5), .inl (d 0, 6, .inl res.2.2.2)), ((ha 6), .inl (d 0, 6, .inl hRA))]) := by
  have hX := XI.ok (D := D) (cs := cs) (wi := wi)
  refine MetV.of (by decide +kernel) (Nat.le_of_ble_eq_true rfl) ?_
  intro p e s m below meth c A cx hw ls hl
  have cx : Cx p s m _ meth c (XI D cs wi) D d A "DishLift$House" cX1_send 4 none "send" := cx
  have cx' := cx
  obtain ⟨hx, hb, hr, hlk, hml, hown, hts, hK, hA, hXs, hnm⟩ := cx'
  have hl : lv_has ls 4 [(0, .ref (ha 0)), (1, .int p1), (2, .int p2), (3, .int p3)] := hl
  unfold fX1_send at hf
  refine lv_aload_n hx hb dX1_send_0 rfl (lv_at hl 0 rfl) ?_
  refine va_get (ci := 2) (C := RX1) (T := TX1) (N := 15) hx hb hts in_X1 hown hK hw.1 0 rfl rfl 6 (by decide) (hts _ q175) (fun _ h9 => h9) rfl dX1_send_1 ?_
  refine lv_iload_n hx hb dX1_send_4 rfl (lv_at hl 1 rfl) ?_
  refine lv_iconst (v := 0) hx hb dX1_send_5 (by decide) ?_
  obtain ⟨w1, hv, hf⟩ := op_e hf
  refine x_iast (q0 := 1) cx hw rfl hv dX1_send_6 (fun H locs hw => ?_)
  have hw : Wd D A s [oH ha hfl hro hrp hca hwy hla hmi htf htk, ((ha 1), .inl (d 0, 6, .inl w1)), ((ha 2), .inl (d 0, 6, .inl hAT)), ((ha 3), .inl (d 0, 6, .inl hTO)), ((ha 4), .inl (d 0, 6, .inl hWE)), ((ha 5), .inl (d 0, 6, .inl hHE)), ((ha 6), .inl (d 0, 6, .inl hRA))] H locs := hw
  refine lv_aload_n hx hb dX1_send_7 rfl (lv_at hl 0 rfl) ?_
  refine va_get (ci := 2) (C := RX1) (T := TX1) (N := 15) hx hb hts in_X1 hown hK hw.1 0 rfl rfl 7 (by decide) (hts _ q177) (fun _ h9 => h9) rfl dX1_send_8 ?_
  refine lv_iload_n hx hb dX1_send_11 rfl (lv_at hl 1 rfl) ?_
  refine lv_aload_n hx hb dX1_send_12 rfl (lv_at hl 0 rfl) ?_
  refine va_get (ci := 2) (C := RX1) (T := TX1) (N := 15) hx hb hts in_X1 hown hK hw.1 0 rfl rfl 8 (by decide) (hts _ q180) (fun _ h9 => h9) rfl dX1_send_13 ?_
  refine lv_iload_n hx hb dX1_send_16 rfl (lv_at hl 1 rfl) ?_
  obtain ⟨v2, hv, hf⟩ := op_e hf
  refine x_iald (q0 := 3) cx hw rfl hv dX1_send_17 ?_
  obtain ⟨w3, hv, hf⟩ := op_e hf
  refine x_iast (q0 := 2) cx hw rfl hv dX1_send_18 (fun H locs hw => ?_)
  have hw : Wd D A s [oH ha hfl hro hrp hca hwy hla hmi htf htk, ((ha 1), .inl (d 0, 6, .inl w1)), ((ha 2), .inl (d 0, 6, .inl w3)), ((ha 3), .inl (d 0, 6, .inl hTO)), ((ha 4), .inl (d 0, 6, .inl hWE)), ((ha 5), .inl (d 0, 6, .inl hHE)), ((ha 6), .inl (d 0, 6, .inl hRA))] H locs := hw
  refine lv_aload_n hx hb dX1_send_19 rfl (lv_at hl 0 rfl) ?_
  refine va_get (ci := 2) (C := RX1) (T := TX1) (N := 15) hx hb hts in_X1 hown hK hw.1 0 rfl rfl 8 (by decide) (hts _ q180) (fun _ h9 => h9) rfl dX1_send_20 ?_
  refine lv_iload_n hx hb dX1_send_23 rfl (lv_at hl 1 rfl) ?_
  refine lv_iload_n hx hb dX1_send_24 rfl (lv_at hl 2 rfl) ?_
  obtain ⟨w4, hv, hf⟩ := op_e hf
  refine x_iast (q0 := 3) cx hw rfl hv dX1_send_25 (fun H locs hw => ?_)
  have hw : Wd D A s [oH ha hfl hro hrp hca hwy hla hmi htf htk, ((ha 1), .inl (d 0, 6, .inl w1)), ((ha 2), .inl (d 0, 6, .inl w3)), ((ha 3), .inl (d 0, 6, .inl w4)), ((ha 4), .inl (d 0, 6, .inl hWE)), ((ha 5), .inl (d 0, 6, .inl hHE)), ((ha 6), .inl (d 0, 6, .inl hRA))] H locs := hw
  refine lv_aload_n hx hb dX1_send_26 rfl (lv_at hl 0 rfl) ?_
  refine va_get (ci := 2) (C := RX1) (T := TX1) (N := 15) hx hb hts in_X1 hown hK hw.1 0 rfl rfl 10 (by decide) (hts _ q187) (fun _ h9 => h9) rfl dX1_send_27 ?_
  refine lv_iload_n hx hb dX1_send_30 rfl (lv_at hl 1 rfl) ?_
  refine lv_iload_n hx hb dX1_send_31 rfl (lv_at hl 3 rfl) ?_
  obtain ⟨w5, hv, hf⟩ := op_e hf
  refine x_iast (q0 := 5) cx hw rfl hv dX1_send_32 (fun H locs hw => ?_)
  have hw : Wd D A s [oH ha hfl hro hrp hca hwy hla hmi htf htk, ((ha 1), .inl (d 0, 6, .inl w1)), ((ha 2), .inl (d 0, 6, .inl w3)), ((ha 3), .inl (d 0, 6, .inl w4)), ((ha 4), .inl (d 0, 6, .inl hWE)), ((ha 5), .inl (d 0, 6, .inl w5)), ((ha 6), .inl (d 0, 6, .inl hRA))] H locs := hw
  have hf := sm_e hf
  subst hf
  exact x_retV cx hw () trivial [0, 1, 2, 3, 4, 5, 6] rfl rfl (Nat.le_of_ble_eq_true rfl) (Nat.le_of_ble_eq_true rfl) dX1_send_33
theorem hd_X1_become : yX1_become.cls = "DishLift$House" ∧ yX1_become.cls ≠ "java/lang/invoke/MethodHandle" ∧ yX1_become.cls ≠ "java/lang/invoke/VarHandle" ∧ (parseMethodDescriptor yX1_become.desc).map (fun d => d.parameters.length) = some 1 := by decide +kernel
set_option maxHeartbeats 4000000 in
theorem mX1_become (l : Launch)  (D : va_G) (d : Nat → ClassId) (cs : Nat → Nat) (wi : va_W) (ln : Nat → Option Int32) (lf : Nat → Nat → Option Nat) (dk : Nat → Option Nat) (dn : Nat → Int32) (him : ImF d wi ln lf dk dn) (ha : Nat → Nat) (oa : Nat → Nat) (hfl : Int32) (hro : Int32) (hrp : Int32) (hca : Int32) (hwy : Int32) (hla : Nat) (hmi : Int32) (htf : Int32) (htk : Option Nat) (hHO : Nat → Int32) (hAT : Nat → Int32) (hTO : Nat → Int32) (hWE : Nat → Int32) (hHE : Nat → Int32) (hRA : Nat → Int32) (ofl : Int32) (oro : Int32) (orp : Int32) (oca : Int32) (owy : Int32) (ola : Nat) (omi : Int32) (otf : Int32) (otk : Option Nat) (oHO : Nat → Int32) (oAT : Nat → Int32) (oTO : Nat → Int32) (oWE : Nat → Int32) (oHE : Nat → Int32) (oRA : Nat → Int32)  (res : Int32 × Int32 × Int32 × Int32 × Int32 × Nat × Int32 × Int32 × (Nat → Int32) × (Nat → Int32) × (Nat → Int32) × (Nat → Int32) × (Nat → Int32) × (Nat → Int32)) (hf : fX1_become hHO hAT hTO hWE hHE hRA ofl oro orp oca owy ola omi oHO oAT oTO oWE oHE oRA = some res) : MetA l yX1_become (ws_ yX1_become cX1_become 2 (some (.object "DishLift$House"))) { frames := 1, cells := 0, slots := 0, locals := 40 } [.ref (ha 0), .ref (oa 0)] (XI D cs wi) D d [oH ha hfl hro hrp hca hwy hla hmi htf htk, ((ha 1), .inl (d 0, 6, .inl hHO)), ((ha 2), .inl (d 0, 6, .inl hAT)), ((ha 3), .inl (d 0, 6, .inl hTO)), ((ha 4), .inl (d 0, 6, .inl hWE)), ((ha 5), .inl (d 0, 6, .inl hHE)), ((ha 6), .inl (d 0, 6, .inl hRA)), oH oa ofl oro orp oca owy ola omi otf otk, ((oa 1), .inl (d 0, 6, .inl oHO)), ((oa 2), .inl (d 0, 6, .inl oAT)), ((oa 3), .inl (d 0, 6, .inl oTO)), ((oa 4), .inl (d 0, 6, .inl oWE)), ((oa 5), .inl (d 0, 6, .inl oHE)), ((oa 6), .inl (d 0, 6, .inl oRA))] (ha 0) (fun (_ : Unit) => True) (fun _ => [oH ha res.1 res.2.1 res.2.2.1 res.2.2.2.1 res.2.2.2.2.1 res.2.2.2.2.2.1 res.2.2.2.2.2.2.1 res.2.2.2.2.2.2.2.1 htk, ((ha 1), .inl (d 0, 6, .inl res.2.2.2.2.2.2.2.2.1)), ((ha 2), .inl (d 0, 6, .inl res.2.2.2.2.2.2.2.2.2.1)), ((ha 3), .inl (d 0, 6, .inl res.2.2.2.2.2.2.2.2.2.2.1)), ((ha 4), .inl (d 0, 6, .inl res.2.2.2.2.2.2.2.2.2.2.2.1)), ((ha 5), .inl (d 0, 6, .inl res.2.2.2.2.2.2.2.2.2.2.2.2.1)), ((ha 6), .inl (d 0, 6, .inl res.2.2.2.2.2.2.2.2.2.2.2.2.2)), oH oa ofl oro orp oca owy ola omi otf otk, ((oa 1), .inl (d 0, 6, .inl oHO)), ((oa 2), .inl (d 0, 6, .inl oAT)), ((oa 3), .inl (d 0, 6, .inl oTO)), ((oa 4), .inl (d 0, 6, .inl oWE)), ((oa 5), .inl (d 0, 6, .inl oHE)), ((oa 6), .inl (d 0, 6, .inl oRA))]) := by
  have hX := XI.ok (D := D) (cs := cs) (wi := wi)
  refine MetA.of (by decide +kernel) (Nat.le_of_ble_eq_true rfl) ?_
  intro p e s m below meth c A cx hw ls hl
  have cx : Cx p s m _ meth c (XI D cs wi) D d A "DishLift$House" cX1_become 2 (some (.object "DishLift$House")) "become" := cx
  have cx' := cx
  obtain ⟨hx, hb, hr, hlk, hml, hown, hts, hK, hA, hXs, hnm⟩ := cx'
  have hl : lv_has ls 2 [(0, .ref (ha 0)), (1, .ref (oa 0))] := hl
  unfold fX1_become at hf
  refine lv_aload_n hx hb dX1_become_0 rfl (lv_at hl 0 rfl) ?_
  refine lv_aload_n hx hb dX1_become_1 rfl (lv_at hl 1 rfl) ?_
  refine va_get (ci := 2) (C := RX1) (T := TX1) (N := 15) hx hb hts in_X1 hown hK hw.1 7 rfl rfl 0 (by decide) (hts _ q159) (fun _ h9 => h9) rfl dX1_become_2 ?_
  refine va_put (ci := 2) (v := .int ofl) (ty := .int) (C := RX1) (T := TX1) (N := 15) hx hb hts in_X1 tyX1 tyX1_ok nmX1 hown hK hw.1 hw.2.1 hw.2.2 0 rfl rfl 0 (by decide) (hts _ q159) (fun _ h9 => h9) rfl (by decide +kernel) rfl rfl (Nat.le_of_ble_eq_true rfl) dX1_become_5 (fun H locs hP hD hS => ?_)
  have hw : Wd D A s [oH ha ofl hro hrp hca hwy hla hmi htf htk, ((ha 1), .inl (d 0, 6, .inl hHO)), ((ha 2), .inl (d 0, 6, .inl hAT)), ((ha 3), .inl (d 0, 6, .inl hTO)), ((ha 4), .inl (d 0, 6, .inl hWE)), ((ha 5), .inl (d 0, 6, .inl hHE)), ((ha 6), .inl (d 0, 6, .inl hRA)), oH oa ofl oro orp oca owy ola omi otf otk, ((oa 1), .inl (d 0, 6, .inl oHO)), ((oa 2), .inl (d 0, 6, .inl oAT)), ((oa 3), .inl (d 0, 6, .inl oTO)), ((oa 4), .inl (d 0, 6, .inl oWE)), ((oa 5), .inl (d 0, 6, .inl oHE)), ((oa 6), .inl (d 0, 6, .inl oRA))] H locs := ⟨hP, hD, hS⟩
  refine lv_aload_n hx hb dX1_become_8 rfl (lv_at hl 0 rfl) ?_
  refine lv_aload_n hx hb dX1_become_9 rfl (lv_at hl 1 rfl) ?_
  refine va_get (ci := 2) (C := RX1) (T := TX1) (N := 15) hx hb hts in_X1 hown hK hw.1 7 rfl rfl 1 (by decide) (hts _ q162) (fun _ h9 => h9) rfl dX1_become_10 ?_
  refine va_put (ci := 2) (v := .int oro) (ty := .int) (C := RX1) (T := TX1) (N := 15) hx hb hts in_X1 tyX1 tyX1_ok nmX1 hown hK hw.1 hw.2.1 hw.2.2 0 rfl rfl 1 (by decide) (hts _ q162) (fun _ h9 => h9) rfl (by decide +kernel) rfl rfl (Nat.le_of_ble_eq_true rfl) dX1_become_13 (fun H locs hP hD hS => ?_)
  have hw : Wd D A s [oH ha ofl oro hrp hca hwy hla hmi htf htk, ((ha 1), .inl (d 0, 6, .inl hHO)), ((ha 2), .inl (d 0, 6, .inl hAT)), ((ha 3), .inl (d 0, 6, .inl hTO)), ((ha 4), .inl (d 0, 6, .inl hWE)), ((ha 5), .inl (d 0, 6, .inl hHE)), ((ha 6), .inl (d 0, 6, .inl hRA)), oH oa ofl oro orp oca owy ola omi otf otk, ((oa 1), .inl (d 0, 6, .inl oHO)), ((oa 2), .inl (d 0, 6, .inl oAT)), ((oa 3), .inl (d 0, 6, .inl oTO)), ((oa 4), .inl (d 0, 6, .inl oWE)), ((oa 5), .inl (d 0, 6, .inl oHE)), ((oa 6), .inl (d 0, 6, .inl oRA))] H locs := ⟨hP, hD, hS⟩
  refine lv_aload_n hx hb dX1_become_16 rfl (lv_at hl 0 rfl) ?_
  refine lv_aload_n hx hb dX1_become_17 rfl (lv_at hl 1 rfl) ?_
  refine va_get (ci := 2) (C := RX1) (T := TX1) (N := 15) hx hb hts in_X1 hown hK hw.1 7 rfl rfl 2 (by decide) (hts _ q165) (fun _ h9 => h9) rfl dX1_become_18 ?_
  refine va_put (ci := 2) (v := .int orp) (ty := .int) (C := RX1) (T := TX1) (N := 15) hx hb hts in_X1 tyX1 tyX1_ok nmX1 hown hK hw.1 hw.2.1 hw.2.2 0 rfl rfl 2 (by decide) (hts _ q165) (fun _ h9 => h9) rfl (by decide +kernel) rfl rfl (Nat.le_of_ble_eq_true rfl) dX1_become_21 (fun H locs hP hD hS => ?_)
  have hw : Wd D A s [oH ha ofl oro orp hca hwy hla hmi htf htk, ((ha 1), .inl (d 0, 6, .inl hHO)), ((ha 2), .inl (d 0, 6, .inl hAT)), ((ha 3), .inl (d 0, 6, .inl hTO)), ((ha 4), .inl (d 0, 6, .inl hWE)), ((ha 5), .inl (d 0, 6, .inl hHE)), ((ha 6), .inl (d 0, 6, .inl hRA)), oH oa ofl oro orp oca owy ola omi otf otk, ((oa 1), .inl (d 0, 6, .inl oHO)), ((oa 2), .inl (d 0, 6, .inl oAT)), ((oa 3), .inl (d 0, 6, .inl oTO)), ((oa 4), .inl (d 0, 6, .inl oWE)), ((oa 5), .inl (d 0, 6, .inl oHE)), ((oa 6), .inl (d 0, 6, .inl oRA))] H locs := ⟨hP, hD, hS⟩
  refine lv_aload_n hx hb dX1_become_24 rfl (lv_at hl 0 rfl) ?_
  refine lv_aload_n hx hb dX1_become_25 rfl (lv_at hl 1 rfl) ?_
  refine va_get (ci := 2) (C := RX1) (T := TX1) (N := 15) hx hb hts in_X1 hown hK hw.1 7 rfl rfl 3 (by decide) (hts _ q168) (fun _ h9 => h9) rfl dX1_become_26 ?_
  refine va_put (ci := 2) (v := .int oca) (ty := .int) (C := RX1) (T := TX1) (N := 15) hx hb hts in_X1 tyX1 tyX1_ok nmX1 hown hK hw.1 hw.2.1 hw.2.2 0 rfl rfl 3 (by decide) (hts _ q168) (fun _ h9 => h9) rfl (by decide +kernel) rfl rfl (Nat.le_of_ble_eq_true rfl) dX1_become_29 (fun H locs hP hD hS => ?_)
  have hw : Wd D A s [oH ha ofl oro orp oca hwy hla hmi htf htk, ((ha 1), .inl (d 0, 6, .inl hHO)), ((ha 2), .inl (d 0, 6, .inl hAT)), ((ha 3), .inl (d 0, 6, .inl hTO)), ((ha 4), .inl (d 0, 6, .inl hWE)), ((ha 5), .inl (d 0, 6, .inl hHE)), ((ha 6), .inl (d 0, 6, .inl hRA)), oH oa ofl oro orp oca owy ola omi otf otk, ((oa 1), .inl (d 0, 6, .inl oHO)), ((oa 2), .inl (d 0, 6, .inl oAT)), ((oa 3), .inl (d 0, 6, .inl oTO)), ((oa 4), .inl (d 0, 6, .inl oWE)), ((oa 5), .inl (d 0, 6, .inl oHE)), ((oa 6), .inl (d 0, 6, .inl oRA))] H locs := ⟨hP, hD, hS⟩
  refine lv_aload_n hx hb dX1_become_32 rfl (lv_at hl 0 rfl) ?_
  refine lv_aload_n hx hb dX1_become_33 rfl (lv_at hl 1 rfl) ?_
  refine va_get (ci := 2) (C := RX1) (T := TX1) (N := 15) hx hb hts in_X1 hown hK hw.1 7 rfl rfl 4 (by decide) (hts _ q170) (fun _ h9 => h9) rfl dX1_become_34 ?_
  refine va_put (ci := 2) (v := .int owy) (ty := .int) (C := RX1) (T := TX1) (N := 15) hx hb hts in_X1 tyX1 tyX1_ok nmX1 hown hK hw.1 hw.2.1 hw.2.2 0 rfl rfl 4 (by decide) (hts _ q170) (fun _ h9 => h9) rfl (by decide +kernel) rfl rfl (Nat.le_of_ble_eq_true rfl) dX1_become_37 (fun H locs hP hD hS => ?_)
  have hw : Wd D A s [oH ha ofl oro orp oca owy hla hmi htf htk, ((ha 1), .inl (d 0, 6, .inl hHO)), ((ha 2), .inl (d 0, 6, .inl hAT)), ((ha 3), .inl (d 0, 6, .inl hTO)), ((ha 4), .inl (d 0, 6, .inl hWE)), ((ha 5), .inl (d 0, 6, .inl hHE)), ((ha 6), .inl (d 0, 6, .inl hRA)), oH oa ofl oro orp oca owy ola omi otf otk, ((oa 1), .inl (d 0, 6, .inl oHO)), ((oa 2), .inl (d 0, 6, .inl oAT)), ((oa 3), .inl (d 0, 6, .inl oTO)), ((oa 4), .inl (d 0, 6, .inl oWE)), ((oa 5), .inl (d 0, 6, .inl oHE)), ((oa 6), .inl (d 0, 6, .inl oRA))] H locs := ⟨hP, hD, hS⟩
  refine lv_aload_n hx hb dX1_become_40 rfl (lv_at hl 0 rfl) ?_
  refine lv_aload_n hx hb dX1_become_41 rfl (lv_at hl 1 rfl) ?_
  refine va_get (ci := 2) (C := RX1) (T := TX1) (N := 15) hx hb hts in_X1 hown hK hw.1 7 rfl rfl 5 (by decide) (hts _ q172) (fun _ h9 => h9) rfl dX1_become_42 ?_
  refine va_put (ci := 2) (v := .ref ola) (ty := (.object "java/util/List")) (C := RX1) (T := TX1) (N := 15) hx hb hts in_X1 tyX1 tyX1_ok nmX1 hown hK hw.1 hw.2.1 hw.2.2 0 rfl rfl 5 (by decide) (hts _ q172) (fun _ h9 => h9) rfl (by decide +kernel) rfl rfl (Nat.le_of_ble_eq_true rfl) dX1_become_45 (fun H locs hP hD hS => ?_)
  have hw : Wd D A s [oH ha ofl oro orp oca owy ola hmi htf htk, ((ha 1), .inl (d 0, 6, .inl hHO)), ((ha 2), .inl (d 0, 6, .inl hAT)), ((ha 3), .inl (d 0, 6, .inl hTO)), ((ha 4), .inl (d 0, 6, .inl hWE)), ((ha 5), .inl (d 0, 6, .inl hHE)), ((ha 6), .inl (d 0, 6, .inl hRA)), oH oa ofl oro orp oca owy ola omi otf otk, ((oa 1), .inl (d 0, 6, .inl oHO)), ((oa 2), .inl (d 0, 6, .inl oAT)), ((oa 3), .inl (d 0, 6, .inl oTO)), ((oa 4), .inl (d 0, 6, .inl oWE)), ((oa 5), .inl (d 0, 6, .inl oHE)), ((oa 6), .inl (d 0, 6, .inl oRA))] H locs := ⟨hP, hD, hS⟩
  refine lv_aload_n hx hb dX1_become_48 rfl (lv_at hl 1 rfl) ?_
  refine va_get (ci := 2) (C := RX1) (T := TX1) (N := 15) hx hb hts in_X1 hown hK hw.1 7 rfl rfl 6 (by decide) (hts _ q175) (fun _ h9 => h9) rfl dX1_become_49 ?_
  refine lv_iconst (v := 0) hx hb dX1_become_52 (by decide) ?_
  refine lv_aload_n hx hb dX1_become_53 rfl (lv_at hl 0 rfl) ?_
  refine va_get (ci := 2) (C := RX1) (T := TX1) (N := 15) hx hb hts in_X1 hown hK hw.1 0 rfl rfl 6 (by decide) (hts _ q175) (fun _ h9 => h9) rfl dX1_become_54 ?_
  refine lv_iconst (v := 0) hx hb dX1_become_57 (by decide) ?_
  refine lv_bipush (v := 6) hx hb dX1_become_58 (by decide) ?_
  refine va_copyi hx hb (hml.trans hl.1.symm) hown (hts _ q754) (hts _ q494) (hts _ q493) (hts _ q103) hK hw.1 hw.2.1 hw.2.2 8 1 0 0 rfl rfl rfl rfl rfl (by decide) (by decide) (by decide) (by decide) (by decide) (fun _ _ => rfl) (Nat.le_of_ble_eq_true rfl) (Nat.le_of_ble_eq_true rfl) dX1_become_60 (fun H locs hP hD hS => ?_)
  have hw : Wd D A s [oH ha ofl oro orp oca owy ola hmi htf htk, ((ha 1), .inl (d 0, 6, .inl (va_cpy oHO hHO 0 0 6))), ((ha 2), .inl (d 0, 6, .inl hAT)), ((ha 3), .inl (d 0, 6, .inl hTO)), ((ha 4), .inl (d 0, 6, .inl hWE)), ((ha 5), .inl (d 0, 6, .inl hHE)), ((ha 6), .inl (d 0, 6, .inl hRA)), oH oa ofl oro orp oca owy ola omi otf otk, ((oa 1), .inl (d 0, 6, .inl oHO)), ((oa 2), .inl (d 0, 6, .inl oAT)), ((oa 3), .inl (d 0, 6, .inl oTO)), ((oa 4), .inl (d 0, 6, .inl oWE)), ((oa 5), .inl (d 0, 6, .inl oHE)), ((oa 6), .inl (d 0, 6, .inl oRA))] H locs := ⟨hP, hD, hS⟩
  refine lv_aload_n hx hb dX1_become_63 rfl (lv_at hl 1 rfl) ?_
  refine va_get (ci := 2) (C := RX1) (T := TX1) (N := 15) hx hb hts in_X1 hown hK hw.1 7 rfl rfl 7 (by decide) (hts _ q177) (fun _ h9 => h9) rfl dX1_become_64 ?_
  refine lv_iconst (v := 0) hx hb dX1_become_67 (by decide) ?_
  refine lv_aload_n hx hb dX1_become_68 rfl (lv_at hl 0 rfl) ?_
  refine va_get (ci := 2) (C := RX1) (T := TX1) (N := 15) hx hb hts in_X1 hown hK hw.1 0 rfl rfl 7 (by decide) (hts _ q177) (fun _ h9 => h9) rfl dX1_become_69 ?_
  refine lv_iconst (v := 0) hx hb dX1_become_72 (by decide) ?_
  refine lv_bipush (v := 6) hx hb dX1_become_73 (by decide) ?_
  refine va_copyi hx hb (hml.trans hl.1.symm) hown (hts _ q754) (hts _ q494) (hts _ q493) (hts _ q103) hK hw.1 hw.2.1 hw.2.2 9 2 0 0 rfl rfl rfl rfl rfl (by decide) (by decide) (by decide) (by decide) (by decide) (fun _ _ => rfl) (Nat.le_of_ble_eq_true rfl) (Nat.le_of_ble_eq_true rfl) dX1_become_75 (fun H locs hP hD hS => ?_)
  have hw : Wd D A s [oH ha ofl oro orp oca owy ola hmi htf htk, ((ha 1), .inl (d 0, 6, .inl (va_cpy oHO hHO 0 0 6))), ((ha 2), .inl (d 0, 6, .inl (va_cpy oAT hAT 0 0 6))), ((ha 3), .inl (d 0, 6, .inl hTO)), ((ha 4), .inl (d 0, 6, .inl hWE)), ((ha 5), .inl (d 0, 6, .inl hHE)), ((ha 6), .inl (d 0, 6, .inl hRA)), oH oa ofl oro orp oca owy ola omi otf otk, ((oa 1), .inl (d 0, 6, .inl oHO)), ((oa 2), .inl (d 0, 6, .inl oAT)), ((oa 3), .inl (d 0, 6, .inl oTO)), ((oa 4), .inl (d 0, 6, .inl oWE)), ((oa 5), .inl (d 0, 6, .inl oHE)), ((oa 6), .inl (d 0, 6, .inl oRA))] H locs := ⟨hP, hD, hS⟩
  refine lv_aload_n hx hb dX1_become_78 rfl (lv_at hl 1 rfl) ?_
  refine va_get (ci := 2) (C := RX1) (T := TX1) (N := 15) hx hb hts in_X1 hown hK hw.1 7 rfl rfl 8 (by decide) (hts _ q180) (fun _ h9 => h9) rfl dX1_become_79 ?_
  refine lv_iconst (v := 0) hx hb dX1_become_82 (by decide) ?_
  refine lv_aload_n hx hb dX1_become_83 rfl (lv_at hl 0 rfl) ?_
  refine va_get (ci := 2) (C := RX1) (T := TX1) (N := 15) hx hb hts in_X1 hown hK hw.1 0 rfl rfl 8 (by decide) (hts _ q180) (fun _ h9 => h9) rfl dX1_become_84 ?_
  refine lv_iconst (v := 0) hx hb dX1_become_87 (by decide) ?_
  refine lv_bipush (v := 6) hx hb dX1_become_88 (by decide) ?_
  refine va_copyi hx hb (hml.trans hl.1.symm) hown (hts _ q754) (hts _ q494) (hts _ q493) (hts _ q103) hK hw.1 hw.2.1 hw.2.2 10 3 0 0 rfl rfl rfl rfl rfl (by decide) (by decide) (by decide) (by decide) (by decide) (fun _ _ => rfl) (Nat.le_of_ble_eq_true rfl) (Nat.le_of_ble_eq_true rfl) dX1_become_90 (fun H locs hP hD hS => ?_)
  have hw : Wd D A s [oH ha ofl oro orp oca owy ola hmi htf htk, ((ha 1), .inl (d 0, 6, .inl (va_cpy oHO hHO 0 0 6))), ((ha 2), .inl (d 0, 6, .inl (va_cpy oAT hAT 0 0 6))), ((ha 3), .inl (d 0, 6, .inl (va_cpy oTO hTO 0 0 6))), ((ha 4), .inl (d 0, 6, .inl hWE)), ((ha 5), .inl (d 0, 6, .inl hHE)), ((ha 6), .inl (d 0, 6, .inl hRA)), oH oa ofl oro orp oca owy ola omi otf otk, ((oa 1), .inl (d 0, 6, .inl oHO)), ((oa 2), .inl (d 0, 6, .inl oAT)), ((oa 3), .inl (d 0, 6, .inl oTO)), ((oa 4), .inl (d 0, 6, .inl oWE)), ((oa 5), .inl (d 0, 6, .inl oHE)), ((oa 6), .inl (d 0, 6, .inl oRA))] H locs := ⟨hP, hD, hS⟩
  refine lv_aload_n hx hb dX1_become_93 rfl (lv_at hl 1 rfl) ?_
  refine va_get (ci := 2) (C := RX1) (T := TX1) (N := 15) hx hb hts in_X1 hown hK hw.1 7 rfl rfl 9 (by decide) (hts _ q183) (fun _ h9 => h9) rfl dX1_become_94 ?_
  refine lv_iconst (v := 0) hx hb dX1_become_97 (by decide) ?_
  refine lv_aload_n hx hb dX1_become_98 rfl (lv_at hl 0 rfl) ?_
  refine va_get (ci := 2) (C := RX1) (T := TX1) (N := 15) hx hb hts in_X1 hown hK hw.1 0 rfl rfl 9 (by decide) (hts _ q183) (fun _ h9 => h9) rfl dX1_become_99 ?_
  refine lv_iconst (v := 0) hx hb dX1_become_102 (by decide) ?_
  refine lv_bipush (v := 6) hx hb dX1_become_103 (by decide) ?_
  refine va_copyi hx hb (hml.trans hl.1.symm) hown (hts _ q754) (hts _ q494) (hts _ q493) (hts _ q103) hK hw.1 hw.2.1 hw.2.2 11 4 0 0 rfl rfl rfl rfl rfl (by decide) (by decide) (by decide) (by decide) (by decide) (fun _ _ => rfl) (Nat.le_of_ble_eq_true rfl) (Nat.le_of_ble_eq_true rfl) dX1_become_105 (fun H locs hP hD hS => ?_)
  have hw : Wd D A s [oH ha ofl oro orp oca owy ola hmi htf htk, ((ha 1), .inl (d 0, 6, .inl (va_cpy oHO hHO 0 0 6))), ((ha 2), .inl (d 0, 6, .inl (va_cpy oAT hAT 0 0 6))), ((ha 3), .inl (d 0, 6, .inl (va_cpy oTO hTO 0 0 6))), ((ha 4), .inl (d 0, 6, .inl (va_cpy oWE hWE 0 0 6))), ((ha 5), .inl (d 0, 6, .inl hHE)), ((ha 6), .inl (d 0, 6, .inl hRA)), oH oa ofl oro orp oca owy ola omi otf otk, ((oa 1), .inl (d 0, 6, .inl oHO)), ((oa 2), .inl (d 0, 6, .inl oAT)), ((oa 3), .inl (d 0, 6, .inl oTO)), ((oa 4), .inl (d 0, 6, .inl oWE)), ((oa 5), .inl (d 0, 6, .inl oHE)), ((oa 6), .inl (d 0, 6, .inl oRA))] H locs := ⟨hP, hD, hS⟩
  refine lv_aload_n hx hb dX1_become_108 rfl (lv_at hl 1 rfl) ?_
  refine va_get (ci := 2) (C := RX1) (T := TX1) (N := 15) hx hb hts in_X1 hown hK hw.1 7 rfl rfl 10 (by decide) (hts _ q187) (fun _ h9 => h9) rfl dX1_become_109 ?_
  refine lv_iconst (v := 0) hx hb dX1_become_112 (by decide) ?_
  refine lv_aload_n hx hb dX1_become_113 rfl (lv_at hl 0 rfl) ?_
  refine va_get (ci := 2) (C := RX1) (T := TX1) (N := 15) hx hb hts in_X1 hown hK hw.1 0 rfl rfl 10 (by decide) (hts _ q187) (fun _ h9 => h9) rfl dX1_become_114 ?_
  refine lv_iconst (v := 0) hx hb dX1_become_117 (by decide) ?_
  refine lv_bipush (v := 6) hx hb dX1_become_118 (by decide) ?_
  refine va_copyi hx hb (hml.trans hl.1.symm) hown (hts _ q754) (hts _ q494) (hts _ q493) (hts _ q103) hK hw.1 hw.2.1 hw.2.2 12 5 0 0 rfl rfl rfl rfl rfl (by decide) (by decide) (by decide) (by decide) (by decide) (fun _ _ => rfl) (Nat.le_of_ble_eq_true rfl) (Nat.le_of_ble_eq_true rfl) dX1_become_120 (fun H locs hP hD hS => ?_)
  have hw : Wd D A s [oH ha ofl oro orp oca owy ola hmi htf htk, ((ha 1), .inl (d 0, 6, .inl (va_cpy oHO hHO 0 0 6))), ((ha 2), .inl (d 0, 6, .inl (va_cpy oAT hAT 0 0 6))), ((ha 3), .inl (d 0, 6, .inl (va_cpy oTO hTO 0 0 6))), ((ha 4), .inl (d 0, 6, .inl (va_cpy oWE hWE 0 0 6))), ((ha 5), .inl (d 0, 6, .inl (va_cpy oHE hHE 0 0 6))), ((ha 6), .inl (d 0, 6, .inl hRA)), oH oa ofl oro orp oca owy ola omi otf otk, ((oa 1), .inl (d 0, 6, .inl oHO)), ((oa 2), .inl (d 0, 6, .inl oAT)), ((oa 3), .inl (d 0, 6, .inl oTO)), ((oa 4), .inl (d 0, 6, .inl oWE)), ((oa 5), .inl (d 0, 6, .inl oHE)), ((oa 6), .inl (d 0, 6, .inl oRA))] H locs := ⟨hP, hD, hS⟩
  refine lv_aload_n hx hb dX1_become_123 rfl (lv_at hl 1 rfl) ?_
  refine va_get (ci := 2) (C := RX1) (T := TX1) (N := 15) hx hb hts in_X1 hown hK hw.1 7 rfl rfl 11 (by decide) (hts _ q191) (fun _ h9 => h9) rfl dX1_become_124 ?_
  refine lv_iconst (v := 0) hx hb dX1_become_127 (by decide) ?_
  refine lv_aload_n hx hb dX1_become_128 rfl (lv_at hl 0 rfl) ?_
  refine va_get (ci := 2) (C := RX1) (T := TX1) (N := 15) hx hb hts in_X1 hown hK hw.1 0 rfl rfl 11 (by decide) (hts _ q191) (fun _ h9 => h9) rfl dX1_become_129 ?_
  refine lv_iconst (v := 0) hx hb dX1_become_132 (by decide) ?_
  refine lv_bipush (v := 6) hx hb dX1_become_133 (by decide) ?_
  refine va_copyi hx hb (hml.trans hl.1.symm) hown (hts _ q754) (hts _ q494) (hts _ q493) (hts _ q103) hK hw.1 hw.2.1 hw.2.2 13 6 0 0 rfl rfl rfl rfl rfl (by decide) (by decide) (by decide) (by decide) (by decide) (fun _ _ => rfl) (Nat.le_of_ble_eq_true rfl) (Nat.le_of_ble_eq_true rfl) dX1_become_135 (fun H locs hP hD hS => ?_)
  have hw : Wd D A s [oH ha ofl oro orp oca owy ola hmi htf htk, ((ha 1), .inl (d 0, 6, .inl (va_cpy oHO hHO 0 0 6))), ((ha 2), .inl (d 0, 6, .inl (va_cpy oAT hAT 0 0 6))), ((ha 3), .inl (d 0, 6, .inl (va_cpy oTO hTO 0 0 6))), ((ha 4), .inl (d 0, 6, .inl (va_cpy oWE hWE 0 0 6))), ((ha 5), .inl (d 0, 6, .inl (va_cpy oHE hHE 0 0 6))), ((ha 6), .inl (d 0, 6, .inl (va_cpy oRA hRA 0 0 6))), oH oa ofl oro orp oca owy ola omi otf otk, ((oa 1), .inl (d 0, 6, .inl oHO)), ((oa 2), .inl (d 0, 6, .inl oAT)), ((oa 3), .inl (d 0, 6, .inl oTO)), ((oa 4), .inl (d 0, 6, .inl oWE)), ((oa 5), .inl (d 0, 6, .inl oHE)), ((oa 6), .inl (d 0, 6, .inl oRA))] H locs := ⟨hP, hD, hS⟩
  refine lv_aload_n hx hb dX1_become_138 rfl (lv_at hl 0 rfl) ?_
  refine lv_aload_n hx hb dX1_become_139 rfl (lv_at hl 1 rfl) ?_
  refine va_get (ci := 2) (C := RX1) (T := TX1) (N := 15) hx hb hts in_X1 hown hK hw.1 7 rfl rfl 12 (by decide) (hts _ q193) (fun _ h9 => h9) rfl dX1_become_140 ?_
  refine va_put (ci := 2) (v := .int omi) (ty := .int) (C := RX1) (T := TX1) (N := 15) hx hb hts in_X1 tyX1 tyX1_ok nmX1 hown hK hw.1 hw.2.1 hw.2.2 0 rfl rfl 12 (by decide) (hts _ q193) (fun _ h9 => h9) rfl (by decide +kernel) rfl rfl (Nat.le_of_ble_eq_true rfl) dX1_become_143 (fun H locs hP hD hS => ?_)
  have hw : Wd D A s [oH ha ofl oro orp oca owy ola omi htf htk, ((ha 1), .inl (d 0, 6, .inl (va_cpy oHO hHO 0 0 6))), ((ha 2), .inl (d 0, 6, .inl (va_cpy oAT hAT 0 0 6))), ((ha 3), .inl (d 0, 6, .inl (va_cpy oTO hTO 0 0 6))), ((ha 4), .inl (d 0, 6, .inl (va_cpy oWE hWE 0 0 6))), ((ha 5), .inl (d 0, 6, .inl (va_cpy oHE hHE 0 0 6))), ((ha 6), .inl (d 0, 6, .inl (va_cpy oRA hRA 0 0 6))), oH oa ofl oro orp oca owy ola omi otf otk, ((oa 1), .inl (d 0, 6, .inl oHO)), ((oa 2), .inl (d 0, 6, .inl oAT)), ((oa 3), .inl (d 0, 6, .inl oTO)), ((oa 4), .inl (d 0, 6, .inl oWE)), ((oa 5), .inl (d 0, 6, .inl oHE)), ((oa 6), .inl (d 0, 6, .inl oRA))] H locs := ⟨hP, hD, hS⟩
  refine lv_aload_n hx hb dX1_become_146 rfl (lv_at hl 0 rfl) ?_
  refine lv_ldc (v := (-1000000)) hx hb hown (hts _ q158) dX1_become_147 ?_
  refine va_put (ci := 2) (v := .int (-1000000)) (ty := .int) (C := RX1) (T := TX1) (N := 15) hx hb hts in_X1 tyX1 tyX1_ok nmX1 hown hK hw.1 hw.2.1 hw.2.2 0 rfl rfl 13 (by decide) (hts _ q195) (fun _ h9 => h9) rfl (by decide +kernel) rfl rfl (Nat.le_of_ble_eq_true rfl) dX1_become_149 (fun H locs hP hD hS => ?_)
  have hw : Wd D A s [oH ha ofl oro orp oca owy ola omi (-1000000) htk, ((ha 1), .inl (d 0, 6, .inl (va_cpy oHO hHO 0 0 6))), ((ha 2), .inl (d 0, 6, .inl (va_cpy oAT hAT 0 0 6))), ((ha 3), .inl (d 0, 6, .inl (va_cpy oTO hTO 0 0 6))), ((ha 4), .inl (d 0, 6, .inl (va_cpy oWE hWE 0 0 6))), ((ha 5), .inl (d 0, 6, .inl (va_cpy oHE hHE 0 0 6))), ((ha 6), .inl (d 0, 6, .inl (va_cpy oRA hRA 0 0 6))), oH oa ofl oro orp oca owy ola omi otf otk, ((oa 1), .inl (d 0, 6, .inl oHO)), ((oa 2), .inl (d 0, 6, .inl oAT)), ((oa 3), .inl (d 0, 6, .inl oTO)), ((oa 4), .inl (d 0, 6, .inl oWE)), ((oa 5), .inl (d 0, 6, .inl oHE)), ((oa 6), .inl (d 0, 6, .inl oRA))] H locs := ⟨hP, hD, hS⟩
  refine lv_aload_n hx hb dX1_become_152 rfl (lv_at hl 0 rfl) ?_
  have hf := sm_e hf
  subst hf
  exact x_retA cx hw (Or.inl ⟨_, rfl⟩) () trivial [0, 1, 2, 3, 4, 5, 6, 7, 8, 9, 10, 11, 12, 13] rfl rfl (Nat.le_of_ble_eq_true rfl) (Nat.le_of_ble_eq_true rfl) dX1_become_153
