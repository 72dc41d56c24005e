set_option maxRecDepth 100000
def fX1_many_w (lN : Int32) : Option (Int32) :=
  some lN
def fX0_dishBy (p0 : Int32) : Option Nat :=
  if p0 = 0 then
    some 0
  else
    if p0 = 1 then
      some 1
    else
      if p0 = 2 then
        some 2
      else
        if p0 = 3 then
          some 3
        else
          some 4
theorem dishBy_lt {p0 : Int32} {k : Nat} (h : fX0_dishBy p0 = some k) : k < 5 := by
  unfold fX0_dishBy at h
  repeat
    split at h
    · cases h; decide
  cases h; decide
def fX12_dish_0 (mfl : Int32) (mAT : Nat → Int32) (mTO : Nat → Int32) (mWE : Nat → Int32) (mHE : Nat → Int32) (rz : Int32) (rat : Int32) (rtk : Int32) (rfr : Int32) (rva : Int32) (lm : Int32) (TA : Nat → Int32) : Option ((Int32 × Int32 × (Nat → Int32) × (Nat → Int32) × (Nat → Int32) × (Nat → Int32) × Int32 × Int32 × Int32 × Int32 × Nat × Int32) ⊕ (Int32 × Int32)) :=
  (fX12_sortOf rtk rva).bind fun q1 =>
  (fX1_many_w 0).bind fun q2 =>
  (fX12_begin rz rat rfr TA q2 6).bind fun r4 =>
  match r4 with
  | .inr e6 => some (.inr e6)
  | .inl q5 =>
    (fX12_figure rz q5.1 q5.2.1 q5.2.2.1 q5.2.2.2 TA 0 (mfl - 1)).bind fun r8 =>
    match r8 with
    | .inr e10 => some (.inr e10)
    | .inl q9 =>
      (wr mAT 6 q2 q9.1).bind fun w11 =>
      (fX12_more rz q9.2.1 q9.2.2.1 q9.2.2.2.1 TA 0 (mfl - 1)).bind fun r13 =>
      match r13 with
      | .inr e15 => some (.inr e15)
      | .inl q14 =>
        (wr mTO 6 q2 q14.1).bind fun w16 =>
        (fX12_more rz q14.2.1 q14.2.2.1 q14.2.2.2.1 TA 1 9).bind fun r18 =>
        match r18 with
        | .inr e20 => some (.inr e20)
        | .inl q19 =>
          (wr mWE 6 q2 q19.1).bind fun w21 =>
          (fX12_more rz q19.2.1 q19.2.2.1 q19.2.2.2.1 TA 0 60).bind fun r23 =>
          match r23 with
          | .inr e25 => some (.inr e25)
          | .inl q24 =>
            (wr mHE 6 q2 q24.1).bind fun w26 =>
            (fX0_dishBy q1).bind fun q27 =>
            (fX12_sign rz q24.2.1 q24.2.2.1 q24.2.2.2.1 TA 4).bind fun r31 =>
            match r31 with
            | .inr e33 => some (.inr e33)
            | .inl q32 =>
              some (.inl ((lm + 1), 1, w11, w16, w21, w26, q32.1, q32.2.1, q32.2.2.1, q32.2.2.2, q27, q2))
def fX12_dish_1 (mfl : Int32) (mAT : Nat → Int32) (mTO : Nat → Int32) (mWE : Nat → Int32) (mHE : Nat → Int32) (rz : Int32) (rat : Int32) (rtk : Int32) (rfr : Int32) (rva : Int32) (lm : Int32) (lN : Int32) (TA : Nat → Int32) : Option ((Int32 × Int32 × (Nat → Int32) × (Nat → Int32) × (Nat → Int32) × (Nat → Int32) × Int32 × Int32 × Int32 × Int32 × Nat × Int32) ⊕ (Int32 × Int32)) :=
  (fX12_sortOf rtk rva).bind fun q1 =>
  (fX1_many_w lN).bind fun q2 =>
  (fX12_begin rz rat rfr TA q2 6).bind fun r4 =>
  match r4 with
  | .inr e6 => some (.inr e6)
  | .inl q5 =>
    (fX12_figure rz q5.1 q5.2.1 q5.2.2.1 q5.2.2.2 TA 0 (mfl - 1)).bind fun r8 =>
    match r8 with
    | .inr e10 => some (.inr e10)
    | .inl q9 =>
      (wr mAT 6 q2 q9.1).bind fun w11 =>
      (fX12_more rz q9.2.1 q9.2.2.1 q9.2.2.2.1 TA 0 (mfl - 1)).bind fun r13 =>
      match r13 with
      | .inr e15 => some (.inr e15)
      | .inl q14 =>
        (wr mTO 6 q2 q14.1).bind fun w16 =>
        (fX12_more rz q14.2.1 q14.2.2.1 q14.2.2.2.1 TA 1 9).bind fun r18 =>
        match r18 with
        | .inr e20 => some (.inr e20)
        | .inl q19 =>
          (wr mWE 6 q2 q19.1).bind fun w21 =>
          (fX12_more rz q19.2.1 q19.2.2.1 q19.2.2.2.1 TA 0 60).bind fun r23 =>
          match r23 with
          | .inr e25 => some (.inr e25)
          | .inl q24 =>
            (wr mHE 6 q2 q24.1).bind fun w26 =>
            (fX0_dishBy q1).bind fun q27 =>
            (gix 10 lN).bind fun g29 =>
            (fX12_sign rz q24.2.1 q24.2.2.1 q24.2.2.2.1 TA 4).bind fun r31 =>
            match r31 with
            | .inr e33 => some (.inr e33)
            | .inl q32 =>
              some (.inl ((lm + 1), (lN + 1), w11, w16, w21, w26, q32.1, q32.2.1, q32.2.2.1, q32.2.2.2, q27, q2))
set_option maxHeartbeats 4000000 in
theorem mX1_many_w (l : Launch) (D : va_G) (d : Nat → ClassId) (cs : Nat → Nat) (wi : va_W) (ln : Nat → Option Int32) (lf : Nat → Nat → Option Nat) (dk : Nat → Option Nat) (dn : Nat → Int32) (him : ImF d wi ln lf dk dn) (ma : Nat → Nat) (mla : Nat) (lea : Nat) (mfl : Int32) (mro : Int32) (mrp : Int32) (mca : Int32) (mwy : Int32) (mmi : Int32) (mtf : Int32) (mtk : Option Nat) (mHO : Nat → Int32) (mAT : Nat → Int32) (mTO : Nat → Int32) (mWE : Nat → Int32) (mHE : Nat → Int32) (mRA : Nat → Int32) (lm : Int32) (lN : Int32)  (res : Int32) (hf : fX1_many_w lN = some res) : MetI l yX1_many (ws_ yX1_many cX1_many 1 (some .int)) { frames := 1, cells := 0, slots := 0, locals := 20 } [.ref (ma 0)] (XI D cs wi) D d [(mla, .inr (3, [.int lm, .ref lea, .int lN])), oH ma mfl mro mrp mca mwy mla mmi mtf mtk, ((ma 1), .inl (d 0, 6, .inl mHO)), ((ma 2), .inl (d 0, 6, .inl mAT)), ((ma 3), .inl (d 0, 6, .inl mTO)), ((ma 4), .inl (d 0, 6, .inl mWE)), ((ma 5), .inl (d 0, 6, .inl mHE)), ((ma 6), .inl (d 0, 6, .inl mRA))] (fun r (_ : Unit) => r = res) (fun _ => [(mla, .inr (3, [.int lm, .ref lea, .int lN])), oH ma mfl mro mrp mca mwy mla mmi mtf mtk, ((ma 1), .inl (d 0, 6, .inl mHO)), ((ma 2), .inl (d 0, 6, .inl mAT)), ((ma 3), .inl (d 0, 6, .inl mTO)), ((ma 4), .inl (d 0, 6, .inl mWE)), ((ma 5), .inl (d 0, 6, .inl mHE)), ((ma 6), .inl (d 0, 6, .inl mRA))]) := by
  have hX := XI.ok (D := D) (cs := cs) (wi := wi)
  refine MetI.of (by decide +kernel) (Nat.le_of_ble_eq_true rfl) ?_
  intro p e s m below meth c A cx hw ls hl
  have cx : Cx p s m _ meth c (XI D cs wi) D d A "DishLift$House" cX1_many 1 (some .int) "many" := cx
  have cx' := cx
  obtain ⟨hx, hb, hr, hlk, hml, hown, hts, hK, hA, hXs, hnm⟩ := cx'
  have hl : lv_has ls 1 [(0, .ref (ma 0))] := hl
  generalize hlo : ([] : List Loc) = locs at hw ⊢
  unfold fX1_many_w at hf
  refine lv_aload_n hx hb dX1_many_0 rfl (lv_at hl 0 rfl) ?_
  refine va_get (ci := 2) (C := RX1) (T := TX1) (N := 15) hx hb hts in_X1 hown hK hw.1 1 rfl rfl 5 (by decide) (hts _ q172) (fun _ h9 => h9) rfl dX1_many_1 ?_
  refine x_FIW (n := 0) (x := ⟨"java/util/List", "size", "()I"⟩) (wr := [oH ma mfl mro mrp mca mwy mla mmi mtf mtk, ((ma 1), .inl (d 0, 6, .inl mHO)), ((ma 2), .inl (d 0, 6, .inl mAT)), ((ma 3), .inl (d 0, 6, .inl mTO)), ((ma 4), .inl (d 0, 6, .inl mWE)), ((ma 5), .inl (d 0, 6, .inl mHE)), ((ma 6), .inl (d 0, 6, .inl mRA))]) (rest := []) (C := "java/util/ArrayList") [] hX cx hw hl.1 (hK.1 3 _ rfl).2 (mJ2_size_w l D d cs wi mla lea lm lN) (lw_F q667 q671 q673 q86 q675) (Tb.Fw (by decide) q669 q668 q674 q672 q670 hXs.1) ⟨by decide, by decide, by decide +kernel⟩ ⟨(Nat.le_of_ble_eq_true rfl), (Nat.le_of_ble_eq_true rfl)⟩ (va_recv hK hw.1 (ci := 3) (q0 := 0) rfl rfl) rfl rfl (Nat.le_of_ble_eq_true rfl) dX1_many_4 [0] [1, 2, 3, 4, 5, 6, 7] rfl rfl rfl rfl (by decide) ⟨(Nat.le_of_ble_eq_true rfl), (Nat.le_of_ble_eq_true rfl)⟩ (fun r u H locs hp hw => ?_)
  have hw : Wd D A s [oH ma mfl mro mrp mca mwy mla mmi mtf mtk, ((ma 1), .inl (d 0, 6, .inl mHO)), ((ma 2), .inl (d 0, 6, .inl mAT)), ((ma 3), .inl (d 0, 6, .inl mTO)), ((ma 4), .inl (d 0, 6, .inl mWE)), ((ma 5), .inl (d 0, 6, .inl mHE)), ((ma 6), .inl (d 0, 6, .inl mRA)), (mla, .inr (3, [.int lm, .ref lea, .int lN]))] H locs := hw
  subst r
  have hf := sm_e hf
  subst hf
  exact x_retI cx hw rfl () rfl [7, 0, 1, 2, 3, 4, 5, 6] rfl rfl (Nat.le_of_ble_eq_true rfl) (Nat.le_of_ble_eq_true rfl) dX1_many_9
theorem hd_X0_dishBy : yX0_dishBy.cls ≠ "java/lang/invoke/MethodHandle" ∧ yX0_dishBy.cls ≠ "java/lang/invoke/VarHandle" ∧ (parseMethodDescriptor yX0_dishBy.desc).map (fun d => d.parameters.length) = some 2 := by decide +kernel
set_option maxHeartbeats 4000000 in
theorem mX0_dishBy (l : Launch) (D : va_G) (d : Nat → ClassId) (cs : Nat → Nat) (wi : va_W) (p0 p1 : Int32) (res : Nat) (hf : fX0_dishBy p0 = some res) : MetR l yX0_dishBy (ws_ yX0_dishBy cX0_dishBy 2 (some (.object "DishLift$Dish"))) { frames := 4, cells := 1, slots := 1, locals := 160 } [.int p0, .int p1] (XI D cs wi) D d [] (fun (_ : Unit) => True) (fun _ ra9 => [(ra9, .inr (5 + res, [.int p1]))]) := by
  have hX := XI.ok (D := D) (cs := cs) (wi := wi)
  refine MetR.of (by decide +kernel) (Nat.le_of_ble_eq_true rfl) ?_
  intro p e s m below meth c A cx hw ls hl
  have cx : Cx p s m _ meth c (XI D cs wi) D d A "DishLift" cX0_dishBy 2 (some (.object "DishLift$Dish")) "dishBy" := cx
  have cx' := cx
  obtain ⟨hx, hb, hr, hlk, hml, hown, hts, hK, hA, hXs, hnm⟩ := cx'
  have hl : lv_has ls 2 [(0, .int p0), (1, .int p1)] := hl
  generalize hlo : ([] : List Loc) = locs at hw ⊢
  unfold fX0_dishBy at hf
  refine lv_iload_n hx hb dX0_dishBy_0 rfl (lv_at hl 0 rfl) ?_
  by_cases n0 : p0 = 0
  · have hf := if_t hf n0
    refine lv_tableIn (tgt := 32) hx hb dX0_dishBy_1 (by rw [n0]; decide) (by rw [n0]; decide) (by rw [n0]; rfl) (by decide) ?_
    refine va_new (ci := 5) (fs := [.int 0]) (C := RX4) (T := TX4) (N := 1) hx hb hts in_X4 tyX4 tyX4_ok hown (hts _ q249) (hts _ q250) (hts _ q89) hK hw.1 hw.2.1 hw.2.2 hA rfl (fun j hj => match j, hj with | 0, _ => rfl | j + 1, hj => absurd hj (by omega)) (Nat.le_of_ble_eq_true rfl) (Nat.le_of_ble_eq_true rfl) dX0_dishBy_32 (fun a1 H hP hD hS => ?_)
    have hw : Wd D A s [(a1, .inr (5, [.int 0]))] H locs := ⟨hP, hD, hS⟩
    refine W.widen (k := 1) (n := 1) (Nat.le_of_ble_eq_true rfl) (Nat.le_of_ble_eq_true rfl) ?_
    refine lv_dup hx hb dX0_dishBy_35 rfl ?_
    refine lv_iload_n hx hb dX0_dishBy_36 rfl (lv_at hl 1 rfl) ?_
    refine x_NV (wr := []) (rest := [.ref a1]) [.int p1] hX cx hw hl.1 (mX4_init_X4 l (XI D cs wi) hX D d a1 p1 ) q253 q89 q251 q252 rfl hd_X4_init ⟨(Nat.le_of_ble_eq_true rfl), (Nat.le_of_ble_eq_true rfl)⟩ rfl rfl (Nat.le_of_ble_eq_true rfl) dX0_dishBy_37 [0] [] rfl rfl rfl rfl (by decide) ⟨(Nat.le_of_ble_eq_true rfl), (Nat.le_of_ble_eq_true rfl)⟩ (fun u H locs hp hw => ?_)
    have hw : Wd D A s [(a1, .inr (5, [.int p1]))] H locs := hw
    refine W.widen (k := 1) (n := 1) (Nat.le_of_ble_eq_true rfl) (Nat.le_of_ble_eq_true rfl) ?_
    have hf := sm_e hf
    subst hf
    exact x_retR cx hw (Or.inl ⟨_, rfl⟩) () trivial [0] rfl rfl (Nat.le_of_ble_eq_true rfl) (Nat.le_of_ble_eq_true rfl) dX0_dishBy_40
  · have hf := if_f hf n0
    by_cases n1 : p0 = 1
    · have hf := if_t hf n1
      refine lv_tableIn (tgt := 41) hx hb dX0_dishBy_1 (by rw [n1]; decide) (by rw [n1]; decide) (by rw [n1]; rfl) (by decide) ?_
      refine va_new (ci := 6) (fs := [.int 0]) (C := RX5) (T := TX5) (N := 1) hx hb hts in_X5 tyX5 tyX5_ok hown (hts _ q262) (hts _ q263) (hts _ q90) hK hw.1 hw.2.1 hw.2.2 hA rfl (fun j hj => match j, hj with | 0, _ => rfl | j + 1, hj => absurd hj (by omega)) (Nat.le_of_ble_eq_true rfl) (Nat.le_of_ble_eq_true rfl) dX0_dishBy_41 (fun a2 H hP hD hS => ?_)
      have hw : Wd D A s [(a2, .inr (6, [.int 0]))] H locs := ⟨hP, hD, hS⟩
      refine W.widen (k := 1) (n := 1) (Nat.le_of_ble_eq_true rfl) (Nat.le_of_ble_eq_true rfl) ?_
      refine lv_dup hx hb dX0_dishBy_44 rfl ?_
      refine lv_iload_n hx hb dX0_dishBy_45 rfl (lv_at hl 1 rfl) ?_
      refine x_NV (wr := []) (rest := [.ref a2]) [.int p1] hX cx hw hl.1 (mX5_init l (XI D cs wi) hX D d a2 p1 ) q266 q90 q264 q265 rfl hd_X5_init ⟨(Nat.le_of_ble_eq_true rfl), (Nat.le_of_ble_eq_true rfl)⟩ rfl rfl (Nat.le_of_ble_eq_true rfl) dX0_dishBy_46 [0] [] rfl rfl rfl rfl (by decide) ⟨(Nat.le_of_ble_eq_true rfl), (Nat.le_of_ble_eq_true rfl)⟩ (fun u H locs hp hw => ?_)
      have hw : Wd D A s [(a2, .inr (6, [.int p1]))] H locs := hw
      refine W.widen (k := 1) (n := 1) (Nat.le_of_ble_eq_true rfl) (Nat.le_of_ble_eq_true rfl) ?_
      have hf := sm_e hf
      subst hf
      exact x_retR cx hw (Or.inl ⟨_, rfl⟩) () trivial [0] rfl rfl (Nat.le_of_ble_eq_true rfl) (Nat.le_of_ble_eq_true rfl) dX0_dishBy_49
    · have hf := if_f hf n1
      by_cases n2 : p0 = 2
      · have hf := if_t hf n2
        refine lv_tableIn (tgt := 50) hx hb dX0_dishBy_1 (by rw [n2]; decide) (by rw [n2]; decide) (by rw [n2]; rfl) (by decide) ?_
        refine va_new (ci := 7) (fs := [.int 0]) (C := RX6) (T := TX6) (N := 1) hx hb hts in_X6 tyX6 tyX6_ok hown (hts _ q270) (hts _ q271) (hts _ q91) hK hw.1 hw.2.1 hw.2.2 hA rfl (fun j hj => match j, hj with | 0, _ => rfl | j + 1, hj => absurd hj (by omega)) (Nat.le_of_ble_eq_true rfl) (Nat.le_of_ble_eq_true rfl) dX0_dishBy_50 (fun a3 H hP hD hS => ?_)
        have hw : Wd D A s [(a3, .inr (7, [.int 0]))] H locs := ⟨hP, hD, hS⟩
        refine W.widen (k := 1) (n := 1) (Nat.le_of_ble_eq_true rfl) (Nat.le_of_ble_eq_true rfl) ?_
        refine lv_dup hx hb dX0_dishBy_53 rfl ?_
        refine lv_iload_n hx hb dX0_dishBy_54 rfl (lv_at hl 1 rfl) ?_
        refine x_NV (wr := []) (rest := [.ref a3]) [.int p1] hX cx hw hl.1 (mX6_init l (XI D cs wi) hX D d a3 p1 ) q274 q91 q272 q273 rfl hd_X6_init ⟨(Nat.le_of_ble_eq_true rfl), (Nat.le_of_ble_eq_true rfl)⟩ rfl rfl (Nat.le_of_ble_eq_true rfl) dX0_dishBy_55 [0] [] rfl rfl rfl rfl (by decide) ⟨(Nat.le_of_ble_eq_true rfl), (Nat.le_of_ble_eq_true rfl)⟩ (fun u H locs hp hw => ?_)
        have hw : Wd D A s [(a3, .inr (7, [.int p1]))] H locs := hw
        refine W.widen (k := 1) (n := 1) (Nat.le_of_ble_eq_true rfl) (Nat.le_of_ble_eq_true rfl) ?_
        have hf := sm_e hf
        subst hf
        exact x_retR cx hw (Or.inl ⟨_, rfl⟩) () trivial [0] rfl rfl (Nat.le_of_ble_eq_true rfl) (Nat.le_of_ble_eq_true rfl) dX0_dishBy_58
      · have hf := if_f hf n2
        by_cases n3 : p0 = 3
        · have hf := if_t hf n3
          refine lv_tableIn (tgt := 59) hx hb dX0_dishBy_1 (by rw [n3]; decide) (by rw [n3]; decide) (by rw [n3]; rfl) (by decide) ?_
          refine va_new (ci := 8) (fs := [.int 0]) (C := RX7) (T := TX7) (N := 1) hx hb hts in_X7 tyX7 tyX7_ok hown (hts _ q278) (hts _ q279) (hts _ q92) hK hw.1 hw.2.1 hw.2.2 hA rfl (fun j hj => match j, hj with | 0, _ => rfl | j + 1, hj => absurd hj (by omega)) (Nat.le_of_ble_eq_true rfl) (Nat.le_of_ble_eq_true rfl) dX0_dishBy_59 (fun a4 H hP hD hS => ?_)
          have hw : Wd D A s [(a4, .inr (8, [.int 0]))] H locs := ⟨hP, hD, hS⟩
          refine W.widen (k := 1) (n := 1) (Nat.le_of_ble_eq_true rfl) (Nat.le_of_ble_eq_true rfl) ?_
          refine lv_dup hx hb dX0_dishBy_62 rfl ?_
          refine lv_iload_n hx hb dX0_dishBy_63 rfl (lv_at hl 1 rfl) ?_
          refine x_NV (wr := []) (rest := [.ref a4]) [.int p1] hX cx hw hl.1 (mX7_init_X7 l (XI D cs wi) hX D d a4 p1 ) q282 q92 q280 q281 rfl hd_X7_init ⟨(Nat.le_of_ble_eq_true rfl), (Nat.le_of_ble_eq_true rfl)⟩ rfl rfl (Nat.le_of_ble_eq_true rfl) dX0_dishBy_64 [0] [] rfl rfl rfl rfl (by decide) ⟨(Nat.le_of_ble_eq_true rfl), (Nat.le_of_ble_eq_true rfl)⟩ (fun u H locs hp hw => ?_)
          have hw : Wd D A s [(a4, .inr (8, [.int p1]))] H locs := hw
          refine W.widen (k := 1) (n := 1) (Nat.le_of_ble_eq_true rfl) (Nat.le_of_ble_eq_true rfl) ?_
          have hf := sm_e hf
          subst hf
          exact x_retR cx hw (Or.inl ⟨_, rfl⟩) () trivial [0] rfl rfl (Nat.le_of_ble_eq_true rfl) (Nat.le_of_ble_eq_true rfl) dX0_dishBy_67
        · have hf := if_f hf n3
          have t0 := lv_neT (a := 0) n0 (by decide)
          have t1 := lv_neT (a := 1) n1 (by decide)
          have t2 := lv_neT (a := 2) n2 (by decide)
          have t3 := lv_neT (a := 3) n3 (by decide)
          refine lv_tableOut (tgt := 68) hx hb dX0_dishBy_1 (by omega) (by decide) ?_
          refine va_new (ci := 9) (fs := [.int 0]) (C := RX8) (T := TX8) (N := 1) hx hb hts in_X8 tyX8 tyX8_ok hown (hts _ q286) (hts _ q287) (hts _ q93) hK hw.1 hw.2.1 hw.2.2 hA rfl (fun j hj => match j, hj with | 0, _ => rfl | j + 1, hj => absurd hj (by omega)) (Nat.le_of_ble_eq_true rfl) (Nat.le_of_ble_eq_true rfl) dX0_dishBy_68 (fun a5 H hP hD hS => ?_)
          have hw : Wd D A s [(a5, .inr (9, [.int 0]))] H locs := ⟨hP, hD, hS⟩
          refine W.widen (k := 1) (n := 1) (Nat.le_of_ble_eq_true rfl) (Nat.le_of_ble_eq_true rfl) ?_
          refine lv_dup hx hb dX0_dishBy_71 rfl ?_
          refine lv_iload_n hx hb dX0_dishBy_72 rfl (lv_at hl 1 rfl) ?_
          refine x_NV (wr := []) (rest := [.ref a5]) [.int p1] hX cx hw hl.1 (mX8_init l (XI D cs wi) hX D d a5 p1 ) q290 q93 q288 q289 rfl hd_X8_init ⟨(Nat.le_of_ble_eq_true rfl), (Nat.le_of_ble_eq_true rfl)⟩ rfl rfl (Nat.le_of_ble_eq_true rfl) dX0_dishBy_73 [0] [] rfl rfl rfl rfl (by decide) ⟨(Nat.le_of_ble_eq_true rfl), (Nat.le_of_ble_eq_true rfl)⟩ (fun u H locs hp hw => ?_)
          have hw : Wd D A s [(a5, .inr (9, [.int p1]))] H locs := hw
          refine W.widen (k := 1) (n := 1) (Nat.le_of_ble_eq_true rfl) (Nat.le_of_ble_eq_true rfl) ?_
          have hf := sm_e hf
          subst hf
          exact x_retR cx hw (Or.inl ⟨_, rfl⟩) () trivial [0] rfl rfl (Nat.le_of_ble_eq_true rfl) (Nat.le_of_ble_eq_true rfl) dX0_dishBy_76
theorem hd_X12_dish : yX12_dish.cls = "DishLift$Reader" ∧ yX12_dish.cls ≠ "java/lang/invoke/MethodHandle" ∧ yX12_dish.cls ≠ "java/lang/invoke/VarHandle" ∧ (parseMethodDescriptor yX12_dish.desc).map (fun d => d.parameters.length) = some 0 := by decide +kernel
set_option maxHeartbeats 4000000 in
theorem mX12_dish_0 (l : Launch) (D : va_G) (d : Nat → ClassId) (cs : Nat → Nat) (wi : va_W) (ln : Nat → Option Int32) (lf : Nat → Nat → Option Nat) (dk : Nat → Option Nat) (dn : Nat → Int32) (him : ImF d wi ln lf dk dn) (ma : Nat → Nat) (ra : Nat) (mla : Nat) (sa : Nat → Nat) (mfl : Int32) (mro : Int32) (mrp : Int32) (mca : Int32) (mwy : Int32) (mmi : Int32) (mtf : Int32) (mtk : Option Nat) (mHO : Nat → Int32) (mAT : Nat → Int32) (mTO : Nat → Int32) (mWE : Nat → Int32) (mHE : Nat → Int32) (mRA : Nat → Int32) (rz : Int32) (rat : Int32) (rtk : Int32) (rfr : Int32) (rva : Int32) (lm : Int32) (TA : Nat → Int32) (hstr : StrF d cs wi) (hemp : EmpF d cs wi) (res : Int32 × Int32 × (Nat → Int32) × (Nat → Int32) × (Nat → Int32) × (Nat → Int32) × Int32 × Int32 × Int32 × Int32 × Nat × Int32) (hf : fX12_dish_0 mfl mAT mTO mWE mHE rz rat rtk rfr rva lm TA = some (.inl res)) : MetV l yX12_dish (ws_ yX12_dish cX12_dish 3 none) { frames := 7, cells := 2, slots := 11, locals := 181 } [.ref ra] (XI D cs wi) D d [(mla, .inr (3, [.int lm, .ref (cs 0), .int 0])), oH ma mfl mro mrp mca mwy mla mmi mtf mtk, ((ma 1), .inl (d 0, 6, .inl mHO)), ((ma 2), .inl (d 0, 6, .inl mAT)), ((ma 3), .inl (d 0, 6, .inl mTO)), ((ma 4), .inl (d 0, 6, .inl mWE)), ((ma 5), .inl (d 0, 6, .inl mHE)), ((ma 6), .inl (d 0, 6, .inl mRA)), (ra, .inr (11, [.ref (sa 2), .int rz, .int rat, .int rtk, .int rfr, .int rva, .ref (ma 0)])), ((sa 2), .inl (d 1, 110, .inl TA))] (fun (_ : Nat × Nat) => True) (fun (u : Nat × Nat) => [(mla, .inr (3, [.int res.1, .ref u.2, .int res.2.1])), oH ma mfl mro mrp mca mwy mla mmi mtf mtk, ((ma 1), .inl (d 0, 6, .inl mHO)), ((ma 2), .inl (d 0, 6, .inl res.2.2.1)), ((ma 3), .inl (d 0, 6, .inl res.2.2.2.1)), ((ma 4), .inl (d 0, 6, .inl res.2.2.2.2.1)), ((ma 5), .inl (d 0, 6, .inl res.2.2.2.2.2.1)), ((ma 6), .inl (d 0, 6, .inl mRA)), (ra, .inr (11, [.ref (sa 2), .int rz, .int res.2.2.2.2.2.2.1, .int res.2.2.2.2.2.2.2.1, .int res.2.2.2.2.2.2.2.2.1, .int res.2.2.2.2.2.2.2.2.2.1, .ref (ma 0)])), ((sa 2), .inl (d 1, 110, .inl TA)), (u.1, .inr (5 + res.2.2.2.2.2.2.2.2.2.2.1, [.int res.2.2.2.2.2.2.2.2.2.2.2])), (u.2, .inl (d 6, 10, .inr (.inr (.inr (.inr (va_up (fun _ => none) 0 (some u.1)))))))]) := by
  have hX := XI.ok (D := D) (cs := cs) (wi := wi)
  refine MetV.of (by decide +kernel) (Nat.le_of_ble_eq_true rfl) ?_
  intro p e s m below meth c A cx hw ls hl
  have cx : Cx p s m _ meth c (XI D cs wi) D d A "DishLift$Reader" cX12_dish 3 none "dish" := cx
  have cx' := cx
  obtain ⟨hx, hb, hr, hlk, hml, hown, hts, hK, hA, hXs, hnm⟩ := cx'
  have hl : lv_has ls 3 [(0, .ref ra)] := hl
  generalize hlo : ([] : List Loc) = locs at hw ⊢
  unfold fX12_dish_0 at hf
  refine lv_aload_n hx hb dX12_dish_0 rfl (lv_at hl 0 rfl) ?_
  refine va_ldcS hx hb hown hXs.2.1.2.2.2.2.2 dX12_dish_1 ?_
  obtain ⟨q1, hcq1, hf⟩ := op_e hf
  refine x_VI (wr := [(mla, .inr (3, [.int lm, .ref (cs 0), .int 0])), oH ma mfl mro mrp mca mwy mla mmi mtf mtk, ((ma 1), .inl (d 0, 6, .inl mHO)), ((ma 2), .inl (d 0, 6, .inl mAT)), ((ma 3), .inl (d 0, 6, .inl mTO)), ((ma 4), .inl (d 0, 6, .inl mWE)), ((ma 5), .inl (d 0, 6, .inl mHE)), ((ma 6), .inl (d 0, 6, .inl mRA)), ((sa 2), .inl (d 1, 110, .inl TA))]) (rest := []) [.ref (cs 1)] hX cx hw hl.1 (mX12_sortOf l  D d cs wi ln lf dk dn him ra sa ma rz rat rtk rfr rva hstr q1 hcq1) (lw_V q603 q605 qs11 q104 q606) hd_X12_sortOf ⟨(Nat.le_of_ble_eq_true rfl), (Nat.le_of_ble_eq_true rfl)⟩ (va_recv hK hw.1 (ci := 11) (q0 := 8) rfl rfl) rfl rfl (Nat.le_of_ble_eq_true rfl) dX12_dish_3 [8] [0, 1, 2, 3, 4, 5, 6, 7, 9] rfl rfl rfl rfl (by decide) ⟨(Nat.le_of_ble_eq_true rfl), (Nat.le_of_ble_eq_true rfl)⟩ (fun r u H locs hp hw => ?_)
  have hw : Wd D A s [(mla, .inr (3, [.int lm, .ref (cs 0), .int 0])), oH ma mfl mro mrp mca mwy mla mmi mtf mtk, ((ma 1), .inl (d 0, 6, .inl mHO)), ((ma 2), .inl (d 0, 6, .inl mAT)), ((ma 3), .inl (d 0, 6, .inl mTO)), ((ma 4), .inl (d 0, 6, .inl mWE)), ((ma 5), .inl (d 0, 6, .inl mHE)), ((ma 6), .inl (d 0, 6, .inl mRA)), ((sa 2), .inl (d 1, 110, .inl TA)), (ra, .inr (11, [.ref (sa 2), .int rz, .int rat, .int rtk, .int rfr, .int rva, .ref (ma 0)]))] H locs := hw
  subst r
  refine lv_istore_n (lv' := [(1, .int q1), (0, .ref ra)]) hx hb dX12_dish_6 rfl hl (by decide) rfl (fun ls hl => ?_)
  refine lv_aload_n hx hb dX12_dish_7 rfl (lv_at hl 1 rfl) ?_
  refine va_get (ci := 11) (C := RX12) (T := TX12) (N := 7) hx hb hts in_X12 hown hK hw.1 9 rfl rfl 6 (by decide) (hts _ q524) (fun _ h9 => h9) rfl dX12_dish_8 ?_
  obtain ⟨q2, hcq2, hf⟩ := op_e hf
  refine x_VI (wr := [((sa 2), .inl (d 1, 110, .inl TA)), (ra, .inr (11, [.ref (sa 2), .int rz, .int rat, .int rtk, .int rfr, .int rva, .ref (ma 0)]))]) (rest := []) [] hX cx hw hl.1 (mX1_many_w l  D d cs wi ln lf dk dn him ma mla (cs 0) mfl mro mrp mca mwy mmi mtf mtk mHO mAT mTO mWE mHE mRA lm 0  q2 hcq2) (lw_V q662 q663 q664 q83 q665) hd_X1_many ⟨(Nat.le_of_ble_eq_true rfl), (Nat.le_of_ble_eq_true rfl)⟩ (va_recv hK hw.1 (ci := 2) (q0 := 1) rfl rfl) rfl rfl (Nat.le_of_ble_eq_true rfl) dX12_dish_11 [0, 1, 2, 3, 4, 5, 6, 7] [8, 9] rfl rfl rfl rfl (by decide) ⟨(Nat.le_of_ble_eq_true rfl), (Nat.le_of_ble_eq_true rfl)⟩ (fun r u H locs hp hw => ?_)
  have hw : Wd D A s [((sa 2), .inl (d 1, 110, .inl TA)), (ra, .inr (11, [.ref (sa 2), .int rz, .int rat, .int rtk, .int rfr, .int rva, .ref (ma 0)])), (mla, .inr (3, [.int lm, .ref (cs 0), .int 0])), oH ma mfl mro mrp mca mwy mla mmi mtf mtk, ((ma 1), .inl (d 0, 6, .inl mHO)), ((ma 2), .inl (d 0, 6, .inl mAT)), ((ma 3), .inl (d 0, 6, .inl mTO)), ((ma 4), .inl (d 0, 6, .inl mWE)), ((ma 5), .inl (d 0, 6, .inl mHE)), ((ma 6), .inl (d 0, 6, .inl mRA))] H locs := hw
  subst r
  refine lv_istore_n (lv' := [(2, .int q2), (1, .int q1), (0, .ref ra)]) hx hb dX12_dish_14 rfl hl (by decide) rfl (fun ls hl => ?_)
  refine lv_aload_n hx hb dX12_dish_15 rfl (lv_at hl 2 rfl) ?_
  refine lv_iload_n hx hb dX12_dish_16 rfl (lv_at hl 0 rfl) ?_
  refine lv_bipush (v := 6) hx hb dX12_dish_17 (by decide) ?_
  obtain ⟨r4, hcr4, hf⟩ := op_e hf
  rcases r4 with q5 | e6
  · refine x_VV (wr := [(mla, .inr (3, [.int lm, .ref (cs 0), .int 0])), oH ma mfl mro mrp mca mwy mla mmi mtf mtk, ((ma 1), .inl (d 0, 6, .inl mHO)), ((ma 2), .inl (d 0, 6, .inl mAT)), ((ma 3), .inl (d 0, 6, .inl mTO)), ((ma 4), .inl (d 0, 6, .inl mWE)), ((ma 5), .inl (d 0, 6, .inl mHE)), ((ma 6), .inl (d 0, 6, .inl mRA))]) (rest := []) [.int q2, .int 6] hX cx hw hl.1 (mX12_begin l D d cs wi ln lf dk dn him ra sa ma rz rat rtk rfr rva TA q2 6  q5 hcr4) (lw_V q676 q678 qs13 q104 q679) hd_X12_begin ⟨(Nat.le_of_ble_eq_true rfl), (Nat.le_of_ble_eq_true rfl)⟩ (va_recv hK hw.1 (ci := 11) (q0 := 1) rfl rfl) rfl rfl (Nat.le_of_ble_eq_true rfl) dX12_dish_19 [1, 0] [2, 3, 4, 5, 6, 7, 8, 9] rfl rfl rfl rfl (by decide) ⟨(Nat.le_of_ble_eq_true rfl), (Nat.le_of_ble_eq_true rfl)⟩ (fun u H locs hp hw => ?_)
    have hw : Wd D A s [(mla, .inr (3, [.int lm, .ref (cs 0), .int 0])), oH ma mfl mro mrp mca mwy mla mmi mtf mtk, ((ma 1), .inl (d 0, 6, .inl mHO)), ((ma 2), .inl (d 0, 6, .inl mAT)), ((ma 3), .inl (d 0, 6, .inl mTO)), ((ma 4), .inl (d 0, 6, .inl mWE)), ((ma 5), .inl (d 0, 6, .inl mHE)), ((ma 6), .inl (d 0, 6, .inl mRA)), (ra, .inr (11, [.ref (sa 2), .int rz, .int q5.1, .int q5.2.1, .int q5.2.2.1, .int q5.2.2.2, .ref (ma 0)])), ((sa 2), .inl (d 1, 110, .inl TA))] H locs := hw
    refine lv_aload_n hx hb dX12_dish_22 rfl (lv_at hl 2 rfl) ?_
    refine va_get (ci := 11) (C := RX12) (T := TX12) (N := 7) hx hb hts in_X12 hown hK hw.1 8 rfl rfl 6 (by decide) (hts _ q524) (fun _ h9 => h9) rfl dX12_dish_23 ?_
    refine va_get (ci := 2) (C := RX1) (T := TX1) (N := 15) hx hb hts in_X1 hown hK hw.1 1 rfl rfl 7 (by decide) (hts _ q178) (fun _ h9 => h9) rfl dX12_dish_26 ?_
    refine lv_iload_n hx hb dX12_dish_29 rfl (lv_at hl 0 rfl) ?_
    refine lv_aload_n hx hb dX12_dish_30 rfl (lv_at hl 2 rfl) ?_
    refine lv_iconst (v := 0) hx hb dX12_dish_31 (by decide) ?_
    refine lv_aload_n hx hb dX12_dish_32 rfl (lv_at hl 2 rfl) ?_
    refine va_get (ci := 11) (C := RX12) (T := TX12) (N := 7) hx hb hts in_X12 hown hK hw.1 8 rfl rfl 6 (by decide) (hts _ q524) (fun _ h9 => h9) rfl dX12_dish_33 ?_
    refine va_get (ci := 2) (C := RX1) (T := TX1) (N := 15) hx hb hts in_X1 hown hK hw.1 1 rfl rfl 0 (by decide) (hts _ q160) (fun _ h9 => h9) rfl dX12_dish_36 ?_
    refine lv_iconst (v := 1) hx hb dX12_dish_39 (by decide) ?_
    refine lv_isub hx hb dX12_dish_40 ?_
    obtain ⟨r8, hcr8, hf⟩ := op_e hf
    rcases r8 with q9 | e10
    · refine x_VI (wr := [(mla, .inr (3, [.int lm, .ref (cs 0), .int 0])), oH ma mfl mro mrp mca mwy mla mmi mtf mtk, ((ma 1), .inl (d 0, 6, .inl mHO)), ((ma 2), .inl (d 0, 6, .inl mAT)), ((ma 3), .inl (d 0, 6, .inl mTO)), ((ma 4), .inl (d 0, 6, .inl mWE)), ((ma 5), .inl (d 0, 6, .inl mHE)), ((ma 6), .inl (d 0, 6, .inl mRA))]) (rest := [.int q2, .ref (ma 2)]) [.int 0, .int (mfl - 1)] hX cx hw hl.1 (mX12_figure l D d cs wi ln lf dk dn him ra sa ma rz q5.1 q5.2.1 q5.2.2.1 q5.2.2.2 TA 0 (mfl - 1)  q9 hcr8) (lw_V q590 q592 qs8 q104 q593) hd_X12_figure ⟨(Nat.le_of_ble_eq_true rfl), (Nat.le_of_ble_eq_true rfl)⟩ (va_recv hK hw.1 (ci := 11) (q0 := 8) rfl rfl) rfl rfl (Nat.le_of_ble_eq_true rfl) dX12_dish_41 [8, 9] [0, 1, 2, 3, 4, 5, 6, 7] rfl rfl rfl rfl (by decide) ⟨(Nat.le_of_ble_eq_true rfl), (Nat.le_of_ble_eq_true rfl)⟩ (fun r u H locs hp hw => ?_)
      have hw : Wd D A s [(mla, .inr (3, [.int lm, .ref (cs 0), .int 0])), oH ma mfl mro mrp mca mwy mla mmi mtf mtk, ((ma 1), .inl (d 0, 6, .inl mHO)), ((ma 2), .inl (d 0, 6, .inl mAT)), ((ma 3), .inl (d 0, 6, .inl mTO)), ((ma 4), .inl (d 0, 6, .inl mWE)), ((ma 5), .inl (d 0, 6, .inl mHE)), ((ma 6), .inl (d 0, 6, .inl mRA)), (ra, .inr (11, [.ref (sa 2), .int rz, .int q9.2.1, .int q9.2.2.1, .int q9.2.2.2.1, .int q9.2.2.2.2, .ref (ma 0)])), ((sa 2), .inl (d 1, 110, .inl TA))] H locs := hw
      subst r
      obtain ⟨w11, hrd, hf⟩ := op_e hf
      refine x_iast (q0 := 3) cx hw rfl hrd dX12_dish_44 (fun H locs hw => ?_)
      have hw : Wd D A s [(mla, .inr (3, [.int lm, .ref (cs 0), .int 0])), oH ma mfl mro mrp mca mwy mla mmi mtf mtk, ((ma 1), .inl (d 0, 6, .inl mHO)), ((ma 2), .inl (d 0, 6, .inl w11)), ((ma 3), .inl (d 0, 6, .inl mTO)), ((ma 4), .inl (d 0, 6, .inl mWE)), ((ma 5), .inl (d 0, 6, .inl mHE)), ((ma 6), .inl (d 0, 6, .inl mRA)), (ra, .inr (11, [.ref (sa 2), .int rz, .int q9.2.1, .int q9.2.2.1, .int q9.2.2.2.1, .int q9.2.2.2.2, .ref (ma 0)])), ((sa 2), .inl (d 1, 110, .inl TA))] H locs := hw
      refine lv_aload_n hx hb dX12_dish_45 rfl (lv_at hl 2 rfl) ?_
      refine va_get (ci := 11) (C := RX12) (T := TX12) (N := 7) hx hb hts in_X12 hown hK hw.1 8 rfl rfl 6 (by decide) (hts _ q524) (fun _ h9 => h9) rfl dX12_dish_46 ?_
      refine va_get (ci := 2) (C := RX1) (T := TX1) (N := 15) hx hb hts in_X1 hown hK hw.1 1 rfl rfl 8 (by decide) (hts _ q181) (fun _ h9 => h9) rfl dX12_dish_49 ?_
      refine lv_iload_n hx hb dX12_dish_52 rfl (lv_at hl 0 rfl) ?_
      refine lv_aload_n hx hb dX12_dish_53 rfl (lv_at hl 2 rfl) ?_
      refine lv_iconst (v := 0) hx hb dX12_dish_54 (by decide) ?_
      refine lv_aload_n hx hb dX12_dish_55 rfl (lv_at hl 2 rfl) ?_
      refine va_get (ci := 11) (C := RX12) (T := TX12) (N := 7) hx hb hts in_X12 hown hK hw.1 8 rfl rfl 6 (by decide) (hts _ q524) (fun _ h9 => h9) rfl dX12_dish_56 ?_
      refine va_get (ci := 2) (C := RX1) (T := TX1) (N := 15) hx hb hts in_X1 hown hK hw.1 1 rfl rfl 0 (by decide) (hts _ q160) (fun _ h9 => h9) rfl dX12_dish_59 ?_
      refine lv_iconst (v := 1) hx hb dX12_dish_62 (by decide) ?_
      refine lv_isub hx hb dX12_dish_63 ?_
      obtain ⟨r13, hcr13, hf⟩ := op_e hf
      rcases r13 with q14 | e15
      · refine x_VI (wr := [(mla, .inr (3, [.int lm, .ref (cs 0), .int 0])), oH ma mfl mro mrp mca mwy mla mmi mtf mtk, ((ma 1), .inl (d 0, 6, .inl mHO)), ((ma 2), .inl (d 0, 6, .inl w11)), ((ma 3), .inl (d 0, 6, .inl mTO)), ((ma 4), .inl (d 0, 6, .inl mWE)), ((ma 5), .inl (d 0, 6, .inl mHE)), ((ma 6), .inl (d 0, 6, .inl mRA))]) (rest := [.int q2, .ref (ma 3)]) [.int 0, .int (mfl - 1)] hX cx hw hl.1 (mX12_more l D d cs wi ln lf dk dn him ra sa ma rz q9.2.1 q9.2.2.1 q9.2.2.2.1 q9.2.2.2.2 TA 0 (mfl - 1)  q14 hcr13) (lw_V q594 q596 qs9 q104 q597) hd_X12_more ⟨(Nat.le_of_ble_eq_true rfl), (Nat.le_of_ble_eq_true rfl)⟩ (va_recv hK hw.1 (ci := 11) (q0 := 8) rfl rfl) rfl rfl (Nat.le_of_ble_eq_true rfl) dX12_dish_64 [8, 9] [0, 1, 2, 3, 4, 5, 6, 7] rfl rfl rfl rfl (by decide) ⟨(Nat.le_of_ble_eq_true rfl), (Nat.le_of_ble_eq_true rfl)⟩ (fun r u H locs hp hw => ?_)
        have hw : Wd D A s [(mla, .inr (3, [.int lm, .ref (cs 0), .int 0])), oH ma mfl mro mrp mca mwy mla mmi mtf mtk, ((ma 1), .inl (d 0, 6, .inl mHO)), ((ma 2), .inl (d 0, 6, .inl w11)), ((ma 3), .inl (d 0, 6, .inl mTO)), ((ma 4), .inl (d 0, 6, .inl mWE)), ((ma 5), .inl (d 0, 6, .inl mHE)), ((ma 6), .inl (d 0, 6, .inl mRA)), (ra, .inr (11, [.ref (sa 2), .int rz, .int q14.2.1, .int q14.2.2.1, .int q14.2.2.2.1, .int q14.2.2.2.2, .ref (ma 0)])), ((sa 2), .inl (d 1, 110, .inl TA))] H locs := hw
        subst r
        obtain ⟨w16, hrd, hf⟩ := op_e hf
        refine x_iast (q0 := 4) cx hw rfl hrd dX12_dish_67 (fun H locs hw => ?_)
        have hw : Wd D A s [(mla, .inr (3, [.int lm, .ref (cs 0), .int 0])), oH ma mfl mro mrp mca mwy mla mmi mtf mtk, ((ma 1), .inl (d 0, 6, .inl mHO)), ((ma 2), .inl (d 0, 6, .inl w11)), ((ma 3), .inl (d 0, 6, .inl w16)), ((ma 4), .inl (d 0, 6, .inl mWE)), ((ma 5), .inl (d 0, 6, .inl mHE)), ((ma 6), .inl (d 0, 6, .inl mRA)), (ra, .inr (11, [.ref (sa 2), .int rz, .int q14.2.1, .int q14.2.2.1, .int q14.2.2.2.1, .int q14.2.2.2.2, .ref (ma 0)])), ((sa 2), .inl (d 1, 110, .inl TA))] H locs := hw
        refine lv_aload_n hx hb dX12_dish_68 rfl (lv_at hl 2 rfl) ?_
        refine va_get (ci := 11) (C := RX12) (T := TX12) (N := 7) hx hb hts in_X12 hown hK hw.1 8 rfl rfl 6 (by decide) (hts _ q524) (fun _ h9 => h9) rfl dX12_dish_69 ?_
        refine va_get (ci := 2) (C := RX1) (T := TX1) (N := 15) hx hb hts in_X1 hown hK hw.1 1 rfl rfl 9 (by decide) (hts _ q185) (fun _ h9 => h9) rfl dX12_dish_72 ?_
        refine lv_iload_n hx hb dX12_dish_75 rfl (lv_at hl 0 rfl) ?_
        refine lv_aload_n hx hb dX12_dish_76 rfl (lv_at hl 2 rfl) ?_
        refine lv_iconst (v := 1) hx hb dX12_dish_77 (by decide) ?_
        refine lv_bipush (v := 9) hx hb dX12_dish_78 (by decide) ?_
        obtain ⟨r18, hcr18, hf⟩ := op_e hf
        rcases r18 with q19 | e20
        · refine x_VI (wr := [(mla, .inr (3, [.int lm, .ref (cs 0), .int 0])), oH ma mfl mro mrp mca mwy mla mmi mtf mtk, ((ma 1), .inl (d 0, 6, .inl mHO)), ((ma 2), .inl (d 0, 6, .inl w11)), ((ma 3), .inl (d 0, 6, .inl w16)), ((ma 4), .inl (d 0, 6, .inl mWE)), ((ma 5), .inl (d 0, 6, .inl mHE)), ((ma 6), .inl (d 0, 6, .inl mRA))]) (rest := [.int q2, .ref (ma 4)]) [.int 1, .int 9] hX cx hw hl.1 (mX12_more l D d cs wi ln lf dk dn him ra sa ma rz q14.2.1 q14.2.2.1 q14.2.2.2.1 q14.2.2.2.2 TA 1 9  q19 hcr18) (lw_V q594 q596 qs9 q104 q597) hd_X12_more ⟨(Nat.le_of_ble_eq_true rfl), (Nat.le_of_ble_eq_true rfl)⟩ (va_recv hK hw.1 (ci := 11) (q0 := 8) rfl rfl) rfl rfl (Nat.le_of_ble_eq_true rfl) dX12_dish_80 [8, 9] [0, 1, 2, 3, 4, 5, 6, 7] rfl rfl rfl rfl (by decide) ⟨(Nat.le_of_ble_eq_true rfl), (Nat.le_of_ble_eq_true rfl)⟩ (fun r u H locs hp hw => ?_)
          have hw : Wd D A s [(mla, .inr (3, [.int lm, .ref (cs 0), .int 0])), oH ma mfl mro mrp mca mwy mla mmi mtf mtk, ((ma 1), .inl (d 0, 6, .inl mHO)), ((ma 2), .inl (d 0, 6, .inl w11)), ((ma 3), .inl (d 0, 6, .inl w16)), ((ma 4), .inl (d 0, 6, .inl mWE)), ((ma 5), .inl (d 0, 6, .inl mHE)), ((ma 6), .inl (d 0, 6, .inl mRA)), (ra, .inr (11, [.ref (sa 2), .int rz, .int q19.2.1, .int q19.2.2.1, .int q19.2.2.2.1, .int q19.2.2.2.2, .ref (ma 0)])), ((sa 2), .inl (d 1, 110, .inl TA))] H locs := hw
          subst r
          obtain ⟨w21, hrd, hf⟩ := op_e hf
          refine x_iast (q0 := 5) cx hw rfl hrd dX12_dish_83 (fun H locs hw => ?_)
          have hw : Wd D A s [(mla, .inr (3, [.int lm, .ref (cs 0), .int 0])), oH ma mfl mro mrp mca mwy mla mmi mtf mtk, ((ma 1), .inl (d 0, 6, .inl mHO)), ((ma 2), .inl (d 0, 6, .inl w11)), ((ma 3), .inl (d 0, 6, .inl w16)), ((ma 4), .inl (d 0, 6, .inl w21)), ((ma 5), .inl (d 0, 6, .inl mHE)), ((ma 6), .inl (d 0, 6, .inl mRA)), (ra, .inr (11, [.ref (sa 2), .int rz, .int q19.2.1, .int q19.2.2.1, .int q19.2.2.2.1, .int q19.2.2.2.2, .ref (ma 0)])), ((sa 2), .inl (d 1, 110, .inl TA))] H locs := hw
          refine lv_aload_n hx hb dX12_dish_84 rfl (lv_at hl 2 rfl) ?_
          refine va_get (ci := 11) (C := RX12) (T := TX12) (N := 7) hx hb hts in_X12 hown hK hw.1 8 rfl rfl 6 (by decide) (hts _ q524) (fun _ h9 => h9) rfl dX12_dish_85 ?_
          refine va_get (ci := 2) (C := RX1) (T := TX1) (N := 15) hx hb hts in_X1 hown hK hw.1 1 rfl rfl 10 (by decide) (hts _ q189) (fun _ h9 => h9) rfl dX12_dish_88 ?_
          refine lv_iload_n hx hb dX12_dish_91 rfl (lv_at hl 0 rfl) ?_
          refine lv_aload_n hx hb dX12_dish_92 rfl (lv_at hl 2 rfl) ?_
          refine lv_iconst (v := 0) hx hb dX12_dish_93 (by decide) ?_
          refine lv_bipush (v := 60) hx hb dX12_dish_94 (by decide) ?_
          obtain ⟨r23, hcr23, hf⟩ := op_e hf
          rcases r23 with q24 | e25
          · refine x_VI (wr := [(mla, .inr (3, [.int lm, .ref (cs 0), .int 0])), oH ma mfl mro mrp mca mwy mla mmi mtf mtk, ((ma 1), .inl (d 0, 6, .inl mHO)), ((ma 2), .inl (d 0, 6, .inl w11)), ((ma 3), .inl (d 0, 6, .inl w16)), ((ma 4), .inl (d 0, 6, .inl w21)), ((ma 5), .inl (d 0, 6, .inl mHE)), ((ma 6), .inl (d 0, 6, .inl mRA))]) (rest := [.int q2, .ref (ma 5)]) [.int 0, .int 60] hX cx hw hl.1 (mX12_more l D d cs wi ln lf dk dn him ra sa ma rz q19.2.1 q19.2.2.1 q19.2.2.2.1 q19.2.2.2.2 TA 0 60  q24 hcr23) (lw_V q594 q596 qs9 q104 q597) hd_X12_more ⟨(Nat.le_of_ble_eq_true rfl), (Nat.le_of_ble_eq_true rfl)⟩ (va_recv hK hw.1 (ci := 11) (q0 := 8) rfl rfl) rfl rfl (Nat.le_of_ble_eq_true rfl) dX12_dish_96 [8, 9] [0, 1, 2, 3, 4, 5, 6, 7] rfl rfl rfl rfl (by decide) ⟨(Nat.le_of_ble_eq_true rfl), (Nat.le_of_ble_eq_true rfl)⟩ (fun r u H locs hp hw => ?_)
            have hw : Wd D A s [(mla, .inr (3, [.int lm, .ref (cs 0), .int 0])), oH ma mfl mro mrp mca mwy mla mmi mtf mtk, ((ma 1), .inl (d 0, 6, .inl mHO)), ((ma 2), .inl (d 0, 6, .inl w11)), ((ma 3), .inl (d 0, 6, .inl w16)), ((ma 4), .inl (d 0, 6, .inl w21)), ((ma 5), .inl (d 0, 6, .inl mHE)), ((ma 6), .inl (d 0, 6, .inl mRA)), (ra, .inr (11, [.ref (sa 2), .int rz, .int q24.2.1, .int q24.2.2.1, .int q24.2.2.2.1, .int q24.2.2.2.2, .ref (ma 0)])), ((sa 2), .inl (d 1, 110, .inl TA))] H locs := hw
            subst r
            obtain ⟨w26, hrd, hf⟩ := op_e hf
            refine x_iast (q0 := 6) cx hw rfl hrd dX12_dish_99 (fun H locs hw => ?_)
            have hw : Wd D A s [(mla, .inr (3, [.int lm, .ref (cs 0), .int 0])), oH ma mfl mro mrp mca mwy mla mmi mtf mtk, ((ma 1), .inl (d 0, 6, .inl mHO)), ((ma 2), .inl (d 0, 6, .inl w11)), ((ma 3), .inl (d 0, 6, .inl w16)), ((ma 4), .inl (d 0, 6, .inl w21)), ((ma 5), .inl (d 0, 6, .inl w26)), ((ma 6), .inl (d 0, 6, .inl mRA)), (ra, .inr (11, [.ref (sa 2), .int rz, .int q24.2.1, .int q24.2.2.1, .int q24.2.2.2.1, .int q24.2.2.2.2, .ref (ma 0)])), ((sa 2), .inl (d 1, 110, .inl TA))] H locs := hw
            refine lv_aload_n hx hb dX12_dish_100 rfl (lv_at hl 2 rfl) ?_
            refine va_get (ci := 11) (C := RX12) (T := TX12) (N := 7) hx hb hts in_X12 hown hK hw.1 8 rfl rfl 6 (by decide) (hts _ q524) (fun _ h9 => h9) rfl dX12_dish_101 ?_
            refine va_get (ci := 2) (C := RX1) (T := TX1) (N := 15) hx hb hts in_X1 hown hK hw.1 1 rfl rfl 5 (by decide) (hts _ q173) (fun _ h9 => h9) rfl dX12_dish_104 ?_
            refine lv_iload_n hx hb dX12_dish_107 rfl (lv_at hl 1 rfl) ?_
            refine lv_iload_n hx hb dX12_dish_108 rfl (lv_at hl 0 rfl) ?_
            obtain ⟨q27, hcq27, hf⟩ := op_e hf
            refine x_SNR (wr := [(mla, .inr (3, [.int lm, .ref (cs 0), .int 0])), oH ma mfl mro mrp mca mwy mla mmi mtf mtk, ((ma 1), .inl (d 0, 6, .inl mHO)), ((ma 2), .inl (d 0, 6, .inl w11)), ((ma 3), .inl (d 0, 6, .inl w16)), ((ma 4), .inl (d 0, 6, .inl w21)), ((ma 5), .inl (d 0, 6, .inl w26)), ((ma 6), .inl (d 0, 6, .inl mRA)), (ra, .inr (11, [.ref (sa 2), .int rz, .int q24.2.1, .int q24.2.2.1, .int q24.2.2.2.1, .int q24.2.2.2.2, .ref (ma 0)])), ((sa 2), .inl (d 1, 110, .inl TA))]) (rest := [.ref mla]) [.int q1, .int q2] hX cx hw hl.1 (mX0_dishBy l D d cs wi q1 q2 q27 hcq27) q682 (Tb.nestM q680 hXs.1) q681 q82 hd_X0_dishBy ⟨(Nat.le_of_ble_eq_true rfl), (Nat.le_of_ble_eq_true rfl)⟩ rfl rfl (Nat.le_of_ble_eq_true rfl) dX12_dish_109 [] [0, 1, 2, 3, 4, 5, 6, 7, 8, 9] rfl rfl rfl rfl (by decide) ⟨(Nat.le_of_ble_eq_true rfl), (Nat.le_of_ble_eq_true rfl)⟩ (fun u a28 H locs hp hw => ?_)
            have hw : Wd D A s [(mla, .inr (3, [.int lm, .ref (cs 0), .int 0])), oH ma mfl mro mrp mca mwy mla mmi mtf mtk, ((ma 1), .inl (d 0, 6, .inl mHO)), ((ma 2), .inl (d 0, 6, .inl w11)), ((ma 3), .inl (d 0, 6, .inl w16)), ((ma 4), .inl (d 0, 6, .inl w21)), ((ma 5), .inl (d 0, 6, .inl w26)), ((ma 6), .inl (d 0, 6, .inl mRA)), (ra, .inr (11, [.ref (sa 2), .int rz, .int q24.2.1, .int q24.2.2.1, .int q24.2.2.2.1, .int q24.2.2.2.2, .ref (ma 0)])), ((sa 2), .inl (d 1, 110, .inl TA)), (a28, .inr (5 + q27, [.int q2]))] H locs := hw
            refine W.widen (k := 1) (n := 1) (Nat.le_of_ble_eq_true rfl) (Nat.le_of_ble_eq_true rfl) ?_
            refine x_FIW (n := 1) (x := ⟨"java/util/List", "add", "(Ljava/lang/Object;)Z"⟩) (wr := [oH ma mfl mro mrp mca mwy mla mmi mtf mtk, ((ma 1), .inl (d 0, 6, .inl mHO)), ((ma 2), .inl (d 0, 6, .inl w11)), ((ma 3), .inl (d 0, 6, .inl w16)), ((ma 4), .inl (d 0, 6, .inl w21)), ((ma 5), .inl (d 0, 6, .inl w26)), ((ma 6), .inl (d 0, 6, .inl mRA)), (ra, .inr (11, [.ref (sa 2), .int rz, .int q24.2.1, .int q24.2.2.1, .int q24.2.2.2.1, .int q24.2.2.2.2, .ref (ma 0)])), ((sa 2), .inl (d 1, 110, .inl TA))]) (rest := []) (C := "java/util/ArrayList") [.ref a28] hX cx hw hl.1 (hK.1 3 _ rfl).2 (mJ2_add_w0 l D d cs wi hemp mla a28 q27 [.int q2] lm (dishBy_lt hcq27)) (lw_F q684 q687 q689 q86 q691) (Tb.Fw (by decide) q686 q685 q690 q688 q670 hXs.1) ⟨by decide, by decide, by decide +kernel⟩ ⟨(Nat.le_of_ble_eq_true rfl), (Nat.le_of_ble_eq_true rfl)⟩ (va_recv hK hw.1 (ci := 3) (q0 := 0) rfl rfl) rfl rfl (Nat.le_of_ble_eq_true rfl) dX12_dish_112 [0, 10] [1, 2, 3, 4, 5, 6, 7, 8, 9] rfl rfl rfl rfl (by decide) ⟨(Nat.le_of_ble_eq_true rfl), (Nat.le_of_ble_eq_true rfl)⟩ (fun r a29 H locs hp hw => ?_)
            have hw : Wd D A s [oH ma mfl mro mrp mca mwy mla mmi mtf mtk, ((ma 1), .inl (d 0, 6, .inl mHO)), ((ma 2), .inl (d 0, 6, .inl w11)), ((ma 3), .inl (d 0, 6, .inl w16)), ((ma 4), .inl (d 0, 6, .inl w21)), ((ma 5), .inl (d 0, 6, .inl w26)), ((ma 6), .inl (d 0, 6, .inl mRA)), (ra, .inr (11, [.ref (sa 2), .int rz, .int q24.2.1, .int q24.2.2.1, .int q24.2.2.2.1, .int q24.2.2.2.2, .ref (ma 0)])), ((sa 2), .inl (d 1, 110, .inl TA)), (mla, .inr (3, [.int (lm + 1), .ref a29, .int 1])), (a29, .inl (d 6, 10, .inr (.inr (.inr (.inr (va_up (fun _ => none) 0 (some a28))))))), (a28, .inr (5 + q27, [.int q2]))] H locs := hw
            subst r
            refine W.widen (k := 2) (n := 11) (Nat.le_of_ble_eq_true rfl) (Nat.le_of_ble_eq_true rfl) ?_
            refine lv_pop hx hb dX12_dish_117 rfl ?_
            refine lv_aload_n hx hb dX12_dish_118 rfl (lv_at hl 2 rfl) ?_
            refine lv_iconst (v := 4) hx hb dX12_dish_119 (by decide) ?_
            obtain ⟨r31, hcr31, hf⟩ := op_e hf
            rcases r31 with q32 | e33
            · refine x_VV (wr := [oH ma mfl mro mrp mca mwy mla mmi mtf mtk, ((ma 1), .inl (d 0, 6, .inl mHO)), ((ma 2), .inl (d 0, 6, .inl w11)), ((ma 3), .inl (d 0, 6, .inl w16)), ((ma 4), .inl (d 0, 6, .inl w21)), ((ma 5), .inl (d 0, 6, .inl w26)), ((ma 6), .inl (d 0, 6, .inl mRA)), (mla, .inr (3, [.int (lm + 1), .ref a29, .int 1])), (a29, .inl (d 6, 10, .inr (.inr (.inr (.inr (va_up (fun _ => none) 0 (some a28))))))), (a28, .inr (5 + q27, [.int q2]))]) (rest := []) [.int 4] hX cx hw hl.1 (mX12_sign l D d cs wi ln lf dk dn him ra sa ma rz q24.2.1 q24.2.2.1 q24.2.2.2.1 q24.2.2.2.2 TA 4  q32 hcr31) (lw_V q598 q600 qs10 q104 q601) hd_X12_sign ⟨(Nat.le_of_ble_eq_true rfl), (Nat.le_of_ble_eq_true rfl)⟩ (va_recv hK hw.1 (ci := 11) (q0 := 7) rfl rfl) rfl rfl (Nat.le_of_ble_eq_true rfl) dX12_dish_120 [7, 8] [0, 1, 2, 3, 4, 5, 6, 9, 10, 11] rfl rfl rfl rfl (by decide) ⟨(Nat.le_of_ble_eq_true rfl), (Nat.le_of_ble_eq_true rfl)⟩ (fun u H locs hp hw => ?_)
              have hw : Wd D A s [oH ma mfl mro mrp mca mwy mla mmi mtf mtk, ((ma 1), .inl (d 0, 6, .inl mHO)), ((ma 2), .inl (d 0, 6, .inl w11)), ((ma 3), .inl (d 0, 6, .inl w16)), ((ma 4), .inl (d 0, 6, .inl w21)), ((ma 5), .inl (d 0, 6, .inl w26)), ((ma 6), .inl (d 0, 6, .inl mRA)), (mla, .inr (3, [.int (lm + 1), .ref a29, .int 1])), (a29, .inl (d 6, 10, .inr (.inr (.inr (.inr (va_up (fun _ => none) 0 (some a28))))))), (a28, .inr (5 + q27, [.int q2])), (ra, .inr (11, [.ref (sa 2), .int rz, .int q32.1, .int q32.2.1, .int q32.2.2.1, .int q32.2.2.2, .ref (ma 0)])), ((sa 2), .inl (d 1, 110, .inl TA))] H locs := hw
              have hf := Sum.inl.inj (sm_e hf)
              subst hf
              exact x_retV cx hw (a28, a29) trivial [7, 0, 1, 2, 3, 4, 5, 6, 10, 11, 9, 8] rfl rfl (Nat.le_of_ble_eq_true rfl) (Nat.le_of_ble_eq_true rfl) dX12_dish_123
            · have hf : (some (.inr e33) : Option ((Int32 × Int32 × (Nat → Int32) × (Nat → Int32) × (Nat → Int32) × (Nat → Int32) × Int32 × Int32 × Int32 × Int32 × Nat × Int32) ⊕ (Int32 × Int32))) = some (.inl res) := hf
              cases hf
          · have hf : (some (.inr e25) : Option ((Int32 × Int32 × (Nat → Int32) × (Nat → Int32) × (Nat → Int32) × (Nat → Int32) × Int32 × Int32 × Int32 × Int32 × Nat × Int32) ⊕ (Int32 × Int32))) = some (.inl res) := hf
            cases hf
        · have hf : (some (.inr e20) : Option ((Int32 × Int32 × (Nat → Int32) × (Nat → Int32) × (Nat → Int32) × (Nat → Int32) × Int32 × Int32 × Int32 × Int32 × Nat × Int32) ⊕ (Int32 × Int32))) = some (.inl res) := hf
          cases hf
      · have hf : (some (.inr e15) : Option ((Int32 × Int32 × (Nat → Int32) × (Nat → Int32) × (Nat → Int32) × (Nat → Int32) × Int32 × Int32 × Int32 × Int32 × Nat × Int32) ⊕ (Int32 × Int32))) = some (.inl res) := hf
        cases hf
    · have hf : (some (.inr e10) : Option ((Int32 × Int32 × (Nat → Int32) × (Nat → Int32) × (Nat → Int32) × (Nat → Int32) × Int32 × Int32 × Int32 × Int32 × Nat × Int32) ⊕ (Int32 × Int32))) = some (.inl res) := hf
      cases hf
  · have hf : (some (.inr e6) : Option ((Int32 × Int32 × (Nat → Int32) × (Nat → Int32) × (Nat → Int32) × (Nat → Int32) × Int32 × Int32 × Int32 × Int32 × Nat × Int32) ⊕ (Int32 × Int32))) = some (.inl res) := hf
    cases hf
set_option maxHeartbeats 4000000 in
theorem tX12_dish_0 (l : Launch) (D : va_G) (d : Nat → ClassId) (cs : Nat → Nat) (wi : va_W) (ln : Nat → Option Int32) (lf : Nat → Nat → Option Nat) (dk : Nat → Option Nat) (dn : Nat → Int32) (him : ImF d wi ln lf dk dn) (ma : Nat → Nat) (ra : Nat) (mla : Nat) (sa : Nat → Nat) (mfl : Int32) (mro : Int32) (mrp : Int32) (mca : Int32) (mwy : Int32) (mmi : Int32) (mtf : Int32) (mtk : Option Nat) (mHO : Nat → Int32) (mAT : Nat → Int32) (mTO : Nat → Int32) (mWE : Nat → Int32) (mHE : Nat → Int32) (mRA : Nat → Int32) (rz : Int32) (rat : Int32) (rtk : Int32) (rfr : Int32) (rva : Int32) (lm : Int32) (TA : Nat → Int32) (hstr : StrF d cs wi) (hemp : EmpF d cs wi) (res : Int32 × Int32) (hf : fX12_dish_0 mfl mAT mTO mWE mHE rz rat rtk rfr rva lm TA = some (.inr res)) : TMet l yX12_dish (ws_ yX12_dish cX12_dish 3 none) { frames := 7, cells := 3, slots := 19, locals := 181 } [.ref ra] (XI D cs wi) D d [(mla, .inr (3, [.int lm, .ref (cs 0), .int 0])), oH ma mfl mro mrp mca mwy mla mmi mtf mtk, ((ma 1), .inl (d 0, 6, .inl mHO)), ((ma 2), .inl (d 0, 6, .inl mAT)), ((ma 3), .inl (d 0, 6, .inl mTO)), ((ma 4), .inl (d 0, 6, .inl mWE)), ((ma 5), .inl (d 0, 6, .inl mHE)), ((ma 6), .inl (d 0, 6, .inl mRA)), (ra, .inr (11, [.ref (sa 2), .int rz, .int rat, .int rtk, .int rfr, .int rva, .ref (ma 0)])), ((sa 2), .inl (d 1, 110, .inl TA))] "DishLift$Fault" (fun q9 (_ : Unit) => [((sa 2), .inl (d 1, 110, .inl TA)), (q9, .inr (13, [.null, .null, .null, .null, .null, .int 0, .int res.1, .int res.2]))]) := by
  have hX := XI.ok (D := D) (cs := cs) (wi := wi)
  refine TMet.of (by decide +kernel) (Nat.le_of_ble_eq_true rfl) ?_
  intro p e s m below meth c A cx hET hw ls hl
  have cx : Cx p s m _ meth c (XI D cs wi) D d A "DishLift$Reader" cX12_dish 3 none "dish" := cx
  have cx' := cx
  obtain ⟨hx, hb, hr, hlk, hml, hown, hts, hK, hA, hXs, hnm⟩ := cx'
  have hl : lv_has ls 3 [(0, .ref ra)] := hl
  generalize hlo : ([] : List Loc) = locs at hw ⊢
  unfold fX12_dish_0 at hf
  refine lv_aload_n hx hb dX12_dish_0 rfl (lv_at hl 0 rfl) ?_
  refine va_ldcS hx hb hown hXs.2.1.2.2.2.2.2 dX12_dish_1 ?_
  obtain ⟨q1, hcq1, hf⟩ := op_e hf
  refine x_VI (wr := [(mla, .inr (3, [.int lm, .ref (cs 0), .int 0])), oH ma mfl mro mrp mca mwy mla mmi mtf mtk, ((ma 1), .inl (d 0, 6, .inl mHO)), ((ma 2), .inl (d 0, 6, .inl mAT)), ((ma 3), .inl (d 0, 6, .inl mTO)), ((ma 4), .inl (d 0, 6, .inl mWE)), ((ma 5), .inl (d 0, 6, .inl mHE)), ((ma 6), .inl (d 0, 6, .inl mRA)), ((sa 2), .inl (d 1, 110, .inl TA))]) (rest := []) [.ref (cs 1)] hX cx hw hl.1 (mX12_sortOf l  D d cs wi ln lf dk dn him ra sa ma rz rat rtk rfr rva hstr q1 hcq1) (lw_V q603 q605 qs11 q104 q606) hd_X12_sortOf ⟨(Nat.le_of_ble_eq_true rfl), (Nat.le_of_ble_eq_true rfl)⟩ (va_recv hK hw.1 (ci := 11) (q0 := 8) rfl rfl) rfl rfl (Nat.le_of_ble_eq_true rfl) dX12_dish_3 [8] [0, 1, 2, 3, 4, 5, 6, 7, 9] rfl rfl rfl rfl (by decide) ⟨(Nat.le_of_ble_eq_true rfl), (Nat.le_of_ble_eq_true rfl)⟩ (fun r u H locs hp hw => ?_)
  have hw : Wd D A s [(mla, .inr (3, [.int lm, .ref (cs 0), .int 0])), oH ma mfl mro mrp mca mwy mla mmi mtf mtk, ((ma 1), .inl (d 0, 6, .inl mHO)), ((ma 2), .inl (d 0, 6, .inl mAT)), ((ma 3), .inl (d 0, 6, .inl mTO)), ((ma 4), .inl (d 0, 6, .inl mWE)), ((ma 5), .inl (d 0, 6, .inl mHE)), ((ma 6), .inl (d 0, 6, .inl mRA)), ((sa 2), .inl (d 1, 110, .inl TA)), (ra, .inr (11, [.ref (sa 2), .int rz, .int rat, .int rtk, .int rfr, .int rva, .ref (ma 0)]))] H locs := hw
  subst r
  refine lv_istore_n (lv' := [(1, .int q1), (0, .ref ra)]) hx hb dX12_dish_6 rfl hl (by decide) rfl (fun ls hl => ?_)
  refine lv_aload_n hx hb dX12_dish_7 rfl (lv_at hl 1 rfl) ?_
  refine va_get (ci := 11) (C := RX12) (T := TX12) (N := 7) hx hb hts in_X12 hown hK hw.1 9 rfl rfl 6 (by decide) (hts _ q524) (fun _ h9 => h9) rfl dX12_dish_8 ?_
  obtain ⟨q2, hcq2, hf⟩ := op_e hf
  refine x_VI (wr := [((sa 2), .inl (d 1, 110, .inl TA)), (ra, .inr (11, [.ref (sa 2), .int rz, .int rat, .int rtk, .int rfr, .int rva, .ref (ma 0)]))]) (rest := []) [] hX cx hw hl.1 (mX1_many_w l  D d cs wi ln lf dk dn him ma mla (cs 0) mfl mro mrp mca mwy mmi mtf mtk mHO mAT mTO mWE mHE mRA lm 0  q2 hcq2) (lw_V q662 q663 q664 q83 q665) hd_X1_many ⟨(Nat.le_of_ble_eq_true rfl), (Nat.le_of_ble_eq_true rfl)⟩ (va_recv hK hw.1 (ci := 2) (q0 := 1) rfl rfl) rfl rfl (Nat.le_of_ble_eq_true rfl) dX12_dish_11 [0, 1, 2, 3, 4, 5, 6, 7] [8, 9] rfl rfl rfl rfl (by decide) ⟨(Nat.le_of_ble_eq_true rfl), (Nat.le_of_ble_eq_true rfl)⟩ (fun r u H locs hp hw => ?_)
  have hw : Wd D A s [((sa 2), .inl (d 1, 110, .inl TA)), (ra, .inr (11, [.ref (sa 2), .int rz, .int rat, .int rtk, .int rfr, .int rva, .ref (ma 0)])), (mla, .inr (3, [.int lm, .ref (cs 0), .int 0])), oH ma mfl mro mrp mca mwy mla mmi mtf mtk, ((ma 1), .inl (d 0, 6, .inl mHO)), ((ma 2), .inl (d 0, 6, .inl mAT)), ((ma 3), .inl (d 0, 6, .inl mTO)), ((ma 4), .inl (d 0, 6, .inl mWE)), ((ma 5), .inl (d 0, 6, .inl mHE)), ((ma 6), .inl (d 0, 6, .inl mRA))] H locs := hw
  subst r
  refine lv_istore_n (lv' := [(2, .int q2), (1, .int q1), (0, .ref ra)]) hx hb dX12_dish_14 rfl hl (by decide) rfl (fun ls hl => ?_)
  refine lv_aload_n hx hb dX12_dish_15 rfl (lv_at hl 2 rfl) ?_
  refine lv_iload_n hx hb dX12_dish_16 rfl (lv_at hl 0 rfl) ?_
  refine lv_bipush (v := 6) hx hb dX12_dish_17 (by decide) ?_
  obtain ⟨r4, hcr4, hf⟩ := op_e hf
  rcases r4 with q5 | e6
  · refine x_VV (wr := [(mla, .inr (3, [.int lm, .ref (cs 0), .int 0])), oH ma mfl mro mrp mca mwy mla mmi mtf mtk, ((ma 1), .inl (d 0, 6, .inl mHO)), ((ma 2), .inl (d 0, 6, .inl mAT)), ((ma 3), .inl (d 0, 6, .inl mTO)), ((ma 4), .inl (d 0, 6, .inl mWE)), ((ma 5), .inl (d 0, 6, .inl mHE)), ((ma 6), .inl (d 0, 6, .inl mRA))]) (rest := []) [.int q2, .int 6] hX cx hw hl.1 (mX12_begin l D d cs wi ln lf dk dn him ra sa ma rz rat rtk rfr rva TA q2 6  q5 hcr4) (lw_V q676 q678 qs13 q104 q679) hd_X12_begin ⟨(Nat.le_of_ble_eq_true rfl), (Nat.le_of_ble_eq_true rfl)⟩ (va_recv hK hw.1 (ci := 11) (q0 := 1) rfl rfl) rfl rfl (Nat.le_of_ble_eq_true rfl) dX12_dish_19 [1, 0] [2, 3, 4, 5, 6, 7, 8, 9] rfl rfl rfl rfl (by decide) ⟨(Nat.le_of_ble_eq_true rfl), (Nat.le_of_ble_eq_true rfl)⟩ (fun u H locs hp hw => ?_)
    have hw : Wd D A s [(mla, .inr (3, [.int lm, .ref (cs 0), .int 0])), oH ma mfl mro mrp mca mwy mla mmi mtf mtk, ((ma 1), .inl (d 0, 6, .inl mHO)), ((ma 2), .inl (d 0, 6, .inl mAT)), ((ma 3), .inl (d 0, 6, .inl mTO)), ((ma 4), .inl (d 0, 6, .inl mWE)), ((ma 5), .inl (d 0, 6, .inl mHE)), ((ma 6), .inl (d 0, 6, .inl mRA)), (ra, .inr (11, [.ref (sa 2), .int rz, .int q5.1, .int q5.2.1, .int q5.2.2.1, .int q5.2.2.2, .ref (ma 0)])), ((sa 2), .inl (d 1, 110, .inl TA))] H locs := hw
    refine lv_aload_n hx hb dX12_dish_22 rfl (lv_at hl 2 rfl) ?_
    refine va_get (ci := 11) (C := RX12) (T := TX12) (N := 7) hx hb hts in_X12 hown hK hw.1 8 rfl rfl 6 (by decide) (hts _ q524) (fun _ h9 => h9) rfl dX12_dish_23 ?_
    refine va_get (ci := 2) (C := RX1) (T := TX1) (N := 15) hx hb hts in_X1 hown hK hw.1 1 rfl rfl 7 (by decide) (hts _ q178) (fun _ h9 => h9) rfl dX12_dish_26 ?_
    refine lv_iload_n hx hb dX12_dish_29 rfl (lv_at hl 0 rfl) ?_
    refine lv_aload_n hx hb dX12_dish_30 rfl (lv_at hl 2 rfl) ?_
    refine lv_iconst (v := 0) hx hb dX12_dish_31 (by decide) ?_
    refine lv_aload_n hx hb dX12_dish_32 rfl (lv_at hl 2 rfl) ?_
    refine va_get (ci := 11) (C := RX12) (T := TX12) (N := 7) hx hb hts in_X12 hown hK hw.1 8 rfl rfl 6 (by decide) (hts _ q524) (fun _ h9 => h9) rfl dX12_dish_33 ?_
    refine va_get (ci := 2) (C := RX1) (T := TX1) (N := 15) hx hb hts in_X1 hown hK hw.1 1 rfl rfl 0 (by decide) (hts _ q160) (fun _ h9 => h9) rfl dX12_dish_36 ?_
    refine lv_iconst (v := 1) hx hb dX12_dish_39 (by decide) ?_
    refine lv_isub hx hb dX12_dish_40 ?_
    obtain ⟨r8, hcr8, hf⟩ := op_e hf
    rcases r8 with q9 | e10
    · refine x_VI (wr := [(mla, .inr (3, [.int lm, .ref (cs 0), .int 0])), oH ma mfl mro mrp mca mwy mla mmi mtf mtk, ((ma 1), .inl (d 0, 6, .inl mHO)), ((ma 2), .inl (d 0, 6, .inl mAT)), ((ma 3), .inl (d 0, 6, .inl mTO)), ((ma 4), .inl (d 0, 6, .inl mWE)), ((ma 5), .inl (d 0, 6, .inl mHE)), ((ma 6), .inl (d 0, 6, .inl mRA))]) (rest := [.int q2, .ref (ma 2)]) [.int 0, .int (mfl - 1)] hX cx hw hl.1 (mX12_figure l D d cs wi ln lf dk dn him ra sa ma rz q5.1 q5.2.1 q5.2.2.1 q5.2.2.2 TA 0 (mfl - 1)  q9 hcr8) (lw_V q590 q592 qs8 q104 q593) hd_X12_figure ⟨(Nat.le_of_ble_eq_true rfl), (Nat.le_of_ble_eq_true rfl)⟩ (va_recv hK hw.1 (ci := 11) (q0 := 8) rfl rfl) rfl rfl (Nat.le_of_ble_eq_true rfl) dX12_dish_41 [8, 9] [0, 1, 2, 3, 4, 5, 6, 7] rfl rfl rfl rfl (by decide) ⟨(Nat.le_of_ble_eq_true rfl), (Nat.le_of_ble_eq_true rfl)⟩ (fun r u H locs hp hw => ?_)
      have hw : Wd D A s [(mla, .inr (3, [.int lm, .ref (cs 0), .int 0])), oH ma mfl mro mrp mca mwy mla mmi mtf mtk, ((ma 1), .inl (d 0, 6, .inl mHO)), ((ma 2), .inl (d 0, 6, .inl mAT)), ((ma 3), .inl (d 0, 6, .inl mTO)), ((ma 4), .inl (d 0, 6, .inl mWE)), ((ma 5), .inl (d 0, 6, .inl mHE)), ((ma 6), .inl (d 0, 6, .inl mRA)), (ra, .inr (11, [.ref (sa 2), .int rz, .int q9.2.1, .int q9.2.2.1, .int q9.2.2.2.1, .int q9.2.2.2.2, .ref (ma 0)])), ((sa 2), .inl (d 1, 110, .inl TA))] H locs := hw
      subst r
      obtain ⟨w11, hrd, hf⟩ := op_e hf
      refine x_iast (q0 := 3) cx hw rfl hrd dX12_dish_44 (fun H locs hw => ?_)
      have hw : Wd D A s [(mla, .inr (3, [.int lm, .ref (cs 0), .int 0])), oH ma mfl mro mrp mca mwy mla mmi mtf mtk, ((ma 1), .inl (d 0, 6, .inl mHO)), ((ma 2), .inl (d 0, 6, .inl w11)), ((ma 3), .inl (d 0, 6, .inl mTO)), ((ma 4), .inl (d 0, 6, .inl mWE)), ((ma 5), .inl (d 0, 6, .inl mHE)), ((ma 6), .inl (d 0, 6, .inl mRA)), (ra, .inr (11, [.ref (sa 2), .int rz, .int q9.2.1, .int q9.2.2.1, .int q9.2.2.2.1, .int q9.2.2.2.2, .ref (ma 0)])), ((sa 2), .inl (d 1, 110, .inl TA))] H locs := hw
      refine lv_aload_n hx hb dX12_dish_45 rfl (lv_at hl 2 rfl) ?_
      refine va_get (ci := 11) (C := RX12) (T := TX12) (N := 7) hx hb hts in_X12 hown hK hw.1 8 rfl rfl 6 (by decide) (hts _ q524) (fun _ h9 => h9) rfl dX12_dish_46 ?_
      refine va_get (ci := 2) (C := RX1) (T := TX1) (N := 15) hx hb hts in_X1 hown hK hw.1 1 rfl rfl 8 (by decide) (hts _ q181) (fun _ h9 => h9) rfl dX12_dish_49 ?_
      refine lv_iload_n hx hb dX12_dish_52 rfl (lv_at hl 0 rfl) ?_
      refine lv_aload_n hx hb dX12_dish_53 rfl (lv_at hl 2 rfl) ?_
      refine lv_iconst (v := 0) hx hb dX12_dish_54 (by decide) ?_
      refine lv_aload_n hx hb dX12_dish_55 rfl (lv_at hl 2 rfl) ?_
      refine va_get (ci := 11) (C := RX12) (T := TX12) (N := 7) hx hb hts in_X12 hown hK hw.1 8 rfl rfl 6 (by decide) (hts _ q524) (fun _ h9 => h9) rfl dX12_dish_56 ?_
      refine va_get (ci := 2) (C := RX1) (T := TX1) (N := 15) hx hb hts in_X1 hown hK hw.1 1 rfl rfl 0 (by decide) (hts _ q160) (fun _ h9 => h9) rfl dX12_dish_59 ?_
      refine lv_iconst (v := 1) hx hb dX12_dish_62 (by decide) ?_
      refine lv_isub hx hb dX12_dish_63 ?_
      obtain ⟨r13, hcr13, hf⟩ := op_e hf
      rcases r13 with q14 | e15
      · refine x_VI (wr := [(mla, .inr (3, [.int lm, .ref (cs 0), .int 0])), oH ma mfl mro mrp mca mwy mla mmi mtf mtk, ((ma 1), .inl (d 0, 6, .inl mHO)), ((ma 2), .inl (d 0, 6, .inl w11)), ((ma 3), .inl (d 0, 6, .inl mTO)), ((ma 4), .inl (d 0, 6, .inl mWE)), ((ma 5), .inl (d 0, 6, .inl mHE)), ((ma 6), .inl (d 0, 6, .inl mRA))]) (rest := [.int q2, .ref (ma 3)]) [.int 0, .int (mfl - 1)] hX cx hw hl.1 (mX12_more l D d cs wi ln lf dk dn him ra sa ma rz q9.2.1 q9.2.2.1 q9.2.2.2.1 q9.2.2.2.2 TA 0 (mfl - 1)  q14 hcr13) (lw_V q594 q596 qs9 q104 q597) hd_X12_more ⟨(Nat.le_of_ble_eq_true rfl), (Nat.le_of_ble_eq_true rfl)⟩ (va_recv hK hw.1 (ci := 11) (q0 := 8) rfl rfl) rfl rfl (Nat.le_of_ble_eq_true rfl) dX12_dish_64 [8, 9] [0, 1, 2, 3, 4, 5, 6, 7] rfl rfl rfl rfl (by decide) ⟨(Nat.le_of_ble_eq_true rfl), (Nat.le_of_ble_eq_true rfl)⟩ (fun r u H locs hp hw => ?_)
        have hw : Wd D A s [(mla, .inr (3, [.int lm, .ref (cs 0), .int 0])), oH ma mfl mro mrp mca mwy mla mmi mtf mtk, ((ma 1), .inl (d 0, 6, .inl mHO)), ((ma 2), .inl (d 0, 6, .inl w11)), ((ma 3), .inl (d 0, 6, .inl mTO)), ((ma 4), .inl (d 0, 6, .inl mWE)), ((ma 5), .inl (d 0, 6, .inl mHE)), ((ma 6), .inl (d 0, 6, .inl mRA)), (ra, .inr (11, [.ref (sa 2), .int rz, .int q14.2.1, .int q14.2.2.1, .int q14.2.2.2.1, .int q14.2.2.2.2, .ref (ma 0)])), ((sa 2), .inl (d 1, 110, .inl TA))] H locs := hw
        subst r
        obtain ⟨w16, hrd, hf⟩ := op_e hf
        refine x_iast (q0 := 4) cx hw rfl hrd dX12_dish_67 (fun H locs hw => ?_)
        have hw : Wd D A s [(mla, .inr (3, [.int lm, .ref (cs 0), .int 0])), oH ma mfl mro mrp mca mwy mla mmi mtf mtk, ((ma 1), .inl (d 0, 6, .inl mHO)), ((ma 2), .inl (d 0, 6, .inl w11)), ((ma 3), .inl (d 0, 6, .inl w16)), ((ma 4), .inl (d 0, 6, .inl mWE)), ((ma 5), .inl (d 0, 6, .inl mHE)), ((ma 6), .inl (d 0, 6, .inl mRA)), (ra, .inr (11, [.ref (sa 2), .int rz, .int q14.2.1, .int q14.2.2.1, .int q14.2.2.2.1, .int q14.2.2.2.2, .ref (ma 0)])), ((sa 2), .inl (d 1, 110, .inl TA))] H locs := hw
        refine lv_aload_n hx hb dX12_dish_68 rfl (lv_at hl 2 rfl) ?_
        refine va_get (ci := 11) (C := RX12) (T := TX12) (N := 7) hx hb hts in_X12 hown hK hw.1 8 rfl rfl 6 (by decide) (hts _ q524) (fun _ h9 => h9) rfl dX12_dish_69 ?_
        refine va_get (ci := 2) (C := RX1) (T := TX1) (N := 15) hx hb hts in_X1 hown hK hw.1 1 rfl rfl 9 (by decide) (hts _ q185) (fun _ h9 => h9) rfl dX12_dish_72 ?_
        refine lv_iload_n hx hb dX12_dish_75 rfl (lv_at hl 0 rfl) ?_
        refine lv_aload_n hx hb dX12_dish_76 rfl (lv_at hl 2 rfl) ?_
        refine lv_iconst (v := 1) hx hb dX12_dish_77 (by decide) ?_
        refine lv_bipush (v := 9) hx hb dX12_dish_78 (by decide) ?_
        obtain ⟨r18, hcr18, hf⟩ := op_e hf
        rcases r18 with q19 | e20
        · refine x_VI (wr := [(mla, .inr (3, [.int lm, .ref (cs 0), .int 0])), oH ma mfl mro mrp mca mwy mla mmi mtf mtk, ((ma 1), .inl (d 0, 6, .inl mHO)), ((ma 2), .inl (d 0, 6, .inl w11)), ((ma 3), .inl (d 0, 6, .inl w16)), ((ma 4), .inl (d 0, 6, .inl mWE)), ((ma 5), .inl (d 0, 6, .inl mHE)), ((ma 6), .inl (d 0, 6, .inl mRA))]) (rest := [.int q2, .ref (ma 4)]) [.int 1, .int 9] hX cx hw hl.1 (mX12_more l D d cs wi ln lf dk dn him ra sa ma rz q14.2.1 q14.2.2.1 q14.2.2.2.1 q14.2.2.2.2 TA 1 9  q19 hcr18) (lw_V q594 q596 qs9 q104 q597) hd_X12_more ⟨(Nat.le_of_ble_eq_true rfl), (Nat.le_of_ble_eq_true rfl)⟩ (va_recv hK hw.1 (ci := 11) (q0 := 8) rfl rfl) rfl rfl (Nat.le_of_ble_eq_true rfl) dX12_dish_80 [8, 9] [0, 1, 2, 3, 4, 5, 6, 7] rfl rfl rfl rfl (by decide) ⟨(Nat.le_of_ble_eq_true rfl), (Nat.le_of_ble_eq_true rfl)⟩ (fun r u H locs hp hw => ?_)
          have hw : Wd D A s [(mla, .inr (3, [.int lm, .ref (cs 0), .int 0])), oH ma mfl mro mrp mca mwy mla mmi mtf mtk, ((ma 1), .inl (d 0, 6, .inl mHO)), ((ma 2), .inl (d 0, 6, .inl w11)), ((ma 3), .inl (d 0, 6, .inl w16)), ((ma 4), .inl (d 0, 6, .inl mWE)), ((ma 5), .inl (d 0, 6, .inl mHE)), ((ma 6), .inl (d 0, 6, .inl mRA)), (ra, .inr (11, [.ref (sa 2), .int rz, .int q19.2.1, .int q19.2.2.1, .int q19.2.2.2.1, .int q19.2.2.2.2, .ref (ma 0)])), ((sa 2), .inl (d 1, 110, .inl TA))] H locs := hw
          subst r
          obtain ⟨w21, hrd, hf⟩ := op_e hf
          refine x_iast (q0 := 5) cx hw rfl hrd dX12_dish_83 (fun H locs hw => ?_)
          have hw : Wd D A s [(mla, .inr (3, [.int lm, .ref (cs 0), .int 0])), oH ma mfl mro mrp mca mwy mla mmi mtf mtk, ((ma 1), .inl (d 0, 6, .inl mHO)), ((ma 2), .inl (d 0, 6, .inl w11)), ((ma 3), .inl (d 0, 6, .inl w16)), ((ma 4), .inl (d 0, 6, .inl w21)), ((ma 5), .inl (d 0, 6, .inl mHE)), ((ma 6), .inl (d 0, 6, .inl mRA)), (ra, .inr (11, [.ref (sa 2), .int rz, .int q19.2.1, .int q19.2.2.1, .int q19.2.2.2.1, .int q19.2.2.2.2, .ref (ma 0)])), ((sa 2), .inl (d 1, 110, .inl TA))] H locs := hw
          refine lv_aload_n hx hb dX12_dish_84 rfl (lv_at hl 2 rfl) ?_
          refine va_get (ci := 11) (C := RX12) (T := TX12) (N := 7) hx hb hts in_X12 hown hK hw.1 8 rfl rfl 6 (by decide) (hts _ q524) (fun _ h9 => h9) rfl dX12_dish_85 ?_
          refine va_get (ci := 2) (C := RX1) (T := TX1) (N := 15) hx hb hts in_X1 hown hK hw.1 1 rfl rfl 10 (by decide) (hts _ q189) (fun _ h9 => h9) rfl dX12_dish_88 ?_
          refine lv_iload_n hx hb dX12_dish_91 rfl (lv_at hl 0 rfl) ?_
          refine lv_aload_n hx hb dX12_dish_92 rfl (lv_at hl 2 rfl) ?_
          refine lv_iconst (v := 0) hx hb dX12_dish_93 (by decide) ?_
          refine lv_bipush (v := 60) hx hb dX12_dish_94 (by decide) ?_
          obtain ⟨r23, hcr23, hf⟩ := op_e hf
          rcases r23 with q24 | e25
          · refine x_VI (wr := [(mla, .inr (3, [.int lm, .ref (cs 0), .int 0])), oH ma mfl mro mrp mca mwy mla mmi mtf mtk, ((ma 1), .inl (d 0, 6, .inl mHO)), ((ma 2), .inl (d 0, 6, .inl w11)), ((ma 3), .inl (d 0, 6, .inl w16)), ((ma 4), .inl (d 0, 6, .inl w21)), ((ma 5), .inl (d 0, 6, .inl mHE)), ((ma 6), .inl (d 0, 6, .inl mRA))]) (rest := [.int q2, .ref (ma 5)]) [.int 0, .int 60] hX cx hw hl.1 (mX12_more l D d cs wi ln lf dk dn him ra sa ma rz q19.2.1 q19.2.2.1 q19.2.2.2.1 q19.2.2.2.2 TA 0 60  q24 hcr23) (lw_V q594 q596 qs9 q104 q597) hd_X12_more ⟨(Nat.le_of_ble_eq_true rfl), (Nat.le_of_ble_eq_true rfl)⟩ (va_recv hK hw.1 (ci := 11) (q0 := 8) rfl rfl) rfl rfl (Nat.le_of_ble_eq_true rfl) dX12_dish_96 [8, 9] [0, 1, 2, 3, 4, 5, 6, 7] rfl rfl rfl rfl (by decide) ⟨(Nat.le_of_ble_eq_true rfl), (Nat.le_of_ble_eq_true rfl)⟩ (fun r u H locs hp hw => ?_)
            have hw : Wd D A s [(mla, .inr (3, [.int lm, .ref (cs 0), .int 0])), oH ma mfl mro mrp mca mwy mla mmi mtf mtk, ((ma 1), .inl (d 0, 6, .inl mHO)), ((ma 2), .inl (d 0, 6, .inl w11)), ((ma 3), .inl (d 0, 6, .inl w16)), ((ma 4), .inl (d 0, 6, .inl w21)), ((ma 5), .inl (d 0, 6, .inl mHE)), ((ma 6), .inl (d 0, 6, .inl mRA)), (ra, .inr (11, [.ref (sa 2), .int rz, .int q24.2.1, .int q24.2.2.1, .int q24.2.2.2.1, .int q24.2.2.2.2, .ref (ma 0)])), ((sa 2), .inl (d 1, 110, .inl TA))] H locs := hw
            subst r
            obtain ⟨w26, hrd, hf⟩ := op_e hf
            refine x_iast (q0 := 6) cx hw rfl hrd dX12_dish_99 (fun H locs hw => ?_)
            have hw : Wd D A s [(mla, .inr (3, [.int lm, .ref (cs 0), .int 0])), oH ma mfl mro mrp mca mwy mla mmi mtf mtk, ((ma 1), .inl (d 0, 6, .inl mHO)), ((ma 2), .inl (d 0, 6, .inl w11)), ((ma 3), .inl (d 0, 6, .inl w16)), ((ma 4), .inl (d 0, 6, .inl w21)), ((ma 5), .inl (d 0, 6, .inl w26)), ((ma 6), .inl (d 0, 6, .inl mRA)), (ra, .inr (11, [.ref (sa 2), .int rz, .int q24.2.1, .int q24.2.2.1, .int q24.2.2.2.1, .int q24.2.2.2.2, .ref (ma 0)])), ((sa 2), .inl (d 1, 110, .inl TA))] H locs := hw
            refine lv_aload_n hx hb dX12_dish_100 rfl (lv_at hl 2 rfl) ?_
            refine va_get (ci := 11) (C := RX12) (T := TX12) (N := 7) hx hb hts in_X12 hown hK hw.1 8 rfl rfl 6 (by decide) (hts _ q524) (fun _ h9 => h9) rfl dX12_dish_101 ?_
            refine va_get (ci := 2) (C := RX1) (T := TX1) (N := 15) hx hb hts in_X1 hown hK hw.1 1 rfl rfl 5 (by decide) (hts _ q173) (fun _ h9 => h9) rfl dX12_dish_104 ?_
            refine lv_iload_n hx hb dX12_dish_107 rfl (lv_at hl 1 rfl) ?_
            refine lv_iload_n hx hb dX12_dish_108 rfl (lv_at hl 0 rfl) ?_
            obtain ⟨q27, hcq27, hf⟩ := op_e hf
            refine x_SNR (wr := [(mla, .inr (3, [.int lm, .ref (cs 0), .int 0])), oH ma mfl mro mrp mca mwy mla mmi mtf mtk, ((ma 1), .inl (d 0, 6, .inl mHO)), ((ma 2), .inl (d 0, 6, .inl w11)), ((ma 3), .inl (d 0, 6, .inl w16)), ((ma 4), .inl (d 0, 6, .inl w21)), ((ma 5), .inl (d 0, 6, .inl w26)), ((ma 6), .inl (d 0, 6, .inl mRA)), (ra, .inr (11, [.ref (sa 2), .int rz, .int q24.2.1, .int q24.2.2.1, .int q24.2.2.2.1, .int q24.2.2.2.2, .ref (ma 0)])), ((sa 2), .inl (d 1, 110, .inl TA))]) (rest := [.ref mla]) [.int q1, .int q2] hX cx hw hl.1 (mX0_dishBy l D d cs wi q1 q2 q27 hcq27) q682 (Tb.nestM q680 hXs.1) q681 q82 hd_X0_dishBy ⟨(Nat.le_of_ble_eq_true rfl), (Nat.le_of_ble_eq_true rfl)⟩ rfl rfl (Nat.le_of_ble_eq_true rfl) dX12_dish_109 [] [0, 1, 2, 3, 4, 5, 6, 7, 8, 9] rfl rfl rfl rfl (by decide) ⟨(Nat.le_of_ble_eq_true rfl), (Nat.le_of_ble_eq_true rfl)⟩ (fun u a28 H locs hp hw => ?_)
            have hw : Wd D A s [(mla, .inr (3, [.int lm, .ref (cs 0), .int 0])), oH ma mfl mro mrp mca mwy mla mmi mtf mtk, ((ma 1), .inl (d 0, 6, .inl mHO)), ((ma 2), .inl (d 0, 6, .inl w11)), ((ma 3), .inl (d 0, 6, .inl w16)), ((ma 4), .inl (d 0, 6, .inl w21)), ((ma 5), .inl (d 0, 6, .inl w26)), ((ma 6), .inl (d 0, 6, .inl mRA)), (ra, .inr (11, [.ref (sa 2), .int rz, .int q24.2.1, .int q24.2.2.1, .int q24.2.2.2.1, .int q24.2.2.2.2, .ref (ma 0)])), ((sa 2), .inl (d 1, 110, .inl TA)), (a28, .inr (5 + q27, [.int q2]))] H locs := hw
            refine W.widen (k := 1) (n := 1) (Nat.le_of_ble_eq_true rfl) (Nat.le_of_ble_eq_true rfl) ?_
            refine x_FIW (n := 1) (x := ⟨"java/util/List", "add", "(Ljava/lang/Object;)Z"⟩) (wr := [oH ma mfl mro mrp mca mwy mla mmi mtf mtk, ((ma 1), .inl (d 0, 6, .inl mHO)), ((ma 2), .inl (d 0, 6, .inl w11)), ((ma 3), .inl (d 0, 6, .inl w16)), ((ma 4), .inl (d 0, 6, .inl w21)), ((ma 5), .inl (d 0, 6, .inl w26)), ((ma 6), .inl (d 0, 6, .inl mRA)), (ra, .inr (11, [.ref (sa 2), .int rz, .int q24.2.1, .int q24.2.2.1, .int q24.2.2.2.1, .int q24.2.2.2.2, .ref (ma 0)])), ((sa 2), .inl (d 1, 110, .inl TA))]) (rest := []) (C := "java/util/ArrayList") [.ref a28] hX cx hw hl.1 (hK.1 3 _ rfl).2 (mJ2_add_w0 l D d cs wi hemp mla a28 q27 [.int q2] lm (dishBy_lt hcq27)) (lw_F q684 q687 q689 q86 q691) (Tb.Fw (by decide) q686 q685 q690 q688 q670 hXs.1) ⟨by decide, by decide, by decide +kernel⟩ ⟨(Nat.le_of_ble_eq_true rfl), (Nat.le_of_ble_eq_true rfl)⟩ (va_recv hK hw.1 (ci := 3) (q0 := 0) rfl rfl) rfl rfl (Nat.le_of_ble_eq_true rfl) dX12_dish_112 [0, 10] [1, 2, 3, 4, 5, 6, 7, 8, 9] rfl rfl rfl rfl (by decide) ⟨(Nat.le_of_ble_eq_true rfl), (Nat.le_of_ble_eq_true rfl)⟩ (fun r a29 H locs hp hw => ?_)
            have hw : Wd D A s [oH ma mfl mro mrp mca mwy mla mmi mtf mtk, ((ma 1), .inl (d 0, 6, .inl mHO)), ((ma 2), .inl (d 0, 6, .inl w11)), ((ma 3), .inl (d 0, 6, .inl w16)), ((ma 4), .inl (d 0, 6, .inl w21)), ((ma 5), .inl (d 0, 6, .inl w26)), ((ma 6), .inl (d 0, 6, .inl mRA)), (ra, .inr (11, [.ref (sa 2), .int rz, .int q24.2.1, .int q24.2.2.1, .int q24.2.2.2.1, .int q24.2.2.2.2, .ref (ma 0)])), ((sa 2), .inl (d 1, 110, .inl TA)), (mla, .inr (3, [.int (lm + 1), .ref a29, .int 1])), (a29, .inl (d 6, 10, .inr (.inr (.inr (.inr (va_up (fun _ => none) 0 (some a28))))))), (a28, .inr (5 + q27, [.int q2]))] H locs := hw
            subst r
            refine W.widen (k := 2) (n := 11) (Nat.le_of_ble_eq_true rfl) (Nat.le_of_ble_eq_true rfl) ?_
            refine lv_pop hx hb dX12_dish_117 rfl ?_
            refine lv_aload_n hx hb dX12_dish_118 rfl (lv_at hl 2 rfl) ?_
            refine lv_iconst (v := 4) hx hb dX12_dish_119 (by decide) ?_
            obtain ⟨r31, hcr31, hf⟩ := op_e hf
            rcases r31 with q32 | e33
            · refine x_VV (wr := [oH ma mfl mro mrp mca mwy mla mmi mtf mtk, ((ma 1), .inl (d 0, 6, .inl mHO)), ((ma 2), .inl (d 0, 6, .inl w11)), ((ma 3), .inl (d 0, 6, .inl w16)), ((ma 4), .inl (d 0, 6, .inl w21)), ((ma 5), .inl (d 0, 6, .inl w26)), ((ma 6), .inl (d 0, 6, .inl mRA)), (mla, .inr (3, [.int (lm + 1), .ref a29, .int 1])), (a29, .inl (d 6, 10, .inr (.inr (.inr (.inr (va_up (fun _ => none) 0 (some a28))))))), (a28, .inr (5 + q27, [.int q2]))]) (rest := []) [.int 4] hX cx hw hl.1 (mX12_sign l D d cs wi ln lf dk dn him ra sa ma rz q24.2.1 q24.2.2.1 q24.2.2.2.1 q24.2.2.2.2 TA 4  q32 hcr31) (lw_V q598 q600 qs10 q104 q601) hd_X12_sign ⟨(Nat.le_of_ble_eq_true rfl), (Nat.le_of_ble_eq_true rfl)⟩ (va_recv hK hw.1 (ci := 11) (q0 := 7) rfl rfl) rfl rfl (Nat.le_of_ble_eq_true rfl) dX12_dish_120 [7, 8] [0, 1, 2, 3, 4, 5, 6, 9, 10, 11] rfl rfl rfl rfl (by decide) ⟨(Nat.le_of_ble_eq_true rfl), (Nat.le_of_ble_eq_true rfl)⟩ (fun u H locs hp hw => ?_)
              have hw : Wd D A s [oH ma mfl mro mrp mca mwy mla mmi mtf mtk, ((ma 1), .inl (d 0, 6, .inl mHO)), ((ma 2), .inl (d 0, 6, .inl w11)), ((ma 3), .inl (d 0, 6, .inl w16)), ((ma 4), .inl (d 0, 6, .inl w21)), ((ma 5), .inl (d 0, 6, .inl w26)), ((ma 6), .inl (d 0, 6, .inl mRA)), (mla, .inr (3, [.int (lm + 1), .ref a29, .int 1])), (a29, .inl (d 6, 10, .inr (.inr (.inr (.inr (va_up (fun _ => none) 0 (some a28))))))), (a28, .inr (5 + q27, [.int q2])), (ra, .inr (11, [.ref (sa 2), .int rz, .int q32.1, .int q32.2.1, .int q32.2.2.1, .int q32.2.2.2, .ref (ma 0)])), ((sa 2), .inl (d 1, 110, .inl TA))] H locs := hw
              cases hf
            · have hf : (some (.inr e33) : Option ((Int32 × Int32 × (Nat → Int32) × (Nat → Int32) × (Nat → Int32) × (Nat → Int32) × Int32 × Int32 × Int32 × Int32 × Nat × Int32) ⊕ (Int32 × Int32))) = some (.inr res) := hf
              have hf := Sum.inr.inj (sm_e hf)
              subst hf
              refine x_TV (wr := [oH ma mfl mro mrp mca mwy mla mmi mtf mtk, ((ma 1), .inl (d 0, 6, .inl mHO)), ((ma 2), .inl (d 0, 6, .inl w11)), ((ma 3), .inl (d 0, 6, .inl w16)), ((ma 4), .inl (d 0, 6, .inl w21)), ((ma 5), .inl (d 0, 6, .inl w26)), ((ma 6), .inl (d 0, 6, .inl mRA)), (mla, .inr (3, [.int (lm + 1), .ref a29, .int 1])), (a29, .inl (d 6, 10, .inr (.inr (.inr (.inr (va_up (fun _ => none) 0 (some a28))))))), (a28, .inr (5 + q27, [.int q2]))]) (rest := []) [.int 4] hX cx hw hl.1 (tX12_sign l D d cs wi ln lf dk dn him ra sa ma rz q24.2.1 q24.2.2.1 q24.2.2.2.1 q24.2.2.2.2 TA 4  e33 hcr31) (lw_V q598 q600 qs10 q104 q601) hd_X12_sign ⟨(Nat.le_of_ble_eq_true rfl), (Nat.le_of_ble_eq_true rfl)⟩ (va_recv hK hw.1 (ci := 11) (q0 := 7) rfl rfl) rfl rfl (Nat.le_of_ble_eq_true rfl) dX12_dish_120 [7, 8] [0, 1, 2, 3, 4, 5, 6, 9, 10, 11] rfl rfl rfl rfl (by decide) ⟨(Nat.le_of_ble_eq_true rfl), (Nat.le_of_ble_eq_true rfl)⟩ (fun a30 ce u H locs hw g1 g2 g3 => ?_)
              have hw : Wd D A s [oH ma mfl mro mrp mca mwy mla mmi mtf mtk, ((ma 1), .inl (d 0, 6, .inl mHO)), ((ma 2), .inl (d 0, 6, .inl w11)), ((ma 3), .inl (d 0, 6, .inl w16)), ((ma 4), .inl (d 0, 6, .inl w21)), ((ma 5), .inl (d 0, 6, .inl w26)), ((ma 6), .inl (d 0, 6, .inl mRA)), (mla, .inr (3, [.int (lm + 1), .ref a29, .int 1])), (a29, .inl (d 6, 10, .inr (.inr (.inr (.inr (va_up (fun _ => none) 0 (some a28))))))), (a28, .inr (5 + q27, [.int q2])), ((sa 2), .inl (d 1, 110, .inl TA)), (a30, .inr (13, [.null, .null, .null, .null, .null, .int 0, .int e33.1, .int e33.2]))] H locs := hw
              exact x_out cx hET hw () g1 g2 g3 [10, 11] rfl rfl (Nat.le_of_ble_eq_true rfl) (Nat.le_of_ble_eq_true rfl)
          · have hf : (some (.inr e25) : Option ((Int32 × Int32 × (Nat → Int32) × (Nat → Int32) × (Nat → Int32) × (Nat → Int32) × Int32 × Int32 × Int32 × Int32 × Nat × Int32) ⊕ (Int32 × Int32))) = some (.inr res) := hf
            have hf := Sum.inr.inj (sm_e hf)
            subst hf
            refine x_TV (wr := [(mla, .inr (3, [.int lm, .ref (cs 0), .int 0])), oH ma mfl mro mrp mca mwy mla mmi mtf mtk, ((ma 1), .inl (d 0, 6, .inl mHO)), ((ma 2), .inl (d 0, 6, .inl w11)), ((ma 3), .inl (d 0, 6, .inl w16)), ((ma 4), .inl (d 0, 6, .inl w21)), ((ma 5), .inl (d 0, 6, .inl mHE)), ((ma 6), .inl (d 0, 6, .inl mRA))]) (rest := [.int q2, .ref (ma 5)]) [.int 0, .int 60] hX cx hw hl.1 (tX12_more l D d cs wi ln lf dk dn him ra sa ma rz q19.2.1 q19.2.2.1 q19.2.2.2.1 q19.2.2.2.2 TA 0 60  e25 hcr23) (lw_V q594 q596 qs9 q104 q597) hd_X12_more ⟨(Nat.le_of_ble_eq_true rfl), (Nat.le_of_ble_eq_true rfl)⟩ (va_recv hK hw.1 (ci := 11) (q0 := 8) rfl rfl) rfl rfl (Nat.le_of_ble_eq_true rfl) dX12_dish_96 [8, 9] [0, 1, 2, 3, 4, 5, 6, 7] rfl rfl rfl rfl (by decide) ⟨(Nat.le_of_ble_eq_true rfl), (Nat.le_of_ble_eq_true rfl)⟩ (fun a22 ce u H locs hw g1 g2 g3 => ?_)
            have hw : Wd D A s [(mla, .inr (3, [.int lm, .ref (cs 0), .int 0])), oH ma mfl mro mrp mca mwy mla mmi mtf mtk, ((ma 1), .inl (d 0, 6, .inl mHO)), ((ma 2), .inl (d 0, 6, .inl w11)), ((ma 3), .inl (d 0, 6, .inl w16)), ((ma 4), .inl (d 0, 6, .inl w21)), ((ma 5), .inl (d 0, 6, .inl mHE)), ((ma 6), .inl (d 0, 6, .inl mRA)), ((sa 2), .inl (d 1, 110, .inl TA)), (a22, .inr (13, [.null, .null, .null, .null, .null, .int 0, .int e25.1, .int e25.2]))] H locs := hw
            exact x_out cx hET hw () g1 g2 g3 [8, 9] rfl rfl (Nat.le_of_ble_eq_true rfl) (Nat.le_of_ble_eq_true rfl)
        · have hf : (some (.inr e20) : Option ((Int32 × Int32 × (Nat → Int32) × (Nat → Int32) × (Nat → Int32) × (Nat → Int32) × Int32 × Int32 × Int32 × Int32 × Nat × Int32) ⊕ (Int32 × Int32))) = some (.inr res) := hf
          have hf := Sum.inr.inj (sm_e hf)
          subst hf
          refine x_TV (wr := [(mla, .inr (3, [.int lm, .ref (cs 0), .int 0])), oH ma mfl mro mrp mca mwy mla mmi mtf mtk, ((ma 1), .inl (d 0, 6, .inl mHO)), ((ma 2), .inl (d 0, 6, .inl w11)), ((ma 3), .inl (d 0, 6, .inl w16)), ((ma 4), .inl (d 0, 6, .inl mWE)), ((ma 5), .inl (d 0, 6, .inl mHE)), ((ma 6), .inl (d 0, 6, .inl mRA))]) (rest := [.int q2, .ref (ma 4)]) [.int 1, .int 9] hX cx hw hl.1 (tX12_more l D d cs wi ln lf dk dn him ra sa ma rz q14.2.1 q14.2.2.1 q14.2.2.2.1 q14.2.2.2.2 TA 1 9  e20 hcr18) (lw_V q594 q596 qs9 q104 q597) hd_X12_more ⟨(Nat.le_of_ble_eq_true rfl), (Nat.le_of_ble_eq_true rfl)⟩ (va_recv hK hw.1 (ci := 11) (q0 := 8) rfl rfl) rfl rfl (Nat.le_of_ble_eq_true rfl) dX12_dish_80 [8, 9] [0, 1, 2, 3, 4, 5, 6, 7] rfl rfl rfl rfl (by decide) ⟨(Nat.le_of_ble_eq_true rfl), (Nat.le_of_ble_eq_true rfl)⟩ (fun a17 ce u H locs hw g1 g2 g3 => ?_)
          have hw : Wd D A s [(mla, .inr (3, [.int lm, .ref (cs 0), .int 0])), oH ma mfl mro mrp mca mwy mla mmi mtf mtk, ((ma 1), .inl (d 0, 6, .inl mHO)), ((ma 2), .inl (d 0, 6, .inl w11)), ((ma 3), .inl (d 0, 6, .inl w16)), ((ma 4), .inl (d 0, 6, .inl mWE)), ((ma 5), .inl (d 0, 6, .inl mHE)), ((ma 6), .inl (d 0, 6, .inl mRA)), ((sa 2), .inl (d 1, 110, .inl TA)), (a17, .inr (13, [.null, .null, .null, .null, .null, .int 0, .int e20.1, .int e20.2]))] H locs := hw
          exact x_out cx hET hw () g1 g2 g3 [8, 9] rfl rfl (Nat.le_of_ble_eq_true rfl) (Nat.le_of_ble_eq_true rfl)
      · have hf : (some (.inr e15) : Option ((Int32 × Int32 × (Nat → Int32) × (Nat → Int32) × (Nat → Int32) × (Nat → Int32) × Int32 × Int32 × Int32 × Int32 × Nat × Int32) ⊕ (Int32 × Int32))) = some (.inr res) := hf
        have hf := Sum.inr.inj (sm_e hf)
        subst hf
        refine x_TV (wr := [(mla, .inr (3, [.int lm, .ref (cs 0), .int 0])), oH ma mfl mro mrp mca mwy mla mmi mtf mtk, ((ma 1), .inl (d 0, 6, .inl mHO)), ((ma 2), .inl (d 0, 6, .inl w11)), ((ma 3), .inl (d 0, 6, .inl mTO)), ((ma 4), .inl (d 0, 6, .inl mWE)), ((ma 5), .inl (d 0, 6, .inl mHE)), ((ma 6), .inl (d 0, 6, .inl mRA))]) (rest := [.int q2, .ref (ma 3)]) [.int 0, .int (mfl - 1)] hX cx hw hl.1 (tX12_more l D d cs wi ln lf dk dn him ra sa ma rz q9.2.1 q9.2.2.1 q9.2.2.2.1 q9.2.2.2.2 TA 0 (mfl - 1)  e15 hcr13) (lw_V q594 q596 qs9 q104 q597) hd_X12_more ⟨(Nat.le_of_ble_eq_true rfl), (Nat.le_of_ble_eq_true rfl)⟩ (va_recv hK hw.1 (ci := 11) (q0 := 8) rfl rfl) rfl rfl (Nat.le_of_ble_eq_true rfl) dX12_dish_64 [8, 9] [0, 1, 2, 3, 4, 5, 6, 7] rfl rfl rfl rfl (by decide) ⟨(Nat.le_of_ble_eq_true rfl), (Nat.le_of_ble_eq_true rfl)⟩ (fun a12 ce u H locs hw g1 g2 g3 => ?_)
        have hw : Wd D A s [(mla, .inr (3, [.int lm, .ref (cs 0), .int 0])), oH ma mfl mro mrp mca mwy mla mmi mtf mtk, ((ma 1), .inl (d 0, 6, .inl mHO)), ((ma 2), .inl (d 0, 6, .inl w11)), ((ma 3), .inl (d 0, 6, .inl mTO)), ((ma 4), .inl (d 0, 6, .inl mWE)), ((ma 5), .inl (d 0, 6, .inl mHE)), ((ma 6), .inl (d 0, 6, .inl mRA)), ((sa 2), .inl (d 1, 110, .inl TA)), (a12, .inr (13, [.null, .null, .null, .null, .null, .int 0, .int e15.1, .int e15.2]))] H locs := hw
        exact x_out cx hET hw () g1 g2 g3 [8, 9] rfl rfl (Nat.le_of_ble_eq_true rfl) (Nat.le_of_ble_eq_true rfl)
    · have hf : (some (.inr e10) : Option ((Int32 × Int32 × (Nat → Int32) × (Nat → Int32) × (Nat → Int32) × (Nat → Int32) × Int32 × Int32 × Int32 × Int32 × Nat × Int32) ⊕ (Int32 × Int32))) = some (.inr res) := hf
      have hf := Sum.inr.inj (sm_e hf)
      subst hf
      refine x_TV (wr := [(mla, .inr (3, [.int lm, .ref (cs 0), .int 0])), oH ma mfl mro mrp mca mwy mla mmi mtf mtk, ((ma 1), .inl (d 0, 6, .inl mHO)), ((ma 2), .inl (d 0, 6, .inl mAT)), ((ma 3), .inl (d 0, 6, .inl mTO)), ((ma 4), .inl (d 0, 6, .inl mWE)), ((ma 5), .inl (d 0, 6, .inl mHE)), ((ma 6), .inl (d 0, 6, .inl mRA))]) (rest := [.int q2, .ref (ma 2)]) [.int 0, .int (mfl - 1)] hX cx hw hl.1 (tX12_figure l D d cs wi ln lf dk dn him ra sa ma rz q5.1 q5.2.1 q5.2.2.1 q5.2.2.2 TA 0 (mfl - 1)  e10 hcr8) (lw_V q590 q592 qs8 q104 q593) hd_X12_figure ⟨(Nat.le_of_ble_eq_true rfl), (Nat.le_of_ble_eq_true rfl)⟩ (va_recv hK hw.1 (ci := 11) (q0 := 8) rfl rfl) rfl rfl (Nat.le_of_ble_eq_true rfl) dX12_dish_41 [8, 9] [0, 1, 2, 3, 4, 5, 6, 7] rfl rfl rfl rfl (by decide) ⟨(Nat.le_of_ble_eq_true rfl), (Nat.le_of_ble_eq_true rfl)⟩ (fun a7 ce u H locs hw g1 g2 g3 => ?_)
      have hw : Wd D A s [(mla, .inr (3, [.int lm, .ref (cs 0), .int 0])), oH ma mfl mro mrp mca mwy mla mmi mtf mtk, ((ma 1), .inl (d 0, 6, .inl mHO)), ((ma 2), .inl (d 0, 6, .inl mAT)), ((ma 3), .inl (d 0, 6, .inl mTO)), ((ma 4), .inl (d 0, 6, .inl mWE)), ((ma 5), .inl (d 0, 6, .inl mHE)), ((ma 6), .inl (d 0, 6, .inl mRA)), ((sa 2), .inl (d 1, 110, .inl TA)), (a7, .inr (13, [.null, .null, .null, .null, .null, .int 0, .int e10.1, .int e10.2]))] H locs := hw
      exact x_out cx hET hw () g1 g2 g3 [8, 9] rfl rfl (Nat.le_of_ble_eq_true rfl) (Nat.le_of_ble_eq_true rfl)
  · have hf : (some (.inr e6) : Option ((Int32 × Int32 × (Nat → Int32) × (Nat → Int32) × (Nat → Int32) × (Nat → Int32) × Int32 × Int32 × Int32 × Int32 × Nat × Int32) ⊕ (Int32 × Int32))) = some (.inr res) := hf
    have hf := Sum.inr.inj (sm_e hf)
    subst hf
    refine x_TV (wr := [(mla, .inr (3, [.int lm, .ref (cs 0), .int 0])), oH ma mfl mro mrp mca mwy mla mmi mtf mtk, ((ma 1), .inl (d 0, 6, .inl mHO)), ((ma 2), .inl (d 0, 6, .inl mAT)), ((ma 3), .inl (d 0, 6, .inl mTO)), ((ma 4), .inl (d 0, 6, .inl mWE)), ((ma 5), .inl (d 0, 6, .inl mHE)), ((ma 6), .inl (d 0, 6, .inl mRA))]) (rest := []) [.int q2, .int 6] hX cx hw hl.1 (tX12_begin l D d cs wi ln lf dk dn him ra sa ma rz rat rtk rfr rva TA q2 6  e6 hcr4) (lw_V q676 q678 qs13 q104 q679) hd_X12_begin ⟨(Nat.le_of_ble_eq_true rfl), (Nat.le_of_ble_eq_true rfl)⟩ (va_recv hK hw.1 (ci := 11) (q0 := 1) rfl rfl) rfl rfl (Nat.le_of_ble_eq_true rfl) dX12_dish_19 [1, 0] [2, 3, 4, 5, 6, 7, 8, 9] rfl rfl rfl rfl (by decide) ⟨(Nat.le_of_ble_eq_true rfl), (Nat.le_of_ble_eq_true rfl)⟩ (fun a3 ce u H locs hw g1 g2 g3 => ?_)
    have hw : Wd D A s [(mla, .inr (3, [.int lm, .ref (cs 0), .int 0])), oH ma mfl mro mrp mca mwy mla mmi mtf mtk, ((ma 1), .inl (d 0, 6, .inl mHO)), ((ma 2), .inl (d 0, 6, .inl mAT)), ((ma 3), .inl (d 0, 6, .inl mTO)), ((ma 4), .inl (d 0, 6, .inl mWE)), ((ma 5), .inl (d 0, 6, .inl mHE)), ((ma 6), .inl (d 0, 6, .inl mRA)), ((sa 2), .inl (d 1, 110, .inl TA)), (a3, .inr (13, [.null, .null, .null, .null, .null, .int 0, .int e6.1, .int e6.2]))] H locs := hw
    exact x_out cx hET hw () g1 g2 g3 [8, 9] rfl rfl (Nat.le_of_ble_eq_true rfl) (Nat.le_of_ble_eq_true rfl)
set_option maxHeartbeats 4000000 in
theorem mX12_dish_1 (l : Launch) (D : va_G) (d : Nat → ClassId) (cs : Nat → Nat) (wi : va_W) (ln : Nat → Option Int32) (lf : Nat → Nat → Option Nat) (dk : Nat → Option Nat) (dn : Nat → Int32) (him : ImF d wi ln lf dk dn) (ma : Nat → Nat) (ra : Nat) (mla : Nat) (lea : Nat) (sa : Nat → Nat) (mfl : Int32) (mro : Int32) (mrp : Int32) (mca : Int32) (mwy : Int32) (mmi : Int32) (mtf : Int32) (mtk : Option Nat) (mHO : Nat → Int32) (mAT : Nat → Int32) (mTO : Nat → Int32) (mWE : Nat → Int32) (mHE : Nat → Int32) (mRA : Nat → Int32) (rz : Int32) (rat : Int32) (rtk : Int32) (rfr : Int32) (rva : Int32) (lm : Int32) (lN : Int32) (LF : Nat → Option Nat) (TA : Nat → Int32) (hstr : StrF d cs wi) (hemp : EmpF d cs wi) (res : Int32 × Int32 × (Nat → Int32) × (Nat → Int32) × (Nat → Int32) × (Nat → Int32) × Int32 × Int32 × Int32 × Int32 × Nat × Int32) (hf : fX12_dish_1 mfl mAT mTO mWE mHE rz rat rtk rfr rva lm lN TA = some (.inl res)) : MetV l yX12_dish (ws_ yX12_dish cX12_dish 3 none) { frames := 7, cells := 2, slots := 11, locals := 181 } [.ref ra] (XI D cs wi) D d [(mla, .inr (3, [.int lm, .ref lea, .int lN])), (lea, .inl (d 6, 10, .inr (.inr (.inr (.inr LF))))), oH ma mfl mro mrp mca mwy mla mmi mtf mtk, ((ma 1), .inl (d 0, 6, .inl mHO)), ((ma 2), .inl (d 0, 6, .inl mAT)), ((ma 3), .inl (d 0, 6, .inl mTO)), ((ma 4), .inl (d 0, 6, .inl mWE)), ((ma 5), .inl (d 0, 6, .inl mHE)), ((ma 6), .inl (d 0, 6, .inl mRA)), (ra, .inr (11, [.ref (sa 2), .int rz, .int rat, .int rtk, .int rfr, .int rva, .ref (ma 0)])), ((sa 2), .inl (d 1, 110, .inl TA))] (fun (_ : Nat) => True) (fun (u : Nat) => [(mla, .inr (3, [.int res.1, .ref lea, .int res.2.1])), (lea, .inl (d 6, 10, .inr (.inr (.inr (.inr (va_up LF lN.toNatClampNeg (some u))))))), oH ma mfl mro mrp mca mwy mla mmi mtf mtk, ((ma 1), .inl (d 0, 6, .inl mHO)), ((ma 2), .inl (d 0, 6, .inl res.2.2.1)), ((ma 3), .inl (d 0, 6, .inl res.2.2.2.1)), ((ma 4), .inl (d 0, 6, .inl res.2.2.2.2.1)), ((ma 5), .inl (d 0, 6, .inl res.2.2.2.2.2.1)), ((ma 6), .inl (d 0, 6, .inl mRA)), (ra, .inr (11, [.ref (sa 2), .int rz, .int res.2.2.2.2.2.2.1, .int res.2.2.2.2.2.2.2.1, .int res.2.2.2.2.2.2.2.2.1, .int res.2.2.2.2.2.2.2.2.2.1, .ref (ma 0)])), ((sa 2), .inl (d 1, 110, .inl TA)), (u, .inr (5 + res.2.2.2.2.2.2.2.2.2.2.1, [.int res.2.2.2.2.2.2.2.2.2.2.2]))]) := by
  have hX := XI.ok (D := D) (cs := cs) (wi := wi)
  refine MetV.of (by decide +kernel) (Nat.le_of_ble_eq_true rfl) ?_
  intro p e s m below meth c A cx hw ls hl
  have cx : Cx p s m _ meth c (XI D cs wi) D d A "DishLift$Reader" cX12_dish 3 none "dish" := cx
  have cx' := cx
  obtain ⟨hx, hb, hr, hlk, hml, hown, hts, hK, hA, hXs, hnm⟩ := cx'
  have hl : lv_has ls 3 [(0, .ref ra)] := hl
  generalize hlo : ([] : List Loc) = locs at hw ⊢
  unfold fX12_dish_1 at hf
  refine lv_aload_n hx hb dX12_dish_0 rfl (lv_at hl 0 rfl) ?_
  refine va_ldcS hx hb hown hXs.2.1.2.2.2.2.2 dX12_dish_1 ?_
  obtain ⟨q1, hcq1, hf⟩ := op_e hf
  refine x_VI (wr := [(mla, .inr (3, [.int lm, .ref lea, .int lN])), (lea, .inl (d 6, 10, .inr (.inr (.inr (.inr LF))))), oH ma mfl mro mrp mca mwy mla mmi mtf mtk, ((ma 1), .inl (d 0, 6, .inl mHO)), ((ma 2), .inl (d 0, 6, .inl mAT)), ((ma 3), .inl (d 0, 6, .inl mTO)), ((ma 4), .inl (d 0, 6, .inl mWE)), ((ma 5), .inl (d 0, 6, .inl mHE)), ((ma 6), .inl (d 0, 6, .inl mRA)), ((sa 2), .inl (d 1, 110, .inl TA))]) (rest := []) [.ref (cs 1)] hX cx hw hl.1 (mX12_sortOf l  D d cs wi ln lf dk dn him ra sa ma rz rat rtk rfr rva hstr q1 hcq1) (lw_V q603 q605 qs11 q104 q606) hd_X12_sortOf ⟨(Nat.le_of_ble_eq_true rfl), (Nat.le_of_ble_eq_true rfl)⟩ (va_recv hK hw.1 (ci := 11) (q0 := 9) rfl rfl) rfl rfl (Nat.le_of_ble_eq_true rfl) dX12_dish_3 [9] [0, 1, 2, 3, 4, 5, 6, 7, 8, 10] rfl rfl rfl rfl (by decide) ⟨(Nat.le_of_ble_eq_true rfl), (Nat.le_of_ble_eq_true rfl)⟩ (fun r u H locs hp hw => ?_)
  have hw : Wd D A s [(mla, .inr (3, [.int lm, .ref lea, .int lN])), (lea, .inl (d 6, 10, .inr (.inr (.inr (.inr LF))))), oH ma mfl mro mrp mca mwy mla mmi mtf mtk, ((ma 1), .inl (d 0, 6, .inl mHO)), ((ma 2), .inl (d 0, 6, .inl mAT)), ((ma 3), .inl (d 0, 6, .inl mTO)), ((ma 4), .inl (d 0, 6, .inl mWE)), ((ma 5), .inl (d 0, 6, .inl mHE)), ((ma 6), .inl (d 0, 6, .inl mRA)), ((sa 2), .inl (d 1, 110, .inl TA)), (ra, .inr (11, [.ref (sa 2), .int rz, .int rat, .int rtk, .int rfr, .int rva, .ref (ma 0)]))] H locs := hw
  subst r
  refine lv_istore_n (lv' := [(1, .int q1), (0, .ref ra)]) hx hb dX12_dish_6 rfl hl (by decide) rfl (fun ls hl => ?_)
  refine lv_aload_n hx hb dX12_dish_7 rfl (lv_at hl 1 rfl) ?_
  refine va_get (ci := 11) (C := RX12) (T := TX12) (N := 7) hx hb hts in_X12 hown hK hw.1 10 rfl rfl 6 (by decide) (hts _ q524) (fun _ h9 => h9) rfl dX12_dish_8 ?_
  obtain ⟨q2, hcq2, hf⟩ := op_e hf
  refine x_VI (wr := [(lea, .inl (d 6, 10, .inr (.inr (.inr (.inr LF))))), ((sa 2), .inl (d 1, 110, .inl TA)), (ra, .inr (11, [.ref (sa 2), .int rz, .int rat, .int rtk, .int rfr, .int rva, .ref (ma 0)]))]) (rest := []) [] hX cx hw hl.1 (mX1_many_w l  D d cs wi ln lf dk dn him ma mla lea mfl mro mrp mca mwy mmi mtf mtk mHO mAT mTO mWE mHE mRA lm lN  q2 hcq2) (lw_V q662 q663 q664 q83 q665) hd_X1_many ⟨(Nat.le_of_ble_eq_true rfl), (Nat.le_of_ble_eq_true rfl)⟩ (va_recv hK hw.1 (ci := 2) (q0 := 2) rfl rfl) rfl rfl (Nat.le_of_ble_eq_true rfl) dX12_dish_11 [0, 2, 3, 4, 5, 6, 7, 8] [1, 9, 10] rfl rfl rfl rfl (by decide) ⟨(Nat.le_of_ble_eq_true rfl), (Nat.le_of_ble_eq_true rfl)⟩ (fun r u H locs hp hw => ?_)
  have hw : Wd D A s [(lea, .inl (d 6, 10, .inr (.inr (.inr (.inr LF))))), ((sa 2), .inl (d 1, 110, .inl TA)), (ra, .inr (11, [.ref (sa 2), .int rz, .int rat, .int rtk, .int rfr, .int rva, .ref (ma 0)])), (mla, .inr (3, [.int lm, .ref lea, .int lN])), oH ma mfl mro mrp mca mwy mla mmi mtf mtk, ((ma 1), .inl (d 0, 6, .inl mHO)), ((ma 2), .inl (d 0, 6, .inl mAT)), ((ma 3), .inl (d 0, 6, .inl mTO)), ((ma 4), .inl (d 0, 6, .inl mWE)), ((ma 5), .inl (d 0, 6, .inl mHE)), ((ma 6), .inl (d 0, 6, .inl mRA))] H locs := hw
  subst r
  refine lv_istore_n (lv' := [(2, .int q2), (1, .int q1), (0, .ref ra)]) hx hb dX12_dish_14 rfl hl (by decide) rfl (fun ls hl => ?_)
  refine lv_aload_n hx hb dX12_dish_15 rfl (lv_at hl 2 rfl) ?_
  refine lv_iload_n hx hb dX12_dish_16 rfl (lv_at hl 0 rfl) ?_
  refine lv_bipush (v := 6) hx hb dX12_dish_17 (by decide) ?_
  obtain ⟨r4, hcr4, hf⟩ := op_e hf
  rcases r4 with q5 | e6
  · refine x_VV (wr := [(lea, .inl (d 6, 10, .inr (.inr (.inr (.inr LF))))), (mla, .inr (3, [.int lm, .ref lea, .int lN])), oH ma mfl mro mrp mca mwy mla mmi mtf mtk, ((ma 1), .inl (d 0, 6, .inl mHO)), ((ma 2), .inl (d 0, 6, .inl mAT)), ((ma 3), .inl (d 0, 6, .inl mTO)), ((ma 4), .inl (d 0, 6, .inl mWE)), ((ma 5), .inl (d 0, 6, .inl mHE)), ((ma 6), .inl (d 0, 6, .inl mRA))]) (rest := []) [.int q2, .int 6] hX cx hw hl.1 (mX12_begin l D d cs wi ln lf dk dn him ra sa ma rz rat rtk rfr rva TA q2 6  q5 hcr4) (lw_V q676 q678 qs13 q104 q679) hd_X12_begin ⟨(Nat.le_of_ble_eq_true rfl), (Nat.le_of_ble_eq_true rfl)⟩ (va_recv hK hw.1 (ci := 11) (q0 := 2) rfl rfl) rfl rfl (Nat.le_of_ble_eq_true rfl) dX12_dish_19 [2, 1] [0, 3, 4, 5, 6, 7, 8, 9, 10] rfl rfl rfl rfl (by decide) ⟨(Nat.le_of_ble_eq_true rfl), (Nat.le_of_ble_eq_true rfl)⟩ (fun u H locs hp hw => ?_)
    have hw : Wd D A s [(lea, .inl (d 6, 10, .inr (.inr (.inr (.inr LF))))), (mla, .inr (3, [.int lm, .ref lea, .int lN])), oH ma mfl mro mrp mca mwy mla mmi mtf mtk, ((ma 1), .inl (d 0, 6, .inl mHO)), ((ma 2), .inl (d 0, 6, .inl mAT)), ((ma 3), .inl (d 0, 6, .inl mTO)), ((ma 4), .inl (d 0, 6, .inl mWE)), ((ma 5), .inl (d 0, 6, .inl mHE)), ((ma 6), .inl (d 0, 6, .inl mRA)), (ra, .inr (11, [.ref (sa 2), .int rz, .int q5.1, .int q5.2.1, .int q5.2.2.1, .int q5.2.2.2, .ref (ma 0)])), ((sa 2), .inl (d 1, 110, .inl TA))] H locs := hw
    refine lv_aload_n hx hb dX12_dish_22 rfl (lv_at hl 2 rfl) ?_
    refine va_get (ci := 11) (C := RX12) (T := TX12) (N := 7) hx hb hts in_X12 hown hK hw.1 9 rfl rfl 6 (by decide) (hts _ q524) (fun _ h9 => h9) rfl dX12_dish_23 ?_
    refine va_get (ci := 2) (C := RX1) (T := TX1) (N := 15) hx hb hts in_X1 hown hK hw.1 2 rfl rfl 7 (by decide) (hts _ q178) (fun _ h9 => h9) rfl dX12_dish_26 ?_
    refine lv_iload_n hx hb dX12_dish_29 rfl (lv_at hl 0 rfl) ?_
    refine lv_aload_n hx hb dX12_dish_30 rfl (lv_at hl 2 rfl) ?_
    refine lv_iconst (v := 0) hx hb dX12_dish_31 (by decide) ?_
    refine lv_aload_n hx hb dX12_dish_32 rfl (lv_at hl 2 rfl) ?_
    refine va_get (ci := 11) (C := RX12) (T := TX12) (N := 7) hx hb hts in_X12 hown hK hw.1 9 rfl rfl 6 (by decide) (hts _ q524) (fun _ h9 => h9) rfl dX12_dish_33 ?_
    refine va_get (ci := 2) (C := RX1) (T := TX1) (N := 15) hx hb hts in_X1 hown hK hw.1 2 rfl rfl 0 (by decide) (hts _ q160) (fun _ h9 => h9) rfl dX12_dish_36 ?_
    refine lv_iconst (v := 1) hx hb dX12_dish_39 (by decide) ?_
    refine lv_isub hx hb dX12_dish_40 ?_
    obtain ⟨r8, hcr8, hf⟩ := op_e hf
    rcases r8 with q9 | e10
    · refine x_VI (wr := [(lea, .inl (d 6, 10, .inr (.inr (.inr (.inr LF))))), (mla, .inr (3, [.int lm, .ref lea, .int lN])), oH ma mfl mro mrp mca mwy mla mmi mtf mtk, ((ma 1), .inl (d 0, 6, .inl mHO)), ((ma 2), .inl (d 0, 6, .inl mAT)), ((ma 3), .inl (d 0, 6, .inl mTO)), ((ma 4), .inl (d 0, 6, .inl mWE)), ((ma 5), .inl (d 0, 6, .inl mHE)), ((ma 6), .inl (d 0, 6, .inl mRA))]) (rest := [.int q2, .ref (ma 2)]) [.int 0, .int (mfl - 1)] hX cx hw hl.1 (mX12_figure l D d cs wi ln lf dk dn him ra sa ma rz q5.1 q5.2.1 q5.2.2.1 q5.2.2.2 TA 0 (mfl - 1)  q9 hcr8) (lw_V q590 q592 qs8 q104 q593) hd_X12_figure ⟨(Nat.le_of_ble_eq_true rfl), (Nat.le_of_ble_eq_true rfl)⟩ (va_recv hK hw.1 (ci := 11) (q0 := 9) rfl rfl) rfl rfl (Nat.le_of_ble_eq_true rfl) dX12_dish_41 [9, 10] [0, 1, 2, 3, 4, 5, 6, 7, 8] rfl rfl rfl rfl (by decide) ⟨(Nat.le_of_ble_eq_true rfl), (Nat.le_of_ble_eq_true rfl)⟩ (fun r u H locs hp hw => ?_)
      have hw : Wd D A s [(lea, .inl (d 6, 10, .inr (.inr (.inr (.inr LF))))), (mla, .inr (3, [.int lm, .ref lea, .int lN])), oH ma mfl mro mrp mca mwy mla mmi mtf mtk, ((ma 1), .inl (d 0, 6, .inl mHO)), ((ma 2), .inl (d 0, 6, .inl mAT)), ((ma 3), .inl (d 0, 6, .inl mTO)), ((ma 4), .inl (d 0, 6, .inl mWE)), ((ma 5), .inl (d 0, 6, .inl mHE)), ((ma 6), .inl (d 0, 6, .inl mRA)), (ra, .inr (11, [.ref (sa 2), .int rz, .int q9.2.1, .int q9.2.2.1, .int q9.2.2.2.1, .int q9.2.2.2.2, .ref (ma 0)])), ((sa 2), .inl (d 1, 110, .inl TA))] H locs := hw
      subst r
      obtain ⟨w11, hrd, hf⟩ := op_e hf
      refine x_iast (q0 := 4) cx hw rfl hrd dX12_dish_44 (fun H locs hw => ?_)
      have hw : Wd D A s [(lea, .inl (d 6, 10, .inr (.inr (.inr (.inr LF))))), (mla, .inr (3, [.int lm, .ref lea, .int lN])), oH ma mfl mro mrp mca mwy mla mmi mtf mtk, ((ma 1), .inl (d 0, 6, .inl mHO)), ((ma 2), .inl (d 0, 6, .inl w11)), ((ma 3), .inl (d 0, 6, .inl mTO)), ((ma 4), .inl (d 0, 6, .inl mWE)), ((ma 5), .inl (d 0, 6, .inl mHE)), ((ma 6), .inl (d 0, 6, .inl mRA)), (ra, .inr (11, [.ref (sa 2), .int rz, .int q9.2.1, .int q9.2.2.1, .int q9.2.2.2.1, .int q9.2.2.2.2, .ref (ma 0)])), ((sa 2), .inl (d 1, 110, .inl TA))] H locs := hw
      refine lv_aload_n hx hb dX12_dish_45 rfl (lv_at hl 2 rfl) ?_
      refine va_get (ci := 11) (C := RX12) (T := TX12) (N := 7) hx hb hts in_X12 hown hK hw.1 9 rfl rfl 6 (by decide) (hts _ q524) (fun _ h9 => h9) rfl dX12_dish_46 ?_
      refine va_get (ci := 2) (C := RX1) (T := TX1) (N := 15) hx hb hts in_X1 hown hK hw.1 2 rfl rfl 8 (by decide) (hts _ q181) (fun _ h9 => h9) rfl dX12_dish_49 ?_
      refine lv_iload_n hx hb dX12_dish_52 rfl (lv_at hl 0 rfl) ?_
      refine lv_aload_n hx hb dX12_dish_53 rfl (lv_at hl 2 rfl) ?_
      refine lv_iconst (v := 0) hx hb dX12_dish_54 (by decide) ?_
      refine lv_aload_n hx hb dX12_dish_55 rfl (lv_at hl 2 rfl) ?_
      refine va_get (ci := 11) (C := RX12) (T := TX12) (N := 7) hx hb hts in_X12 hown hK hw.1 9 rfl rfl 6 (by decide) (hts _ q524) (fun _ h9 => h9) rfl dX12_dish_56 ?_
      refine va_get (ci := 2) (C := RX1) (T := TX1) (N := 15) hx hb hts in_X1 hown hK hw.1 2 rfl rfl 0 (by decide) (hts _ q160) (fun _ h9 => h9) rfl dX12_dish_59 ?_
      refine lv_iconst (v := 1) hx hb dX12_dish_62 (by decide) ?_
      refine lv_isub hx hb dX12_dish_63 ?_
      obtain ⟨r13, hcr13, hf⟩ := op_e hf
      rcases r13 with q14 | e15
      · refine x_VI (wr := [(lea, .inl (d 6, 10, .inr (.inr (.inr (.inr LF))))), (mla, .inr (3, [.int lm, .ref lea, .int lN])), oH ma mfl mro mrp mca mwy mla mmi mtf mtk, ((ma 1), .inl (d 0, 6, .inl mHO)), ((ma 2), .inl (d 0, 6, .inl w11)), ((ma 3), .inl (d 0, 6, .inl mTO)), ((ma 4), .inl (d 0, 6, .inl mWE)), ((ma 5), .inl (d 0, 6, .inl mHE)), ((ma 6), .inl (d 0, 6, .inl mRA))]) (rest := [.int q2, .ref (ma 3)]) [.int 0, .int (mfl - 1)] hX cx hw hl.1 (mX12_more l D d cs wi ln lf dk dn him ra sa ma rz q9.2.1 q9.2.2.1 q9.2.2.2.1 q9.2.2.2.2 TA 0 (mfl - 1)  q14 hcr13) (lw_V q594 q596 qs9 q104 q597) hd_X12_more ⟨(Nat.le_of_ble_eq_true rfl), (Nat.le_of_ble_eq_true rfl)⟩ (va_recv hK hw.1 (ci := 11) (q0 := 9) rfl rfl) rfl rfl (Nat.le_of_ble_eq_true rfl) dX12_dish_64 [9, 10] [0, 1, 2, 3, 4, 5, 6, 7, 8] rfl rfl rfl rfl (by decide) ⟨(Nat.le_of_ble_eq_true rfl), (Nat.le_of_ble_eq_true rfl)⟩ (fun r u H locs hp hw => ?_)
        have hw : Wd D A s [(lea, .inl (d 6, 10, .inr (.inr (.inr (.inr LF))))), (mla, .inr (3, [.int lm, .ref lea, .int lN])), oH ma mfl mro mrp mca mwy mla mmi mtf mtk, ((ma 1), .inl (d 0, 6, .inl mHO)), ((ma 2), .inl (d 0, 6, .inl w11)), ((ma 3), .inl (d 0, 6, .inl mTO)), ((ma 4), .inl (d 0, 6, .inl mWE)), ((ma 5), .inl (d 0, 6, .inl mHE)), ((ma 6), .inl (d 0, 6, .inl mRA)), (ra, .inr (11, [.ref (sa 2), .int rz, .int q14.2.1, .int q14.2.2.1, .int q14.2.2.2.1, .int q14.2.2.2.2, .ref (ma 0)])), ((sa 2), .inl (d 1, 110, .inl TA))] H locs := hw
        subst r
        obtain ⟨w16, hrd, hf⟩ := op_e hf
        refine x_iast (q0 := 5) cx hw rfl hrd dX12_dish_67 (fun H locs hw => ?_)
        have hw : Wd D A s [(lea, .inl (d 6, 10, .inr (.inr (.inr (.inr LF))))), (mla, .inr (3, [.int lm, .ref lea, .int lN])), oH ma mfl mro mrp mca mwy mla mmi mtf mtk, ((ma 1), .inl (d 0, 6, .inl mHO)), ((ma 2), .inl (d 0, 6, .inl w11)), ((ma 3), .inl (d 0, 6, .inl w16)), ((ma 4), .inl (d 0, 6, .inl mWE)), ((ma 5), .inl (d 0, 6, .inl mHE)), ((ma 6), .inl (d 0, 6, .inl mRA)), (ra, .inr (11, [.ref (sa 2), .int rz, .int q14.2.1, .int q14.2.2.1, .int q14.2.2.2.1, .int q14.2.2.2.2, .ref (ma 0)])), ((sa 2), .inl (d 1, 110, .inl TA))] H locs := hw
        refine lv_aload_n hx hb dX12_dish_68 rfl (lv_at hl 2 rfl) ?_
        refine va_get (ci := 11) (C := RX12) (T := TX12) (N := 7) hx hb hts in_X12 hown hK hw.1 9 rfl rfl 6 (by decide) (hts _ q524) (fun _ h9 => h9) rfl dX12_dish_69 ?_
        refine va_get (ci := 2) (C := RX1) (T := TX1) (N := 15) hx hb hts in_X1 hown hK hw.1 2 rfl rfl 9 (by decide) (hts _ q185) (fun _ h9 => h9) rfl dX12_dish_72 ?_
        refine lv_iload_n hx hb dX12_dish_75 rfl (lv_at hl 0 rfl) ?_
        refine lv_aload_n hx hb dX12_dish_76 rfl (lv_at hl 2 rfl) ?_
        refine lv_iconst (v := 1) hx hb dX12_dish_77 (by decide) ?_
        refine lv_bipush (v := 9) hx hb dX12_dish_78 (by decide) ?_
        obtain ⟨r18, hcr18, hf⟩ := op_e hf
        rcases r18 with q19 | e20
        · refine x_VI (wr := [(lea, .inl (d 6, 10, .inr (.inr (.inr (.inr LF))))), (mla, .inr (3, [.int lm, .ref lea, .int lN])), oH ma mfl mro mrp mca mwy mla mmi mtf mtk, ((ma 1), .inl (d 0, 6, .inl mHO)), ((ma 2), .inl (d 0, 6, .inl w11)), ((ma 3), .inl (d 0, 6, .inl w16)), ((ma 4), .inl (d 0, 6, .inl mWE)), ((ma 5), .inl (d 0, 6, .inl mHE)), ((ma 6), .inl (d 0, 6, .inl mRA))]) (rest := [.int q2, .ref (ma 4)]) [.int 1, .int 9] hX cx hw hl.1 (mX12_more l D d cs wi ln lf dk dn him ra sa ma rz q14.2.1 q14.2.2.1 q14.2.2.2.1 q14.2.2.2.2 TA 1 9  q19 hcr18) (lw_V q594 q596 qs9 q104 q597) hd_X12_more ⟨(Nat.le_of_ble_eq_true rfl), (Nat.le_of_ble_eq_true rfl)⟩ (va_recv hK hw.1 (ci := 11) (q0 := 9) rfl rfl) rfl rfl (Nat.le_of_ble_eq_true rfl) dX12_dish_80 [9, 10] [0, 1, 2, 3, 4, 5, 6, 7, 8] rfl rfl rfl rfl (by decide) ⟨(Nat.le_of_ble_eq_true rfl), (Nat.le_of_ble_eq_true rfl)⟩ (fun r u H locs hp hw => ?_)
          have hw : Wd D A s [(lea, .inl (d 6, 10, .inr (.inr (.inr (.inr LF))))), (mla, .inr (3, [.int lm, .ref lea, .int lN])), oH ma mfl mro mrp mca mwy mla mmi mtf mtk, ((ma 1), .inl (d 0, 6, .inl mHO)), ((ma 2), .inl (d 0, 6, .inl w11)), ((ma 3), .inl (d 0, 6, .inl w16)), ((ma 4), .inl (d 0, 6, .inl mWE)), ((ma 5), .inl (d 0, 6, .inl mHE)), ((ma 6), .inl (d 0, 6, .inl mRA)), (ra, .inr (11, [.ref (sa 2), .int rz, .int q19.2.1, .int q19.2.2.1, .int q19.2.2.2.1, .int q19.2.2.2.2, .ref (ma 0)])), ((sa 2), .inl (d 1, 110, .inl TA))] H locs := hw
          subst r
          obtain ⟨w21, hrd, hf⟩ := op_e hf
          refine x_iast (q0 := 6) cx hw rfl hrd dX12_dish_83 (fun H locs hw => ?_)
          have hw : Wd D A s [(lea, .inl (d 6, 10, .inr (.inr (.inr (.inr LF))))), (mla, .inr (3, [.int lm, .ref lea, .int lN])), oH ma mfl mro mrp mca mwy mla mmi mtf mtk, ((ma 1), .inl (d 0, 6, .inl mHO)), ((ma 2), .inl (d 0, 6, .inl w11)), ((ma 3), .inl (d 0, 6, .inl w16)), ((ma 4), .inl (d 0, 6, .inl w21)), ((ma 5), .inl (d 0, 6, .inl mHE)), ((ma 6), .inl (d 0, 6, .inl mRA)), (ra, .inr (11, [.ref (sa 2), .int rz, .int q19.2.1, .int q19.2.2.1, .int q19.2.2.2.1, .int q19.2.2.2.2, .ref (ma 0)])), ((sa 2), .inl (d 1, 110, .inl TA))] H locs := hw
          refine lv_aload_n hx hb dX12_dish_84 rfl (lv_at hl 2 rfl) ?_
          refine va_get (ci := 11) (C := RX12) (T := TX12) (N := 7) hx hb hts in_X12 hown hK hw.1 9 rfl rfl 6 (by decide) (hts _ q524) (fun _ h9 => h9) rfl dX12_dish_85 ?_
          refine va_get (ci := 2) (C := RX1) (T := TX1) (N := 15) hx hb hts in_X1 hown hK hw.1 2 rfl rfl 10 (by decide) (hts _ q189) (fun _ h9 => h9) rfl dX12_dish_88 ?_
          refine lv_iload_n hx hb dX12_dish_91 rfl (lv_at hl 0 rfl) ?_
          refine lv_aload_n hx hb dX12_dish_92 rfl (lv_at hl 2 rfl) ?_
          refine lv_iconst (v := 0) hx hb dX12_dish_93 (by decide) ?_
          refine lv_bipush (v := 60) hx hb dX12_dish_94 (by decide) ?_
          obtain ⟨r23, hcr23, hf⟩ := op_e hf
          rcases r23 with q24 | e25
          · refine x_VI (wr := [(lea, .inl (d 6, 10, .inr (.inr (.inr (.inr LF))))), (mla, .inr (3, [.int lm, .ref lea, .int lN])), oH ma mfl mro mrp mca mwy mla mmi mtf mtk, ((ma 1), .inl (d 0, 6, .inl mHO)), ((ma 2), .inl (d 0, 6, .inl w11)), ((ma 3), .inl (d 0, 6, .inl w16)), ((ma 4), .inl (d 0, 6, .inl w21)), ((ma 5), .inl (d 0, 6, .inl mHE)), ((ma 6), .inl (d 0, 6, .inl mRA))]) (rest := [.int q2, .ref (ma 5)]) [.int 0, .int 60] hX cx hw hl.1 (mX12_more l D d cs wi ln lf dk dn him ra sa ma rz q19.2.1 q19.2.2.1 q19.2.2.2.1 q19.2.2.2.2 TA 0 60  q24 hcr23) (lw_V q594 q596 qs9 q104 q597) hd_X12_more ⟨(Nat.le_of_ble_eq_true rfl), (Nat.le_of_ble_eq_true rfl)⟩ (va_recv hK hw.1 (ci := 11) (q0 := 9) rfl rfl) rfl rfl (Nat.le_of_ble_eq_true rfl) dX12_dish_96 [9, 10] [0, 1, 2, 3, 4, 5, 6, 7, 8] rfl rfl rfl rfl (by decide) ⟨(Nat.le_of_ble_eq_true rfl), (Nat.le_of_ble_eq_true rfl)⟩ (fun r u H locs hp hw => ?_)
            have hw : Wd D A s [(lea, .inl (d 6, 10, .inr (.inr (.inr (.inr LF))))), (mla, .inr (3, [.int lm, .ref lea, .int lN])), oH ma mfl mro mrp mca mwy mla mmi mtf mtk, ((ma 1), .inl (d 0, 6, .inl mHO)), ((ma 2), .inl (d 0, 6, .inl w11)), ((ma 3), .inl (d 0, 6, .inl w16)), ((ma 4), .inl (d 0, 6, .inl w21)), ((ma 5), .inl (d 0, 6, .inl mHE)), ((ma 6), .inl (d 0, 6, .inl mRA)), (ra, .inr (11, [.ref (sa 2), .int rz, .int q24.2.1, .int q24.2.2.1, .int q24.2.2.2.1, .int q24.2.2.2.2, .ref (ma 0)])), ((sa 2), .inl (d 1, 110, .inl TA))] H locs := hw
            subst r
            obtain ⟨w26, hrd, hf⟩ := op_e hf
            refine x_iast (q0 := 7) cx hw rfl hrd dX12_dish_99 (fun H locs hw => ?_)
            have hw : Wd D A s [(lea, .inl (d 6, 10, .inr (.inr (.inr (.inr LF))))), (mla, .inr (3, [.int lm, .ref lea, .int lN])), oH ma mfl mro mrp mca mwy mla mmi mtf mtk, ((ma 1), .inl (d 0, 6, .inl mHO)), ((ma 2), .inl (d 0, 6, .inl w11)), ((ma 3), .inl (d 0, 6, .inl w16)), ((ma 4), .inl (d 0, 6, .inl w21)), ((ma 5), .inl (d 0, 6, .inl w26)), ((ma 6), .inl (d 0, 6, .inl mRA)), (ra, .inr (11, [.ref (sa 2), .int rz, .int q24.2.1, .int q24.2.2.1, .int q24.2.2.2.1, .int q24.2.2.2.2, .ref (ma 0)])), ((sa 2), .inl (d 1, 110, .inl TA))] H locs := hw
            refine lv_aload_n hx hb dX12_dish_100 rfl (lv_at hl 2 rfl) ?_
            refine va_get (ci := 11) (C := RX12) (T := TX12) (N := 7) hx hb hts in_X12 hown hK hw.1 9 rfl rfl 6 (by decide) (hts _ q524) (fun _ h9 => h9) rfl dX12_dish_101 ?_
            refine va_get (ci := 2) (C := RX1) (T := TX1) (N := 15) hx hb hts in_X1 hown hK hw.1 2 rfl rfl 5 (by decide) (hts _ q173) (fun _ h9 => h9) rfl dX12_dish_104 ?_
            refine lv_iload_n hx hb dX12_dish_107 rfl (lv_at hl 1 rfl) ?_
            refine lv_iload_n hx hb dX12_dish_108 rfl (lv_at hl 0 rfl) ?_
            obtain ⟨q27, hcq27, hf⟩ := op_e hf
            refine x_SNR (wr := [(lea, .inl (d 6, 10, .inr (.inr (.inr (.inr LF))))), (mla, .inr (3, [.int lm, .ref lea, .int lN])), oH ma mfl mro mrp mca mwy mla mmi mtf mtk, ((ma 1), .inl (d 0, 6, .inl mHO)), ((ma 2), .inl (d 0, 6, .inl w11)), ((ma 3), .inl (d 0, 6, .inl w16)), ((ma 4), .inl (d 0, 6, .inl w21)), ((ma 5), .inl (d 0, 6, .inl w26)), ((ma 6), .inl (d 0, 6, .inl mRA)), (ra, .inr (11, [.ref (sa 2), .int rz, .int q24.2.1, .int q24.2.2.1, .int q24.2.2.2.1, .int q24.2.2.2.2, .ref (ma 0)])), ((sa 2), .inl (d 1, 110, .inl TA))]) (rest := [.ref mla]) [.int q1, .int q2] hX cx hw hl.1 (mX0_dishBy l D d cs wi q1 q2 q27 hcq27) q682 (Tb.nestM q680 hXs.1) q681 q82 hd_X0_dishBy ⟨(Nat.le_of_ble_eq_true rfl), (Nat.le_of_ble_eq_true rfl)⟩ rfl rfl (Nat.le_of_ble_eq_true rfl) dX12_dish_109 [] [0, 1, 2, 3, 4, 5, 6, 7, 8, 9, 10] rfl rfl rfl rfl (by decide) ⟨(Nat.le_of_ble_eq_true rfl), (Nat.le_of_ble_eq_true rfl)⟩ (fun u a28 H locs hp hw => ?_)
            have hw : Wd D A s [(lea, .inl (d 6, 10, .inr (.inr (.inr (.inr LF))))), (mla, .inr (3, [.int lm, .ref lea, .int lN])), oH ma mfl mro mrp mca mwy mla mmi mtf mtk, ((ma 1), .inl (d 0, 6, .inl mHO)), ((ma 2), .inl (d 0, 6, .inl w11)), ((ma 3), .inl (d 0, 6, .inl w16)), ((ma 4), .inl (d 0, 6, .inl w21)), ((ma 5), .inl (d 0, 6, .inl w26)), ((ma 6), .inl (d 0, 6, .inl mRA)), (ra, .inr (11, [.ref (sa 2), .int rz, .int q24.2.1, .int q24.2.2.1, .int q24.2.2.2.1, .int q24.2.2.2.2, .ref (ma 0)])), ((sa 2), .inl (d 1, 110, .inl TA)), (a28, .inr (5 + q27, [.int q2]))] H locs := hw
            refine W.widen (k := 1) (n := 1) (Nat.le_of_ble_eq_true rfl) (Nat.le_of_ble_eq_true rfl) ?_
            obtain ⟨g29, hgi, hf⟩ := op_e hf
            refine x_FIW (n := 1) (x := ⟨"java/util/List", "add", "(Ljava/lang/Object;)Z"⟩) (wr := [oH ma mfl mro mrp mca mwy mla mmi mtf mtk, ((ma 1), .inl (d 0, 6, .inl mHO)), ((ma 2), .inl (d 0, 6, .inl w11)), ((ma 3), .inl (d 0, 6, .inl w16)), ((ma 4), .inl (d 0, 6, .inl w21)), ((ma 5), .inl (d 0, 6, .inl w26)), ((ma 6), .inl (d 0, 6, .inl mRA)), (ra, .inr (11, [.ref (sa 2), .int rz, .int q24.2.1, .int q24.2.2.1, .int q24.2.2.2.1, .int q24.2.2.2.2, .ref (ma 0)])), ((sa 2), .inl (d 1, 110, .inl TA))]) (rest := []) (C := "java/util/ArrayList") [.ref a28] hX cx hw hl.1 (hK.1 3 _ rfl).2 (mJ2_add_w1 l D d cs wi mla lea a28 q27 [.int q2] lm lN LF (dishBy_lt hcq27) (gix_spec hgi)) (lw_F q684 q687 q689 q86 q691) (Tb.Fw (by decide) q686 q685 q690 q688 q670 hXs.1) ⟨by decide, by decide, by decide +kernel⟩ ⟨(Nat.le_of_ble_eq_true rfl), (Nat.le_of_ble_eq_true rfl)⟩ (va_recv hK hw.1 (ci := 3) (q0 := 1) rfl rfl) rfl rfl (Nat.le_of_ble_eq_true rfl) dX12_dish_112 [1, 0, 11] [2, 3, 4, 5, 6, 7, 8, 9, 10] rfl rfl rfl rfl (by decide) ⟨(Nat.le_of_ble_eq_true rfl), (Nat.le_of_ble_eq_true rfl)⟩ (fun r u H locs hp hw => ?_)
            have hw : Wd D A s [oH ma mfl mro mrp mca mwy mla mmi mtf mtk, ((ma 1), .inl (d 0, 6, .inl mHO)), ((ma 2), .inl (d 0, 6, .inl w11)), ((ma 3), .inl (d 0, 6, .inl w16)), ((ma 4), .inl (d 0, 6, .inl w21)), ((ma 5), .inl (d 0, 6, .inl w26)), ((ma 6), .inl (d 0, 6, .inl mRA)), (ra, .inr (11, [.ref (sa 2), .int rz, .int q24.2.1, .int q24.2.2.1, .int q24.2.2.2.1, .int q24.2.2.2.2, .ref (ma 0)])), ((sa 2), .inl (d 1, 110, .inl TA)), (mla, .inr (3, [.int (lm + 1), .ref lea, .int (lN + 1)])), (lea, .inl (d 6, 10, .inr (.inr (.inr (.inr (va_up LF lN.toNatClampNeg (some a28))))))), (a28, .inr (5 + q27, [.int q2]))] H locs := hw
            subst r
            refine W.widen (k := 2) (n := 11) (Nat.le_of_ble_eq_true rfl) (Nat.le_of_ble_eq_true rfl) ?_
            refine lv_pop hx hb dX12_dish_117 rfl ?_
            refine lv_aload_n hx hb dX12_dish_118 rfl (lv_at hl 2 rfl) ?_
            refine lv_iconst (v := 4) hx hb dX12_dish_119 (by decide) ?_
            obtain ⟨r31, hcr31, hf⟩ := op_e hf
            rcases r31 with q32 | e33
            · refine x_VV (wr := [oH ma mfl mro mrp mca mwy mla mmi mtf mtk, ((ma 1), .inl (d 0, 6, .inl mHO)), ((ma 2), .inl (d 0, 6, .inl w11)), ((ma 3), .inl (d 0, 6, .inl w16)), ((ma 4), .inl (d 0, 6, .inl w21)), ((ma 5), .inl (d 0, 6, .inl w26)), ((ma 6), .inl (d 0, 6, .inl mRA)), (mla, .inr (3, [.int (lm + 1), .ref lea, .int (lN + 1)])), (lea, .inl (d 6, 10, .inr (.inr (.inr (.inr (va_up LF lN.toNatClampNeg (some a28))))))), (a28, .inr (5 + q27, [.int q2]))]) (rest := []) [.int 4] hX cx hw hl.1 (mX12_sign l D d cs wi ln lf dk dn him ra sa ma rz q24.2.1 q24.2.2.1 q24.2.2.2.1 q24.2.2.2.2 TA 4  q32 hcr31) (lw_V q598 q600 qs10 q104 q601) hd_X12_sign ⟨(Nat.le_of_ble_eq_true rfl), (Nat.le_of_ble_eq_true rfl)⟩ (va_recv hK hw.1 (ci := 11) (q0 := 7) rfl rfl) rfl rfl (Nat.le_of_ble_eq_true rfl) dX12_dish_120 [7, 8] [0, 1, 2, 3, 4, 5, 6, 9, 10, 11] rfl rfl rfl rfl (by decide) ⟨(Nat.le_of_ble_eq_true rfl), (Nat.le_of_ble_eq_true rfl)⟩ (fun u H locs hp hw => ?_)
              have hw : Wd D A s [oH ma mfl mro mrp mca mwy mla mmi mtf mtk, ((ma 1), .inl (d 0, 6, .inl mHO)), ((ma 2), .inl (d 0, 6, .inl w11)), ((ma 3), .inl (d 0, 6, .inl w16)), ((ma 4), .inl (d 0, 6, .inl w21)), ((ma 5), .inl (d 0, 6, .inl w26)), ((ma 6), .inl (d 0, 6, .inl mRA)), (mla, .inr (3, [.int (lm + 1), .ref lea, .int (lN + 1)])), (lea, .inl (d 6, 10, .inr (.inr (.inr (.inr (va_up LF lN.toNatClampNeg (some a28))))))), (a28, .inr (5 + q27, [.int q2])), (ra, .inr (11, [.ref (sa 2), .int rz, .int q32.1, .int q32.2.1, .int q32.2.2.1, .int q32.2.2.2, .ref (ma 0)])), ((sa 2), .inl (d 1, 110, .inl TA))] H locs := hw
              have hf := Sum.inl.inj (sm_e hf)
              subst hf
              exact x_retV cx hw a28 trivial [7, 8, 0, 1, 2, 3, 4, 5, 6, 10, 11, 9] rfl rfl (Nat.le_of_ble_eq_true rfl) (Nat.le_of_ble_eq_true rfl) dX12_dish_123
            · have hf : (some (.inr e33) : Option ((Int32 × Int32 × (Nat → Int32) × (Nat → Int32) × (Nat → Int32) × (Nat → Int32) × Int32 × Int32 × Int32 × Int32 × Nat × Int32) ⊕ (Int32 × Int32))) = some (.inl res) := hf
              cases hf
          · have hf : (some (.inr e25) : Option ((Int32 × Int32 × (Nat → Int32) × (Nat → Int32) × (Nat → Int32) × (Nat → Int32) × Int32 × Int32 × Int32 × Int32 × Nat × Int32) ⊕ (Int32 × Int32))) = some (.inl res) := hf
            cases hf
        · have hf : (some (.inr e20) : Option ((Int32 × Int32 × (Nat → Int32) × (Nat → Int32) × (Nat → Int32) × (Nat → Int32) × Int32 × Int32 × Int32 × Int32 × Nat × Int32) ⊕ (Int32 × Int32))) = some (.inl res) := hf
          cases hf
      · have hf : (some (.inr e15) : Option ((Int32 × Int32 × (Nat → Int32) × (Nat → Int32) × (Nat → Int32) × (Nat → Int32) × Int32 × Int32 × Int32 × Int32 × Nat × Int32) ⊕ (Int32 × Int32))) = some (.inl res) := hf
        cases hf
    · have hf : (some (.inr e10) : Option ((Int32 × Int32 × (Nat → Int32) × (Nat → Int32) × (Nat → Int32) × (Nat → Int32) × Int32 × Int32 × Int32 × Int32 × Nat × Int32) ⊕ (Int32 × Int32))) = some (.inl res) := hf
      cases hf
  · have hf : (some (.inr e6) : Option ((Int32 × Int32 × (Nat → Int32) × (Nat → Int32) × (Nat → Int32) × (Nat → Int32) × Int32 × Int32 × Int32 × Int32 × Nat × Int32) ⊕ (Int32 × Int32))) = some (.inl res) := hf
    cases hf
set_option maxHeartbeats 4000000 in
theorem tX12_dish_1 (l : Launch) (D : va_G) (d : Nat → ClassId) (cs : Nat → Nat) (wi : va_W) (ln : Nat → Option Int32) (lf : Nat → Nat → Option Nat) (dk : Nat → Option Nat) (dn : Nat → Int32) (him : ImF d wi ln lf dk dn) (ma : Nat → Nat) (ra : Nat) (mla : Nat) (lea : Nat) (sa : Nat → Nat) (mfl : Int32) (mro : Int32) (mrp : Int32) (mca : Int32) (mwy : Int32) (mmi : Int32) (mtf : Int32) (mtk : Option Nat) (mHO : Nat → Int32) (mAT : Nat → Int32) (mTO : Nat → Int32) (mWE : Nat → Int32) (mHE : Nat → Int32) (mRA : Nat → Int32) (rz : Int32) (rat : Int32) (rtk : Int32) (rfr : Int32) (rva : Int32) (lm : Int32) (lN : Int32) (LF : Nat → Option Nat) (TA : Nat → Int32) (hstr : StrF d cs wi) (hemp : EmpF d cs wi) (res : Int32 × Int32) (hf : fX12_dish_1 mfl mAT mTO mWE mHE rz rat rtk rfr rva lm lN TA = some (.inr res)) : TMet l yX12_dish (ws_ yX12_dish cX12_dish 3 none) { frames := 7, cells := 3, slots := 19, locals := 181 } [.ref ra] (XI D cs wi) D d [(mla, .inr (3, [.int lm, .ref lea, .int lN])), (lea, .inl (d 6, 10, .inr (.inr (.inr (.inr LF))))), oH ma mfl mro mrp mca mwy mla mmi mtf mtk, ((ma 1), .inl (d 0, 6, .inl mHO)), ((ma 2), .inl (d 0, 6, .inl mAT)), ((ma 3), .inl (d 0, 6, .inl mTO)), ((ma 4), .inl (d 0, 6, .inl mWE)), ((ma 5), .inl (d 0, 6, .inl mHE)), ((ma 6), .inl (d 0, 6, .inl mRA)), (ra, .inr (11, [.ref (sa 2), .int rz, .int rat, .int rtk, .int rfr, .int rva, .ref (ma 0)])), ((sa 2), .inl (d 1, 110, .inl TA))] "DishLift$Fault" (fun q9 (_ : Unit) => [((sa 2), .inl (d 1, 110, .inl TA)), (q9, .inr (13, [.null, .null, .null, .null, .null, .int 0, .int res.1, .int res.2]))]) := by
  have hX := XI.ok (D := D) (cs := cs) (wi := wi)
  refine TMet.of (by decide +kernel) (Nat.le_of_ble_eq_true rfl) ?_
  intro p e s m below meth c A cx hET hw ls hl
  have cx : Cx p s m _ meth c (XI D cs wi) D d A "DishLift$Reader" cX12_dish 3 none "dish" := cx
  have cx' := cx
  obtain ⟨hx, hb, hr, hlk, hml, hown, hts, hK, hA, hXs, hnm⟩ := cx'
  have hl : lv_has ls 3 [(0, .ref ra)] := hl
  generalize hlo : ([] : List Loc) = locs at hw ⊢
  unfold fX12_dish_1 at hf
  refine lv_aload_n hx hb dX12_dish_0 rfl (lv_at hl 0 rfl) ?_
  refine va_ldcS hx hb hown hXs.2.1.2.2.2.2.2 dX12_dish_1 ?_
  obtain ⟨q1, hcq1, hf⟩ := op_e hf
  refine x_VI (wr := [(mla, .inr (3, [.int lm, .ref lea, .int lN])), (lea, .inl (d 6, 10, .inr (.inr (.inr (.inr LF))))), oH ma mfl mro mrp mca mwy mla mmi mtf mtk, ((ma 1), .inl (d 0, 6, .inl mHO)), ((ma 2), .inl (d 0, 6, .inl mAT)), ((ma 3), .inl (d 0, 6, .inl mTO)), ((ma 4), .inl (d 0, 6, .inl mWE)), ((ma 5), .inl (d 0, 6, .inl mHE)), ((ma 6), .inl (d 0, 6, .inl mRA)), ((sa 2), .inl (d 1, 110, .inl TA))]) (rest := []) [.ref (cs 1)] hX cx hw hl.1 (mX12_sortOf l  D d cs wi ln lf dk dn him ra sa ma rz rat rtk rfr rva hstr q1 hcq1) (lw_V q603 q605 qs11 q104 q606) hd_X12_sortOf ⟨(Nat.le_of_ble_eq_true rfl), (Nat.le_of_ble_eq_true rfl)⟩ (va_recv hK hw.1 (ci := 11) (q0 := 9) rfl rfl) rfl rfl (Nat.le_of_ble_eq_true rfl) dX12_dish_3 [9] [0, 1, 2, 3, 4, 5, 6, 7, 8, 10] rfl rfl rfl rfl (by decide) ⟨(Nat.le_of_ble_eq_true rfl), (Nat.le_of_ble_eq_true rfl)⟩ (fun r u H locs hp hw => ?_)
  have hw : Wd D A s [(mla, .inr (3, [.int lm, .ref lea, .int lN])), (lea, .inl (d 6, 10, .inr (.inr (.inr (.inr LF))))), oH ma mfl mro mrp mca mwy mla mmi mtf mtk, ((ma 1), .inl (d 0, 6, .inl mHO)), ((ma 2), .inl (d 0, 6, .inl mAT)), ((ma 3), .inl (d 0, 6, .inl mTO)), ((ma 4), .inl (d 0, 6, .inl mWE)), ((ma 5), .inl (d 0, 6, .inl mHE)), ((ma 6), .inl (d 0, 6, .inl mRA)), ((sa 2), .inl (d 1, 110, .inl TA)), (ra, .inr (11, [.ref (sa 2), .int rz, .int rat, .int rtk, .int rfr, .int rva, .ref (ma 0)]))] H locs := hw
  subst r
  refine lv_istore_n (lv' := [(1, .int q1), (0, .ref ra)]) hx hb dX12_dish_6 rfl hl (by decide) rfl (fun ls hl => ?_)
  refine lv_aload_n hx hb dX12_dish_7 rfl (lv_at hl 1 rfl) ?_
  refine va_get (ci := 11) (C := RX12) (T := TX12) (N := 7) hx hb hts in_X12 hown hK hw.1 10 rfl rfl 6 (by decide) (hts _ q524) (fun _ h9 => h9) rfl dX12_dish_8 ?_
  obtain ⟨q2, hcq2, hf⟩ := op_e hf
  refine x_VI (wr := [(lea, .inl (d 6, 10, .inr (.inr (.inr (.inr LF))))), ((sa 2), .inl (d 1, 110, .inl TA)), (ra, .inr (11, [.ref (sa 2), .int rz, .int rat, .int rtk, .int rfr, .int rva, .ref (ma 0)]))]) (rest := []) [] hX cx hw hl.1 (mX1_many_w l  D d cs wi ln lf dk dn him ma mla lea mfl mro mrp mca mwy mmi mtf mtk mHO mAT mTO mWE mHE mRA lm lN  q2 hcq2) (lw_V q662 q663 q664 q83 q665) hd_X1_many ⟨(Nat.le_of_ble_eq_true rfl), (Nat.le_of_ble_eq_true rfl)⟩ (va_recv hK hw.1 (ci := 2) (q0 := 2) rfl rfl) rfl rfl (Nat.le_of_ble_eq_true rfl) dX12_dish_11 [0, 2, 3, 4, 5, 6, 7, 8] [1, 9, 10] rfl rfl rfl rfl (by decide) ⟨(Nat.le_of_ble_eq_true rfl), (Nat.le_of_ble_eq_true rfl)⟩ (fun r u H locs hp hw => ?_)
  have hw : Wd D A s [(lea, .inl (d 6, 10, .inr (.inr (.inr (.inr LF))))), ((sa 2), .inl (d 1, 110, .inl TA)), (ra, .inr (11, [.ref (sa 2), .int rz, .int rat, .int rtk, .int rfr, .int rva, .ref (ma 0)])), (mla, .inr (3, [.int lm, .ref lea, .int lN])), oH ma mfl mro mrp mca mwy mla mmi mtf mtk, ((ma 1), .inl (d 0, 6, .inl mHO)), ((ma 2), .inl (d 0, 6, .inl mAT)), ((ma 3), .inl (d 0, 6, .inl mTO)), ((ma 4), .inl (d 0, 6, .inl mWE)), ((ma 5), .inl (d 0, 6, .inl mHE)), ((ma 6), .inl (d 0, 6, .inl mRA))] H locs := hw
  subst r
  refine lv_istore_n (lv' := [(2, .int q2), (1, .int q1), (0, .ref ra)]) hx hb dX12_dish_14 rfl hl (by decide) rfl (fun ls hl => ?_)
  refine lv_aload_n hx hb dX12_dish_15 rfl (lv_at hl 2 rfl) ?_
  refine lv_iload_n hx hb dX12_dish_16 rfl (lv_at hl 0 rfl) ?_
  refine lv_bipush (v := 6) hx hb dX12_dish_17 (by decide) ?_
  obtain ⟨r4, hcr4, hf⟩ := op_e hf
  rcases r4 with q5 | e6
  · refine x_VV (wr := [(lea, .inl (d 6, 10, .inr (.inr (.inr (.inr LF))))), (mla, .inr (3, [.int lm, .ref lea, .int lN])), oH ma mfl mro mrp mca mwy mla mmi mtf mtk, ((ma 1), .inl (d 0, 6, .inl mHO)), ((ma 2), .inl (d 0, 6, .inl mAT)), ((ma 3), .inl (d 0, 6, .inl mTO)), ((ma 4), .inl (d 0, 6, .inl mWE)), ((ma 5), .inl (d 0, 6, .inl mHE)), ((ma 6), .inl (d 0, 6, .inl mRA))]) (rest := []) [.int q2, .int 6] hX cx hw hl.1 (mX12_begin l D d cs wi ln lf dk dn him ra sa ma rz rat rtk rfr rva TA q2 6  q5 hcr4) (lw_V q676 q678 qs13 q104 q679) hd_X12_begin ⟨(Nat.le_of_ble_eq_true rfl), (Nat.le_of_ble_eq_true rfl)⟩ (va_recv hK hw.1 (ci := 11) (q0 := 2) rfl rfl) rfl rfl (Nat.le_of_ble_eq_true rfl) dX12_dish_19 [2, 1] [0, 3, 4, 5, 6, 7, 8, 9, 10] rfl rfl rfl rfl (by decide) ⟨(Nat.le_of_ble_eq_true rfl), (Nat.le_of_ble_eq_true rfl)⟩ (fun u H locs hp hw => ?_)
    have hw : Wd D A s [(lea, .inl (d 6, 10, .inr (.inr (.inr (.inr LF))))), (mla, .inr (3, [.int lm, .ref lea, .int lN])), oH ma mfl mro mrp mca mwy mla mmi mtf mtk, ((ma 1), .inl (d 0, 6, .inl mHO)), ((ma 2), .inl (d 0, 6, .inl mAT)), ((ma 3), .inl (d 0, 6, .inl mTO)), ((ma 4), .inl (d 0, 6, .inl mWE)), ((ma 5), .inl (d 0, 6, .inl mHE)), ((ma 6), .inl (d 0, 6, .inl mRA)), (ra, .inr (11, [.ref (sa 2), .int rz, .int q5.1, .int q5.2.1, .int q5.2.2.1, .int q5.2.2.2, .ref (ma 0)])), ((sa 2), .inl (d 1, 110, .inl TA))] H locs := hw
    refine lv_aload_n hx hb dX12_dish_22 rfl (lv_at hl 2 rfl) ?_
    refine va_get (ci := 11) (C := RX12) (T := TX12) (N := 7) hx hb hts in_X12 hown hK hw.1 9 rfl rfl 6 (by decide) (hts _ q524) (fun _ h9 => h9) rfl dX12_dish_23 ?_
    refine va_get (ci := 2) (C := RX1) (T := TX1) (N := 15) hx hb hts in_X1 hown hK hw.1 2 rfl rfl 7 (by decide) (hts _ q178) (fun _ h9 => h9) rfl dX12_dish_26 ?_
    refine lv_iload_n hx hb dX12_dish_29 rfl (lv_at hl 0 rfl) ?_
    refine lv_aload_n hx hb dX12_dish_30 rfl (lv_at hl 2 rfl) ?_
    refine lv_iconst (v := 0) hx hb dX12_dish_31 (by decide) ?_
    refine lv_aload_n hx hb dX12_dish_32 rfl (lv_at hl 2 rfl) ?_
    refine va_get (ci := 11) (C := RX12) (T := TX12) (N := 7) hx hb hts in_X12 hown hK hw.1 9 rfl rfl 6 (by decide) (hts _ q524) (fun _ h9 => h9) rfl dX12_dish_33 ?_
    refine va_get (ci := 2) (C := RX1) (T := TX1) (N := 15) hx hb hts in_X1 hown hK hw.1 2 rfl rfl 0 (by decide) (hts _ q160) (fun _ h9 => h9) rfl dX12_dish_36 ?_
    refine lv_iconst (v := 1) hx hb dX12_dish_39 (by decide) ?_
    refine lv_isub hx hb dX12_dish_40 ?_
    obtain ⟨r8, hcr8, hf⟩ := op_e hf
    rcases r8 with q9 | e10
    · refine x_VI (wr := [(lea, .inl (d 6, 10, .inr (.inr (.inr (.inr LF))))), (mla, .inr (3, [.int lm, .ref lea, .int lN])), oH ma mfl mro mrp mca mwy mla mmi mtf mtk, ((ma 1), .inl (d 0, 6, .inl mHO)), ((ma 2), .inl (d 0, 6, .inl mAT)), ((ma 3), .inl (d 0, 6, .inl mTO)), ((ma 4), .inl (d 0, 6, .inl mWE)), ((ma 5), .inl (d 0, 6, .inl mHE)), ((ma 6), .inl (d 0, 6, .inl mRA))]) (rest := [.int q2, .ref (ma 2)]) [.int 0, .int (mfl - 1)] hX cx hw hl.1 (mX12_figure l D d cs wi ln lf dk dn him ra sa ma rz q5.1 q5.2.1 q5.2.2.1 q5.2.2.2 TA 0 (mfl - 1)  q9 hcr8) (lw_V q590 q592 qs8 q104 q593) hd_X12_figure ⟨(Nat.le_of_ble_eq_true rfl), (Nat.le_of_ble_eq_true rfl)⟩ (va_recv hK hw.1 (ci := 11) (q0 := 9) rfl rfl) rfl rfl (Nat.le_of_ble_eq_true rfl) dX12_dish_41 [9, 10] [0, 1, 2, 3, 4, 5, 6, 7, 8] rfl rfl rfl rfl (by decide) ⟨(Nat.le_of_ble_eq_true rfl), (Nat.le_of_ble_eq_true rfl)⟩ (fun r u H locs hp hw => ?_)
      have hw : Wd D A s [(lea, .inl (d 6, 10, .inr (.inr (.inr (.inr LF))))), (mla, .inr (3, [.int lm, .ref lea, .int lN])), oH ma mfl mro mrp mca mwy mla mmi mtf mtk, ((ma 1), .inl (d 0, 6, .inl mHO)), ((ma 2), .inl (d 0, 6, .inl mAT)), ((ma 3), .inl (d 0, 6, .inl mTO)), ((ma 4), .inl (d 0, 6, .inl mWE)), ((ma 5), .inl (d 0, 6, .inl mHE)), ((ma 6), .inl (d 0, 6, .inl mRA)), (ra, .inr (11, [.ref (sa 2), .int rz, .int q9.2.1, .int q9.2.2.1, .int q9.2.2.2.1, .int q9.2.2.2.2, .ref (ma 0)])), ((sa 2), .inl (d 1, 110, .inl TA))] H locs := hw
      subst r
      obtain ⟨w11, hrd, hf⟩ := op_e hf
      refine x_iast (q0 := 4) cx hw rfl hrd dX12_dish_44 (fun H locs hw => ?_)
      have hw : Wd D A s [(lea, .inl (d 6, 10, .inr (.inr (.inr (.inr LF))))), (mla, .inr (3, [.int lm, .ref lea, .int lN])), oH ma mfl mro mrp mca mwy mla mmi mtf mtk, ((ma 1), .inl (d 0, 6, .inl mHO)), ((ma 2), .inl (d 0, 6, .inl w11)), ((ma 3), .inl (d 0, 6, .inl mTO)), ((ma 4), .inl (d 0, 6, .inl mWE)), ((ma 5), .inl (d 0, 6, .inl mHE)), ((ma 6), .inl (d 0, 6, .inl mRA)), (ra, .inr (11, [.ref (sa 2), .int rz, .int q9.2.1, .int q9.2.2.1, .int q9.2.2.2.1, .int q9.2.2.2.2, .ref (ma 0)])), ((sa 2), .inl (d 1, 110, .inl TA))] H locs := hw
      refine lv_aload_n hx hb dX12_dish_45 rfl (lv_at hl 2 rfl) ?_
      refine va_get (ci := 11) (C := RX12) (T := TX12) (N := 7) hx hb hts in_X12 hown hK hw.1 9 rfl rfl 6 (by decide) (hts _ q524) (fun _ h9 => h9) rfl dX12_dish_46 ?_
      refine va_get (ci := 2) (C := RX1) (T := TX1) (N := 15) hx hb hts in_X1 hown hK hw.1 2 rfl rfl 8 (by decide) (hts _ q181) (fun _ h9 => h9) rfl dX12_dish_49 ?_
      refine lv_iload_n hx hb dX12_dish_52 rfl (lv_at hl 0 rfl) ?_
      refine lv_aload_n hx hb dX12_dish_53 rfl (lv_at hl 2 rfl) ?_
      refine lv_iconst (v := 0) hx hb dX12_dish_54 (by decide) ?_
      refine lv_aload_n hx hb dX12_dish_55 rfl (lv_at hl 2 rfl) ?_
      refine va_get (ci := 11) (C := RX12) (T := TX12) (N := 7) hx hb hts in_X12 hown hK hw.1 9 rfl rfl 6 (by decide) (hts _ q524) (fun _ h9 => h9) rfl dX12_dish_56 ?_
      refine va_get (ci := 2) (C := RX1) (T := TX1) (N := 15) hx hb hts in_X1 hown hK hw.1 2 rfl rfl 0 (by decide) (hts _ q160) (fun _ h9 => h9) rfl dX12_dish_59 ?_
      refine lv_iconst (v := 1) hx hb dX12_dish_62 (by decide) ?_
      refine lv_isub hx hb dX12_dish_63 ?_
      obtain ⟨r13, hcr13, hf⟩ := op_e hf
      rcases r13 with q14 | e15
      · refine x_VI (wr := [(lea, .inl (d 6, 10, .inr (.inr (.inr (.inr LF))))), (mla, .inr (3, [.int lm, .ref lea, .int lN])), oH ma mfl mro mrp mca mwy mla mmi mtf mtk, ((ma 1), .inl (d 0, 6, .inl mHO)), ((ma 2), .inl (d 0, 6, .inl w11)), ((ma 3), .inl (d 0, 6, .inl mTO)), ((ma 4), .inl (d 0, 6, .inl mWE)), ((ma 5), .inl (d 0, 6, .inl mHE)), ((ma 6), .inl (d 0, 6, .inl mRA))]) (rest := [.int q2, .ref (ma 3)]) [.int 0, .int (mfl - 1)] hX cx hw hl.1 (mX12_more l D d cs wi ln lf dk dn him ra sa ma rz q9.2.1 q9.2.2.1 q9.2.2.2.1 q9.2.2.2.2 TA 0 (mfl - 1)  q14 hcr13) (lw_V q594 q596 qs9 q104 q597) hd_X12_more ⟨(Nat.le_of_ble_eq_true rfl), (Nat.le_of_ble_eq_true rfl)⟩ (va_recv hK hw.1 (ci := 11) (q0 := 9) rfl rfl) rfl rfl (Nat.le_of_ble_eq_true rfl) dX12_dish_64 [9, 10] [0, 1, 2, 3, 4, 5, 6, 7, 8] rfl rfl rfl rfl (by decide) ⟨(Nat.le_of_ble_eq_true rfl), (Nat.le_of_ble_eq_true rfl)⟩ (fun r u H locs hp hw => ?_)
        have hw : Wd D A s [(lea, .inl (d 6, 10, .inr (.inr (.inr (.inr LF))))), (mla, .inr (3, [.int lm, .ref lea, .int lN])), oH ma mfl mro mrp mca mwy mla mmi mtf mtk, ((ma 1), .inl (d 0, 6, .inl mHO)), ((ma 2), .inl (d 0, 6, .inl w11)), ((ma 3), .inl (d 0, 6, .inl mTO)), ((ma 4), .inl (d 0, 6, .inl mWE)), ((ma 5), .inl (d 0, 6, .inl mHE)), ((ma 6), .inl (d 0, 6, .inl mRA)), (ra, .inr (11, [.ref (sa 2), .int rz, .int q14.2.1, .int q14.2.2.1, .int q14.2.2.2.1, .int q14.2.2.2.2, .ref (ma 0)])), ((sa 2), .inl (d 1, 110, .inl TA))] H locs := hw
        subst r
        obtain ⟨w16, hrd, hf⟩ := op_e hf
        refine x_iast (q0 := 5) cx hw rfl hrd dX12_dish_67 (fun H locs hw => ?_)
        have hw : Wd D A s [(lea, .inl (d 6, 10, .inr (.inr (.inr (.inr LF))))), (mla, .inr (3, [.int lm, .ref lea, .int lN])), oH ma mfl mro mrp mca mwy mla mmi mtf mtk, ((ma 1), .inl (d 0, 6, .inl mHO)), ((ma 2), .inl (d 0, 6, .inl w11)), ((ma 3), .inl (d 0, 6, .inl w16)), ((ma 4), .inl (d 0, 6, .inl mWE)), ((ma 5), .inl (d 0, 6, .inl mHE)), ((ma 6), .inl (d 0, 6, .inl mRA)), (ra, .inr (11, [.ref (sa 2), .int rz, .int q14.2.1, .int q14.2.2.1, .int q14.2.2.2.1, .int q14.2.2.2.2, .ref (ma 0)])), ((sa 2), .inl (d 1, 110, .inl TA))] H locs := hw
        refine lv_aload_n hx hb dX12_dish_68 rfl (lv_at hl 2 rfl) ?_
        refine va_get (ci := 11) (C := RX12) (T := TX12) (N := 7) hx hb hts in_X12 hown hK hw.1 9 rfl rfl 6 (by decide) (hts _ q524) (fun _ h9 => h9) rfl dX12_dish_69 ?_
        refine va_get (ci := 2) (C := RX1) (T := TX1) (N := 15) hx hb hts in_X1 hown hK hw.1 2 rfl rfl 9 (by decide) (hts _ q185) (fun _ h9 => h9) rfl dX12_dish_72 ?_
        refine lv_iload_n hx hb dX12_dish_75 rfl (lv_at hl 0 rfl) ?_
        refine lv_aload_n hx hb dX12_dish_76 rfl (lv_at hl 2 rfl) ?_
        refine lv_iconst (v := 1) hx hb dX12_dish_77 (by decide) ?_
        refine lv_bipush (v := 9) hx hb dX12_dish_78 (by decide) ?_
        obtain ⟨r18, hcr18, hf⟩ := op_e hf
        rcases r18 with q19 | e20
        · refine x_VI (wr := [(lea, .inl (d 6, 10, .inr (.inr (.inr (.inr LF))))), (mla, .inr (3, [.int lm, .ref lea, .int lN])), oH ma mfl mro mrp mca mwy mla mmi mtf mtk, ((ma 1), .inl (d 0, 6, .inl mHO)), ((ma 2), .inl (d 0, 6, .inl w11)), ((ma 3), .inl (d 0, 6, .inl w16)), ((ma 4), .inl (d 0, 6, .inl mWE)), ((ma 5), .inl (d 0, 6, .inl mHE)), ((ma 6), .inl (d 0, 6, .inl mRA))]) (rest := [.int q2, .ref (ma 4)]) [.int 1, .int 9] hX cx hw hl.1 (mX12_more l D d cs wi ln lf dk dn him ra sa ma rz q14.2.1 q14.2.2.1 q14.2.2.2.1 q14.2.2.2.2 TA 1 9  q19 hcr18) (lw_V q594 q596 qs9 q104 q597) hd_X12_more ⟨(Nat.le_of_ble_eq_true rfl), (Nat.le_of_ble_eq_true rfl)⟩ (va_recv hK hw.1 (ci := 11) (q0 := 9) rfl rfl) rfl rfl (Nat.le_of_ble_eq_true rfl) dX12_dish_80 [9, 10] [0, 1, 2, 3, 4, 5, 6, 7, 8] rfl rfl rfl rfl (by decide) ⟨(Nat.le_of_ble_eq_true rfl), (Nat.le_of_ble_eq_true rfl)⟩ (fun r u H locs hp hw => ?_)
          have hw : Wd D A s [(lea, .inl (d 6, 10, .inr (.inr (.inr (.inr LF))))), (mla, .inr (3, [.int lm, .ref lea, .int lN])), oH ma mfl mro mrp mca mwy mla mmi mtf mtk, ((ma 1), .inl (d 0, 6, .inl mHO)), ((ma 2), .inl (d 0, 6, .inl w11)), ((ma 3), .inl (d 0, 6, .inl w16)), ((ma 4), .inl (d 0, 6, .inl mWE)), ((ma 5), .inl (d 0, 6, .inl mHE)), ((ma 6), .inl (d 0, 6, .inl mRA)), (ra, .inr (11, [.ref (sa 2), .int rz, .int q19.2.1, .int q19.2.2.1, .int q19.2.2.2.1, .int q19.2.2.2.2, .ref (ma 0)])), ((sa 2), .inl (d 1, 110, .inl TA))] H locs := hw
          subst r
          obtain ⟨w21, hrd, hf⟩ := op_e hf
          refine x_iast (q0 := 6) cx hw rfl hrd dX12_dish_83 (fun H locs hw => ?_)
          have hw : Wd D A s [(lea, .inl (d 6, 10, .inr (.inr (.inr (.inr LF))))), (mla, .inr (3, [.int lm, .ref lea, .int lN])), oH ma mfl mro mrp mca mwy mla mmi mtf mtk, ((ma 1), .inl (d 0, 6, .inl mHO)), ((ma 2), .inl (d 0, 6, .inl w11)), ((ma 3), .inl (d 0, 6, .inl w16)), ((ma 4), .inl (d 0, 6, .inl w21)), ((ma 5), .inl (d 0, 6, .inl mHE)), ((ma 6), .inl (d 0, 6, .inl mRA)), (ra, .inr (11, [.ref (sa 2), .int rz, .int q19.2.1, .int q19.2.2.1, .int q19.2.2.2.1, .int q19.2.2.2.2, .ref (ma 0)])), ((sa 2), .inl (d 1, 110, .inl TA))] H locs := hw
          refine lv_aload_n hx hb dX12_dish_84 rfl (lv_at hl 2 rfl) ?_
          refine va_get (ci := 11) (C := RX12) (T := TX12) (N := 7) hx hb hts in_X12 hown hK hw.1 9 rfl rfl 6 (by decide) (hts _ q524) (fun _ h9 => h9) rfl dX12_dish_85 ?_
          refine va_get (ci := 2) (C := RX1) (T := TX1) (N := 15) hx hb hts in_X1 hown hK hw.1 2 rfl rfl 10 (by decide) (hts _ q189) (fun _ h9 => h9) rfl dX12_dish_88 ?_
          refine lv_iload_n hx hb dX12_dish_91 rfl (lv_at hl 0 rfl) ?_
          refine lv_aload_n hx hb dX12_dish_92 rfl (lv_at hl 2 rfl) ?_
          refine lv_iconst (v := 0) hx hb dX12_dish_93 (by decide) ?_
          refine lv_bipush (v := 60) hx hb dX12_dish_94 (by decide) ?_
          obtain ⟨r23, hcr23, hf⟩ := op_e hf
          rcases r23 with q24 | e25
          · refine x_VI (wr := [(lea, .inl (d 6, 10, .inr (.inr (.inr (.inr LF))))), (mla, .inr (3, [.int lm, .ref lea, .int lN])), oH ma mfl mro mrp mca mwy mla mmi mtf mtk, ((ma 1), .inl (d 0, 6, .inl mHO)), ((ma 2), .inl (d 0, 6, .inl w11)), ((ma 3), .inl (d 0, 6, .inl w16)), ((ma 4), .inl (d 0, 6, .inl w21)), ((ma 5), .inl (d 0, 6, .inl mHE)), ((ma 6), .inl (d 0, 6, .inl mRA))]) (rest := [.int q2, .ref (ma 5)]) [.int 0, .int 60] hX cx hw hl.1 (mX12_more l D d cs wi ln lf dk dn him ra sa ma rz q19.2.1 q19.2.2.1 q19.2.2.2.1 q19.2.2.2.2 TA 0 60  q24 hcr23) (lw_V q594 q596 qs9 q104 q597) hd_X12_more ⟨(Nat.le_of_ble_eq_true rfl), (Nat.le_of_ble_eq_true rfl)⟩ (va_recv hK hw.1 (ci := 11) (q0 := 9) rfl rfl) rfl rfl (Nat.le_of_ble_eq_true rfl) dX12_dish_96 [9, 10] [0, 1, 2, 3, 4, 5, 6, 7, 8] rfl rfl rfl rfl (by decide) ⟨(Nat.le_of_ble_eq_true rfl), (Nat.le_of_ble_eq_true rfl)⟩ (fun r u H locs hp hw => ?_)
            have hw : Wd D A s [(lea, .inl (d 6, 10, .inr (.inr (.inr (.inr LF))))), (mla, .inr (3, [.int lm, .ref lea, .int lN])), oH ma mfl mro mrp mca mwy mla mmi mtf mtk, ((ma 1), .inl (d 0, 6, .inl mHO)), ((ma 2), .inl (d 0, 6, .inl w11)), ((ma 3), .inl (d 0, 6, .inl w16)), ((ma 4), .inl (d 0, 6, .inl w21)), ((ma 5), .inl (d 0, 6, .inl mHE)), ((ma 6), .inl (d 0, 6, .inl mRA)), (ra, .inr (11, [.ref (sa 2), .int rz, .int q24.2.1, .int q24.2.2.1, .int q24.2.2.2.1, .int q24.2.2.2.2, .ref (ma 0)])), ((sa 2), .inl (d 1, 110, .inl TA))] H locs := hw
            subst r
            obtain ⟨w26, hrd, hf⟩ := op_e hf
            refine x_iast (q0 := 7) cx hw rfl hrd dX12_dish_99 (fun H locs hw => ?_)
            have hw : Wd D A s [(lea, .inl (d 6, 10, .inr (.inr (.inr (.inr LF))))), (mla, .inr (3, [.int lm, .ref lea, .int lN])), oH ma mfl mro mrp mca mwy mla mmi mtf mtk, ((ma 1), .inl (d 0, 6, .inl mHO)), ((ma 2), .inl (d 0, 6, .inl w11)), ((ma 3), .inl (d 0, 6, .inl w16)), ((ma 4), .inl (d 0, 6, .inl w21)), ((ma 5), .inl (d 0, 6, .inl w26)), ((ma 6), .inl (d 0, 6, .inl mRA)), (ra, .inr (11, [.ref (sa 2), .int rz, .int q24.2.1, .int q24.2.2.1, .int q24.2.2.2.1, .int q24.2.2.2.2, .ref (ma 0)])), ((sa 2), .inl (d 1, 110, .inl TA))] H locs := hw
            refine lv_aload_n hx hb dX12_dish_100 rfl (lv_at hl 2 rfl) ?_
            refine va_get (ci := 11) (C := RX12) (T := TX12) (N := 7) hx hb hts in_X12 hown hK hw.1 9 rfl rfl 6 (by decide) (hts _ q524) (fun _ h9 => h9) rfl dX12_dish_101 ?_
            refine va_get (ci := 2) (C := RX1) (T := TX1) (N := 15) hx hb hts in_X1 hown hK hw.1 2 rfl rfl 5 (by decide) (hts _ q173) (fun _ h9 => h9) rfl dX12_dish_104 ?_
            refine lv_iload_n hx hb dX12_dish_107 rfl (lv_at hl 1 rfl) ?_
            refine lv_iload_n hx hb dX12_dish_108 rfl (lv_at hl 0 rfl) ?_
            obtain ⟨q27, hcq27, hf⟩ := op_e hf
            refine x_SNR (wr := [(lea, .inl (d 6, 10, .inr (.inr (.inr (.inr LF))))), (mla, .inr (3, [.int lm, .ref lea, .int lN])), oH ma mfl mro mrp mca mwy mla mmi mtf mtk, ((ma 1), .inl (d 0, 6, .inl mHO)), ((ma 2), .inl (d 0, 6, .inl w11)), ((ma 3), .inl (d 0, 6, .inl w16)), ((ma 4), .inl (d 0, 6, .inl w21)), ((ma 5), .inl (d 0, 6, .inl w26)), ((ma 6), .inl (d 0, 6, .inl mRA)), (ra, .inr (11, [.ref (sa 2), .int rz, .int q24.2.1, .int q24.2.2.1, .int q24.2.2.2.1, .int q24.2.2.2.2, .ref (ma 0)])), ((sa 2), .inl (d 1, 110, .inl TA))]) (rest := [.ref mla]) [.int q1, .int q2] hX cx hw hl.1 (mX0_dishBy l D d cs wi q1 q2 q27 hcq27) q682 (Tb.nestM q680 hXs.1) q681 q82 hd_X0_dishBy ⟨(Nat.le_of_ble_eq_true rfl), (Nat.le_of_ble_eq_true rfl)⟩ rfl rfl (Nat.le_of_ble_eq_true rfl) dX12_dish_109 [] [0, 1, 2, 3, 4, 5, 6, 7, 8, 9, 10] rfl rfl rfl rfl (by decide) ⟨(Nat.le_of_ble_eq_true rfl), (Nat.le_of_ble_eq_true rfl)⟩ (fun u a28 H locs hp hw => ?_)
            have hw : Wd D A s [(lea, .inl (d 6, 10, .inr (.inr (.inr (.inr LF))))), (mla, .inr (3, [.int lm, .ref lea, .int lN])), oH ma mfl mro mrp mca mwy mla mmi mtf mtk, ((ma 1), .inl (d 0, 6, .inl mHO)), ((ma 2), .inl (d 0, 6, .inl w11)), ((ma 3), .inl (d 0, 6, .inl w16)), ((ma 4), .inl (d 0, 6, .inl w21)), ((ma 5), .inl (d 0, 6, .inl w26)), ((ma 6), .inl (d 0, 6, .inl mRA)), (ra, .inr (11, [.ref (sa 2), .int rz, .int q24.2.1, .int q24.2.2.1, .int q24.2.2.2.1, .int q24.2.2.2.2, .ref (ma 0)])), ((sa 2), .inl (d 1, 110, .inl TA)), (a28, .inr (5 + q27, [.int q2]))] H locs := hw
            refine W.widen (k := 1) (n := 1) (Nat.le_of_ble_eq_true rfl) (Nat.le_of_ble_eq_true rfl) ?_
            obtain ⟨g29, hgi, hf⟩ := op_e hf
            refine x_FIW (n := 1) (x := ⟨"java/util/List", "add", "(Ljava/lang/Object;)Z"⟩) (wr := [oH ma mfl mro mrp mca mwy mla mmi mtf mtk, ((ma 1), .inl (d 0, 6, .inl mHO)), ((ma 2), .inl (d 0, 6, .inl w11)), ((ma 3), .inl (d 0, 6, .inl w16)), ((ma 4), .inl (d 0, 6, .inl w21)), ((ma 5), .inl (d 0, 6, .inl w26)), ((ma 6), .inl (d 0, 6, .inl mRA)), (ra, .inr (11, [.ref (sa 2), .int rz, .int q24.2.1, .int q24.2.2.1, .int q24.2.2.2.1, .int q24.2.2.2.2, .ref (ma 0)])), ((sa 2), .inl (d 1, 110, .inl TA))]) (rest := []) (C := "java/util/ArrayList") [.ref a28] hX cx hw hl.1 (hK.1 3 _ rfl).2 (mJ2_add_w1 l D d cs wi mla lea a28 q27 [.int q2] lm lN LF (dishBy_lt hcq27) (gix_spec hgi)) (lw_F q684 q687 q689 q86 q691) (Tb.Fw (by decide) q686 q685 q690 q688 q670 hXs.1) ⟨by decide, by decide, by decide +kernel⟩ ⟨(Nat.le_of_ble_eq_true rfl), (Nat.le_of_ble_eq_true rfl)⟩ (va_recv hK hw.1 (ci := 3) (q0 := 1) rfl rfl) rfl rfl (Nat.le_of_ble_eq_true rfl) dX12_dish_112 [1, 0, 11] [2, 3, 4, 5, 6, 7, 8, 9, 10] rfl rfl rfl rfl (by decide) ⟨(Nat.le_of_ble_eq_true rfl), (Nat.le_of_ble_eq_true rfl)⟩ (fun r u H locs hp hw => ?_)
            have hw : Wd D A s [oH ma mfl mro mrp mca mwy mla mmi mtf mtk, ((ma 1), .inl (d 0, 6, .inl mHO)), ((ma 2), .inl (d 0, 6, .inl w11)), ((ma 3), .inl (d 0, 6, .inl w16)), ((ma 4), .inl (d 0, 6, .inl w21)), ((ma 5), .inl (d 0, 6, .inl w26)), ((ma 6), .inl (d 0, 6, .inl mRA)), (ra, .inr (11, [.ref (sa 2), .int rz, .int q24.2.1, .int q24.2.2.1, .int q24.2.2.2.1, .int q24.2.2.2.2, .ref (ma 0)])), ((sa 2), .inl (d 1, 110, .inl TA)), (mla, .inr (3, [.int (lm + 1), .ref lea, .int (lN + 1)])), (lea, .inl (d 6, 10, .inr (.inr (.inr (.inr (va_up LF lN.toNatClampNeg (some a28))))))), (a28, .inr (5 + q27, [.int q2]))] H locs := hw
            subst r
            refine W.widen (k := 2) (n := 11) (Nat.le_of_ble_eq_true rfl) (Nat.le_of_ble_eq_true rfl) ?_
            refine lv_pop hx hb dX12_dish_117 rfl ?_
            refine lv_aload_n hx hb dX12_dish_118 rfl (lv_at hl 2 rfl) ?_
            refine lv_iconst (v := 4) hx hb dX12_dish_119 (by decide) ?_
            obtain ⟨r31, hcr31, hf⟩ := op_e hf
            rcases r31 with q32 | e33
            · refine x_VV (wr := [oH ma mfl mro mrp mca mwy mla mmi mtf mtk, ((ma 1), .inl (d 0, 6, .inl mHO)), ((ma 2), .inl (d 0, 6, .inl w11)), ((ma 3), .inl (d 0, 6, .inl w16)), ((ma 4), .inl (d 0, 6, .inl w21)), ((ma 5), .inl (d 0, 6, .inl w26)), ((ma 6), .inl (d 0, 6, .inl mRA)), (mla, .inr (3, [.int (lm + 1), .ref lea, .int (lN + 1)])), (lea, .inl (d 6, 10, .inr (.inr (.inr (.inr (va_up LF lN.toNatClampNeg (some a28))))))), (a28, .inr (5 + q27, [.int q2]))]) (rest := []) [.int 4] hX cx hw hl.1 (mX12_sign l D d cs wi ln lf dk dn him ra sa ma rz q24.2.1 q24.2.2.1 q24.2.2.2.1 q24.2.2.2.2 TA 4  q32 hcr31) (lw_V q598 q600 qs10 q104 q601) hd_X12_sign ⟨(Nat.le_of_ble_eq_true rfl), (Nat.le_of_ble_eq_true rfl)⟩ (va_recv hK hw.1 (ci := 11) (q0 := 7) rfl rfl) rfl rfl (Nat.le_of_ble_eq_true rfl) dX12_dish_120 [7, 8] [0, 1, 2, 3, 4, 5, 6, 9, 10, 11] rfl rfl rfl rfl (by decide) ⟨(Nat.le_of_ble_eq_true rfl), (Nat.le_of_ble_eq_true rfl)⟩ (fun u H locs hp hw => ?_)
              have hw : Wd D A s [oH ma mfl mro mrp mca mwy mla mmi mtf mtk, ((ma 1), .inl (d 0, 6, .inl mHO)), ((ma 2), .inl (d 0, 6, .inl w11)), ((ma 3), .inl (d 0, 6, .inl w16)), ((ma 4), .inl (d 0, 6, .inl w21)), ((ma 5), .inl (d 0, 6, .inl w26)), ((ma 6), .inl (d 0, 6, .inl mRA)), (mla, .inr (3, [.int (lm + 1), .ref lea, .int (lN + 1)])), (lea, .inl (d 6, 10, .inr (.inr (.inr (.inr (va_up LF lN.toNatClampNeg (some a28))))))), (a28, .inr (5 + q27, [.int q2])), (ra, .inr (11, [.ref (sa 2), .int rz, .int q32.1, .int q32.2.1, .int q32.2.2.1, .int q32.2.2.2, .ref (ma 0)])), ((sa 2), .inl (d 1, 110, .inl TA))] H locs := hw
              cases hf
            · have hf : (some (.inr e33) : Option ((Int32 × Int32 × (Nat → Int32) × (Nat → Int32) × (Nat → Int32) × (Nat → Int32) × Int32 × Int32 × Int32 × Int32 × Nat × Int32) ⊕ (Int32 × Int32))) = some (.inr res) := hf
              have hf := Sum.inr.inj (sm_e hf)
              subst hf
              refine x_TV (wr := [oH ma mfl mro mrp mca mwy mla mmi mtf mtk, ((ma 1), .inl (d 0, 6, .inl mHO)), ((ma 2), .inl (d 0, 6, .inl w11)), ((ma 3), .inl (d 0, 6, .inl w16)), ((ma 4), .inl (d 0, 6, .inl w21)), ((ma 5), .inl (d 0, 6, .inl w26)), ((ma 6), .inl (d 0, 6, .inl mRA)), (mla, .inr (3, [.int (lm + 1), .ref lea, .int (lN + 1)])), (lea, .inl (d 6, 10, .inr (.inr (.inr (.inr (va_up LF lN.toNatClampNeg (some a28))))))), (a28, .inr (5 + q27, [.int q2]))]) (rest := []) [.int 4] hX cx hw hl.1 (tX12_sign l D d cs wi ln lf dk dn him ra sa ma rz q24.2.1 q24.2.2.1 q24.2.2.2.1 q24.2.2.2.2 TA 4  e33 hcr31) (lw_V q598 q600 qs10 q104 q601) hd_X12_sign ⟨(Nat.le_of_ble_eq_true rfl), (Nat.le_of_ble_eq_true rfl)⟩ (va_recv hK hw.1 (ci := 11) (q0 := 7) rfl rfl) rfl rfl (Nat.le_of_ble_eq_true rfl) dX12_dish_120 [7, 8] [0, 1, 2, 3, 4, 5, 6, 9, 10, 11] rfl rfl rfl rfl (by decide) ⟨(Nat.le_of_ble_eq_true rfl), (Nat.le_of_ble_eq_true rfl)⟩ (fun a30 ce u H locs hw g1 g2 g3 => ?_)
              have hw : Wd D A s [oH ma mfl mro mrp mca mwy mla mmi mtf mtk, ((ma 1), .inl (d 0, 6, .inl mHO)), ((ma 2), .inl (d 0, 6, .inl w11)), ((ma 3), .inl (d 0, 6, .inl w16)), ((ma 4), .inl (d 0, 6, .inl w21)), ((ma 5), .inl (d 0, 6, .inl w26)), ((ma 6), .inl (d 0, 6, .inl mRA)), (mla, .inr (3, [.int (lm + 1), .ref lea, .int (lN + 1)])), (lea, .inl (d 6, 10, .inr (.inr (.inr (.inr (va_up LF lN.toNatClampNeg (some a28))))))), (a28, .inr (5 + q27, [.int q2])), ((sa 2), .inl (d 1, 110, .inl TA)), (a30, .inr (13, [.null, .null, .null, .null, .null, .int 0, .int e33.1, .int e33.2]))] H locs := hw
              exact x_out cx hET hw () g1 g2 g3 [10, 11] rfl rfl (Nat.le_of_ble_eq_true rfl) (Nat.le_of_ble_eq_true rfl)
          · have hf : (some (.inr e25) : Option ((Int32 × Int32 × (Nat → Int32) × (Nat → Int32) × (Nat → Int32) × (Nat → Int32) × Int32 × Int32 × Int32 × Int32 × Nat × Int32) ⊕ (Int32 × Int32))) = some (.inr res) := hf
            have hf := Sum.inr.inj (sm_e hf)
            subst hf
            refine x_TV (wr := [(lea, .inl (d 6, 10, .inr (.inr (.inr (.inr LF))))), (mla, .inr (3, [.int lm, .ref lea, .int lN])), oH ma mfl mro mrp mca mwy mla mmi mtf mtk, ((ma 1), .inl (d 0, 6, .inl mHO)), ((ma 2), .inl (d 0, 6, .inl w11)), ((ma 3), .inl (d 0, 6, .inl w16)), ((ma 4), .inl (d 0, 6, .inl w21)), ((ma 5), .inl (d 0, 6, .inl mHE)), ((ma 6), .inl (d 0, 6, .inl mRA))]) (rest := [.int q2, .ref (ma 5)]) [.int 0, .int 60] hX cx hw hl.1 (tX12_more l D d cs wi ln lf dk dn him ra sa ma rz q19.2.1 q19.2.2.1 q19.2.2.2.1 q19.2.2.2.2 TA 0 60  e25 hcr23) (lw_V q594 q596 qs9 q104 q597) hd_X12_more ⟨(Nat.le_of_ble_eq_true rfl), (Nat.le_of_ble_eq_true rfl)⟩ (va_recv hK hw.1 (ci := 11) (q0 := 9) rfl rfl) rfl rfl (Nat.le_of_ble_eq_true rfl) dX12_dish_96 [9, 10] [0, 1, 2, 3, 4, 5, 6, 7, 8] rfl rfl rfl rfl (by decide) ⟨(Nat.le_of_ble_eq_true rfl), (Nat.le_of_ble_eq_true rfl)⟩ (fun a22 ce u H locs hw g1 g2 g3 => ?_)
            have hw : Wd D A s [(lea, .inl (d 6, 10, .inr (.inr (.inr (.inr LF))))), (mla, .inr (3, [.int lm, .ref lea, .int lN])), oH ma mfl mro mrp mca mwy mla mmi mtf mtk, ((ma 1), .inl (d 0, 6, .inl mHO)), ((ma 2), .inl (d 0, 6, .inl w11)), ((ma 3), .inl (d 0, 6, .inl w16)), ((ma 4), .inl (d 0, 6, .inl w21)), ((ma 5), .inl (d 0, 6, .inl mHE)), ((ma 6), .inl (d 0, 6, .inl mRA)), ((sa 2), .inl (d 1, 110, .inl TA)), (a22, .inr (13, [.null, .null, .null, .null, .null, .int 0, .int e25.1, .int e25.2]))] H locs := hw
            exact x_out cx hET hw () g1 g2 g3 [9, 10] rfl rfl (Nat.le_of_ble_eq_true rfl) (Nat.le_of_ble_eq_true rfl)
        · have hf : (some (.inr e20) : Option ((Int32 × Int32 × (Nat → Int32) × (Nat → Int32) × (Nat → Int32) × (Nat → Int32) × Int32 × Int32 × Int32 × Int32 × Nat × Int32) ⊕ (Int32 × Int32))) = some (.inr res) := hf
          have hf := Sum.inr.inj (sm_e hf)
          subst hf
          refine x_TV (wr := [(lea, .inl (d 6, 10, .inr (.inr (.inr (.inr LF))))), (mla, .inr (3, [.int lm, .ref lea, .int lN])), oH ma mfl mro mrp mca mwy mla mmi mtf mtk, ((ma 1), .inl (d 0, 6, .inl mHO)), ((ma 2), .inl (d 0, 6, .inl w11)), ((ma 3), .inl (d 0, 6, .inl w16)), ((ma 4), .inl (d 0, 6, .inl mWE)), ((ma 5), .inl (d 0, 6, .inl mHE)), ((ma 6), .inl (d 0, 6, .inl mRA))]) (rest := [.int q2, .ref (ma 4)]) [.int 1, .int 9] hX cx hw hl.1 (tX12_more l D d cs wi ln lf dk dn him ra sa ma rz q14.2.1 q14.2.2.1 q14.2.2.2.1 q14.2.2.2.2 TA 1 9  e20 hcr18) (lw_V q594 q596 qs9 q104 q597) hd_X12_more ⟨(Nat.le_of_ble_eq_true rfl), (Nat.le_of_ble_eq_true rfl)⟩ (va_recv hK hw.1 (ci := 11) (q0 := 9) rfl rfl) rfl rfl (Nat.le_of_ble_eq_true rfl) dX12_dish_80 [9, 10] [0, 1, 2, 3, 4, 5, 6, 7, 8] rfl rfl rfl rfl (by decide) ⟨(Nat.le_of_ble_eq_true rfl), (Nat.le_of_ble_eq_true rfl)⟩ (fun a17 ce u H locs hw g1 g2 g3 => ?_)
          have hw : Wd D A s [(lea, .inl (d 6, 10, .inr (.inr (.inr (.inr LF))))), (mla, .inr (3, [.int lm, .ref lea, .int lN])), oH ma mfl mro mrp mca mwy mla mmi mtf mtk, ((ma 1), .inl (d 0, 6, .inl mHO)), ((ma 2), .inl (d 0, 6, .inl w11)), ((ma 3), .inl (d 0, 6, .inl w16)), ((ma 4), .inl (d 0, 6, .inl mWE)), ((ma 5), .inl (d 0, 6, .inl mHE)), ((ma 6), .inl (d 0, 6, .inl mRA)), ((sa 2), .inl (d 1, 110, .inl TA)), (a17, .inr (13, [.null, .null, .null, .null, .null, .int 0, .int e20.1, .int e20.2]))] H locs := hw
          exact x_out cx hET hw () g1 g2 g3 [9, 10] rfl rfl (Nat.le_of_ble_eq_true rfl) (Nat.le_of_ble_eq_true rfl)
      · have hf : (some (.inr e15) : Option ((Int32 × Int32 × (Nat → Int32) × (Nat → Int32) × (Nat → Int32) × (Nat → Int32) × Int32 × Int32 × Int32 × Int32 × Nat × Int32) ⊕ (Int32 × Int32))) = some (.inr res) := hf
        have hf := Sum.inr.inj (sm_e hf)
        subst hf
        refine x_TV (wr := [(lea, .inl (d 6, 10, .inr (.inr (.inr (.inr LF))))), (mla, .inr (3, [.int lm, .ref lea, .int lN])), oH ma mfl mro mrp mca mwy mla mmi mtf mtk, ((ma 1), .inl (d 0, 6, .inl mHO)), ((ma 2), .inl (d 0, 6, .inl w11)), ((ma 3), .inl (d 0, 6, .inl mTO)), ((ma 4), .inl (d 0, 6, .inl mWE)), ((ma 5), .inl (d 0, 6, .inl mHE)), ((ma 6), .inl (d 0, 6, .inl mRA))]) (rest := [.int q2, .ref (ma 3)]) [.int 0, .int (mfl - 1)] hX cx hw hl.1 (tX12_more l D d cs wi ln lf dk dn him ra sa ma rz q9.2.1 q9.2.2.1 q9.2.2.2.1 q9.2.2.2.2 TA 0 (mfl - 1)  e15 hcr13) (lw_V q594 q596 qs9 q104 q597) hd_X12_more ⟨(Nat.le_of_ble_eq_true rfl), (Nat.le_of_ble_eq_true rfl)⟩ (va_recv hK hw.1 (ci := 11) (q0 := 9) rfl rfl) rfl rfl (Nat.le_of_ble_eq_true rfl) dX12_dish_64 [9, 10] [0, 1, 2, 3, 4, 5, 6, 7, 8] rfl rfl rfl rfl (by decide) ⟨(Nat.le_of_ble_eq_true rfl), (Nat.le_of_ble_eq_true rfl)⟩ (fun a12 ce u H locs hw g1 g2 g3 => ?_)
        have hw : Wd D A s [(lea, .inl (d 6, 10, .inr (.inr (.inr (.inr LF))))), (mla, .inr (3, [.int lm, .ref lea, .int lN])), oH ma mfl mro mrp mca mwy mla mmi mtf mtk, ((ma 1), .inl (d 0, 6, .inl mHO)), ((ma 2), .inl (d 0, 6, .inl w11)), ((ma 3), .inl (d 0, 6, .inl mTO)), ((ma 4), .inl (d 0, 6, .inl mWE)), ((ma 5), .inl (d 0, 6, .inl mHE)), ((ma 6), .inl (d 0, 6, .inl mRA)), ((sa 2), .inl (d 1, 110, .inl TA)), (a12, .inr (13, [.null, .null, .null, .null, .null, .int 0, .int e15.1, .int e15.2]))] H locs := hw
        exact x_out cx hET hw () g1 g2 g3 [9, 10] rfl rfl (Nat.le_of_ble_eq_true rfl) (Nat.le_of_ble_eq_true rfl)
    · have hf : (some (.inr e10) : Option ((Int32 × Int32 × (Nat → Int32) × (Nat → Int32) × (Nat → Int32) × (Nat → Int32) × Int32 × Int32 × Int32 × Int32 × Nat × Int32) ⊕ (Int32 × Int32))) = some (.inr res) := hf
      have hf := Sum.inr.inj (sm_e hf)
      subst hf
      refine x_TV (wr := [(lea, .inl (d 6, 10, .inr (.inr (.inr (.inr LF))))), (mla, .inr (3, [.int lm, .ref lea, .int lN])), oH ma mfl mro mrp mca mwy mla mmi mtf mtk, ((ma 1), .inl (d 0, 6, .inl mHO)), ((ma 2), .inl (d 0, 6, .inl mAT)), ((ma 3), .inl (d 0, 6, .inl mTO)), ((ma 4), .inl (d 0, 6, .inl mWE)), ((ma 5), .inl (d 0, 6, .inl mHE)), ((ma 6), .inl (d 0, 6, .inl mRA))]) (rest := [.int q2, .ref (ma 2)]) [.int 0, .int (mfl - 1)] hX cx hw hl.1 (tX12_figure l D d cs wi ln lf dk dn him ra sa ma rz q5.1 q5.2.1 q5.2.2.1 q5.2.2.2 TA 0 (mfl - 1)  e10 hcr8) (lw_V q590 q592 qs8 q104 q593) hd_X12_figure ⟨(Nat.le_of_ble_eq_true rfl), (Nat.le_of_ble_eq_true rfl)⟩ (va_recv hK hw.1 (ci := 11) (q0 := 9) rfl rfl) rfl rfl (Nat.le_of_ble_eq_true rfl) dX12_dish_41 [9, 10] [0, 1, 2, 3, 4, 5, 6, 7, 8] rfl rfl rfl rfl (by decide) ⟨(Nat.le_of_ble_eq_true rfl), (Nat.le_of_ble_eq_true rfl)⟩ (fun a7 ce u H locs hw g1 g2 g3 => ?_)
      have hw : Wd D A s [(lea, .inl (d 6, 10, .inr (.inr (.inr (.inr LF))))), (mla, .inr (3, [.int lm, .ref lea, .int lN])), oH ma mfl mro mrp mca mwy mla mmi mtf mtk, ((ma 1), .inl (d 0, 6, .inl mHO)), ((ma 2), .inl (d 0, 6, .inl mAT)), ((ma 3), .inl (d 0, 6, .inl mTO)), ((ma 4), .inl (d 0, 6, .inl mWE)), ((ma 5), .inl (d 0, 6, .inl mHE)), ((ma 6), .inl (d 0, 6, .inl mRA)), ((sa 2), .inl (d 1, 110, .inl TA)), (a7, .inr (13, [.null, .null, .null, .null, .null, .int 0, .int e10.1, .int e10.2]))] H locs := hw
      exact x_out cx hET hw () g1 g2 g3 [9, 10] rfl rfl (Nat.le_of_ble_eq_true rfl) (Nat.le_of_ble_eq_true rfl)
  · have hf : (some (.inr e6) : Option ((Int32 × Int32 × (Nat → Int32) × (Nat → Int32) × (Nat → Int32) × (Nat → Int32) × Int32 × Int32 × Int32 × Int32 × Nat × Int32) ⊕ (Int32 × Int32))) = some (.inr res) := hf
    have hf := Sum.inr.inj (sm_e hf)
    subst hf
    refine x_TV (wr := [(lea, .inl (d 6, 10, .inr (.inr (.inr (.inr LF))))), (mla, .inr (3, [.int lm, .ref lea, .int lN])), oH ma mfl mro mrp mca mwy mla mmi mtf mtk, ((ma 1), .inl (d 0, 6, .inl mHO)), ((ma 2), .inl (d 0, 6, .inl mAT)), ((ma 3), .inl (d 0, 6, .inl mTO)), ((ma 4), .inl (d 0, 6, .inl mWE)), ((ma 5), .inl (d 0, 6, .inl mHE)), ((ma 6), .inl (d 0, 6, .inl mRA))]) (rest := []) [.int q2, .int 6] hX cx hw hl.1 (tX12_begin l D d cs wi ln lf dk dn him ra sa ma rz rat rtk rfr rva TA q2 6  e6 hcr4) (lw_V q676 q678 qs13 q104 q679) hd_X12_begin ⟨(Nat.le_of_ble_eq_true rfl), (Nat.le_of_ble_eq_true rfl)⟩ (va_recv hK hw.1 (ci := 11) (q0 := 2) rfl rfl) rfl rfl (Nat.le_of_ble_eq_true rfl) dX12_dish_19 [2, 1] [0, 3, 4, 5, 6, 7, 8, 9, 10] rfl rfl rfl rfl (by decide) ⟨(Nat.le_of_ble_eq_true rfl), (Nat.le_of_ble_eq_true rfl)⟩ (fun a3 ce u H locs hw g1 g2 g3 => ?_)
    have hw : Wd D A s [(lea, .inl (d 6, 10, .inr (.inr (.inr (.inr LF))))), (mla, .inr (3, [.int lm, .ref lea, .int lN])), oH ma mfl mro mrp mca mwy mla mmi mtf mtk, ((ma 1), .inl (d 0, 6, .inl mHO)), ((ma 2), .inl (d 0, 6, .inl mAT)), ((ma 3), .inl (d 0, 6, .inl mTO)), ((ma 4), .inl (d 0, 6, .inl mWE)), ((ma 5), .inl (d 0, 6, .inl mHE)), ((ma 6), .inl (d 0, 6, .inl mRA)), ((sa 2), .inl (d 1, 110, .inl TA)), (a3, .inr (13, [.null, .null, .null, .null, .null, .int 0, .int e6.1, .int e6.2]))] H locs := hw
    exact x_out cx hET hw () g1 g2 g3 [9, 10] rfl rfl (Nat.le_of_ble_eq_true rfl) (Nat.le_of_ble_eq_true rfl)
