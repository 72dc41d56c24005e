set_option maxRecDepth 100000
set_option maxHeartbeats 4000000 in
theorem all_L0_ret {p : Program} {l : Launch} {e : Env} {s : State} {m : MethodId} {args : Array Value} {below : List Frame} {meth : Method} {c : Code} {D : va_G} {d : Nat → ClassId} {A : Nat → Prop} {cs : Nat → Nat} {wi : va_W} (ln : Nat → Option Int32) (lf : Nat → Nat → Option Nat) (dk : Nat → Option Nat) (dn : Nat → Int32) (him : ImF d wi ln lf dk dn) (hstr : StrF d cs wi) (hemp : EmpF d cs wi) (sa ma : Nat → Nat) (ra mla : Nat) (rz mfl mro mrp mca mwy mmi mtf : Int32) (mtk : Option Nat) (mHO mRA TA : Nat → Int32) (yr : YY) (cx : Cx p s m args meth c (XI D cs wi) D d A "DishLift$Reader" cX12_all 2 none "all") (mAT mTO mWE mHE : Nat → Int32) (rat rtk rfr rva lm : Int32) {H : Heap} {locs : List Loc} {ls : Array Slot} {cells slots : Nat} (hc0 : cells = 0) (hs0 : slots = 0) (hf : allL mfl mAT mTO mWE mHE rz rat rtk rfr rva lm TA = some (.inl yr)) (hw : Wd D A s ([(ra, .inr (11, [.ref (sa 2), .int rz, .int rat, .int rtk, .int rfr, .int rva, .ref (ma 0)])), ((sa 2), .inl (d 1, 110, .inl TA))] ++ [(mla, .inr (3, [.int lm, .ref (cs 0), .int 0])), oH ma mfl mro mrp mca mwy mla mmi mtf mtk, ((ma 1), .inl (d 0, 6, .inl mHO)), ((ma 2), .inl (d 0, 6, .inl mAT)), ((ma 3), .inl (d 0, 6, .inl mTO)), ((ma 4), .inl (d 0, 6, .inl mWE)), ((ma 5), .inl (d 0, 6, .inl mHE)), ((ma 6), .inl (d 0, 6, .inl mRA))]) H locs) (hl : lv_has ls 2 [(0, .ref ra)]) :
    W p l e { frames := 8, cells := 24, slots := 160, locals := 220 } s m args below meth c H locs cells slots (MQ below (va_Qv (fun (u : Nat × List Nat) => u.2.length = (yks yr).length ∧ ∀ k ∈ yks yr, k.1 < 5) (fun u t => posW D (wL d sa ma ra mla u.1 rz mfl mro mrp mca mwy mmi mtf mtk mHO mRA TA yr u.2) A t) A) args s 24 160 A) (F0 m 88 ls []) := by
  have cx' := cx
  obtain ⟨hx, hb, hr, hlk, hml, hown, hts, hK, hA, hXs, hnm⟩ := cx'
  have hX := XI.ok (D := D) (cs := cs) (wi := wi)
  subst hc0
  subst hs0
  unfold allL at hf
  have hw : Wd D A s ((ra, .inr (11, [.ref (sa 2), .int rz, .int rat, .int rtk, .int rfr, .int rva, .ref (ma 0)])) :: (((sa 2), .inl (d 1, 110, .inl TA)) :: [(mla, .inr (3, [.int lm, .ref (cs 0), .int 0])), oH ma mfl mro mrp mca mwy mla mmi mtf mtk, ((ma 1), .inl (d 0, 6, .inl mHO)), ((ma 2), .inl (d 0, 6, .inl mAT)), ((ma 3), .inl (d 0, 6, .inl mTO)), ((ma 4), .inl (d 0, 6, .inl mWE)), ((ma 5), .inl (d 0, 6, .inl mHE)), ((ma 6), .inl (d 0, 6, .inl mRA))])) H locs := hw
  refine lv_aload_n hx hb dX12_all_88 rfl (lv_at hl 0 rfl) ?_
  refine va_ldcS hx hb hown hXs.2.1.2.2.2.2.2 dX12_all_89 ?_
  obtain ⟨q1, hcq1, hf⟩ := op_e hf
  refine x_VI (wr := (((sa 2), .inl (d 1, 110, .inl TA)) :: [(mla, .inr (3, [.int lm, .ref (cs 0), .int 0])), oH ma mfl mro mrp mca mwy mla mmi mtf mtk, ((ma 1), .inl (d 0, 6, .inl mHO)), ((ma 2), .inl (d 0, 6, .inl mAT)), ((ma 3), .inl (d 0, 6, .inl mTO)), ((ma 4), .inl (d 0, 6, .inl mWE)), ((ma 5), .inl (d 0, 6, .inl mHE)), ((ma 6), .inl (d 0, 6, .inl mRA))])) (rest := []) [.ref (cs 1)] hX cx hw hl.1 (mX12_sortOf l D d cs wi ln lf dk dn him ra sa ma rz rat rtk rfr rva hstr q1 hcq1) (lw_V q603 q605 qs11 q104 q606) hd_X12_sortOf ⟨(Nat.le_of_ble_eq_true rfl), (Nat.le_of_ble_eq_true rfl)⟩ (va_recv hK hw.1 (ci := 11) (q0 := 0) rfl rfl) rfl rfl (Nat.le_of_ble_eq_true rfl) dX12_all_91 [0] (List.range' 1 ((((sa 2), .inl (d 1, 110, .inl TA)) :: [(mla, .inr (3, [.int lm, .ref (cs 0), .int 0])), oH ma mfl mro mrp mca mwy mla mmi mtf mtk, ((ma 1), .inl (d 0, 6, .inl mHO)), ((ma 2), .inl (d 0, 6, .inl mAT)), ((ma 3), .inl (d 0, 6, .inl mTO)), ((ma 4), .inl (d 0, 6, .inl mWE)), ((ma 5), .inl (d 0, 6, .inl mHE)), ((ma 6), .inl (d 0, 6, .inl mRA))]).length)) rfl rfl (rg_map [(ra, .inr (11, [.ref (sa 2), .int rz, .int rat, .int rtk, .int rfr, .int rva, .ref (ma 0)]))] (((sa 2), .inl (d 1, 110, .inl TA)) :: [(mla, .inr (3, [.int lm, .ref (cs 0), .int 0])), oH ma mfl mro mrp mca mwy mla mmi mtf mtk, ((ma 1), .inl (d 0, 6, .inl mHO)), ((ma 2), .inl (d 0, 6, .inl mAT)), ((ma 3), .inl (d 0, 6, .inl mTO)), ((ma 4), .inl (d 0, 6, .inl mWE)), ((ma 5), .inl (d 0, 6, .inl mHE)), ((ma 6), .inl (d 0, 6, .inl mRA))]) 1 rfl) (rg_nd _ _) (by intro i hi hj; exact rg_dis 1 _ i hi hj) ⟨by dsimp only; omega, by dsimp only; omega⟩ (fun r u H locs hp hw => ?_)
  subst r
  have hw : Wd D A s ((ra, .inr (11, [.ref (sa 2), .int rz, .int rat, .int rtk, .int rfr, .int rva, .ref (ma 0)])) :: (((sa 2), .inl (d 1, 110, .inl TA)) :: [(mla, .inr (3, [.int lm, .ref (cs 0), .int 0])), oH ma mfl mro mrp mca mwy mla mmi mtf mtk, ((ma 1), .inl (d 0, 6, .inl mHO)), ((ma 2), .inl (d 0, 6, .inl mAT)), ((ma 3), .inl (d 0, 6, .inl mTO)), ((ma 4), .inl (d 0, 6, .inl mWE)), ((ma 5), .inl (d 0, 6, .inl mHE)), ((ma 6), .inl (d 0, 6, .inl mRA))])) H locs := hw.perm List.perm_append_comm
  refine lv_ldc (v := (-1000000)) hx hb hown (hts _ q553) dX12_all_94 ?_
  refine lv_icmp_eq (tgt := 106) hx hb dX12_all_96 (by decide) (fun c96 => ?_) (fun c96 => ?_)
  · have hf := if_t hf c96
    cases hf
  · have hf := if_f hf c96
    refine lv_aload_n hx hb dX12_all_99 rfl (lv_at hl 0 rfl) ?_
    obtain ⟨r3, hcr3, hf⟩ := op_e hf
    have hw : Wd D A s ([(ra, .inr (11, [.ref (sa 2), .int rz, .int rat, .int rtk, .int rfr, .int rva, .ref (ma 0)])), ((sa 2), .inl (d 1, 110, .inl TA))] ++ [(mla, .inr (3, [.int lm, .ref (cs 0), .int 0])), oH ma mfl mro mrp mca mwy mla mmi mtf mtk, ((ma 1), .inl (d 0, 6, .inl mHO)), ((ma 2), .inl (d 0, 6, .inl mAT)), ((ma 3), .inl (d 0, 6, .inl mTO)), ((ma 4), .inl (d 0, 6, .inl mWE)), ((ma 5), .inl (d 0, 6, .inl mHE)), ((ma 6), .inl (d 0, 6, .inl mRA))]) H locs := hw
    have hw : Wd D A s ([(mla, .inr (3, [.int lm, .ref (cs 0), .int 0])), oH ma mfl mro mrp mca mwy mla mmi mtf mtk, ((ma 1), .inl (d 0, 6, .inl mHO)), ((ma 2), .inl (d 0, 6, .inl mAT)), ((ma 3), .inl (d 0, 6, .inl mTO)), ((ma 4), .inl (d 0, 6, .inl mWE)), ((ma 5), .inl (d 0, 6, .inl mHE)), ((ma 6), .inl (d 0, 6, .inl mRA))] ++ [(ra, .inr (11, [.ref (sa 2), .int rz, .int rat, .int rtk, .int rfr, .int rva, .ref (ma 0)])), ((sa 2), .inl (d 1, 110, .inl TA))]) H locs := hw.perm (List.perm_append_comm (l₁ := [(ra, .inr (11, [.ref (sa 2), .int rz, .int rat, .int rtk, .int rfr, .int rva, .ref (ma 0)])), ((sa 2), .inl (d 1, 110, .inl TA))]) (l₂ := [(mla, .inr (3, [.int lm, .ref (cs 0), .int 0])), oH ma mfl mro mrp mca mwy mla mmi mtf mtk, ((ma 1), .inl (d 0, 6, .inl mHO)), ((ma 2), .inl (d 0, 6, .inl mAT)), ((ma 3), .inl (d 0, 6, .inl mTO)), ((ma 4), .inl (d 0, 6, .inl mWE)), ((ma 5), .inl (d 0, 6, .inl mHE)), ((ma 6), .inl (d 0, 6, .inl mRA))]))
    rcases r3 with q4 | e5
    · obtain ⟨hN1, hk1⟩ := dish_0_of hcr3
      refine x_VV (wr := []) (rest := []) [] hX cx hw hl.1 (mX12_dish_0 l D d cs wi ln lf dk dn him ma ra mla sa mfl mro mrp mca mwy mmi mtf mtk mHO mAT mTO mWE mHE mRA rz rat rtk rfr rva lm TA hstr hemp q4 hcr3) (lw_V q658 q660 qs12 q104 q661) hd_X12_dish ⟨(Nat.le_of_ble_eq_true rfl), (Nat.le_of_ble_eq_true rfl)⟩ (va_recv hK hw.1 (ci := 11) (q0 := 8) rfl rfl) rfl rfl (Nat.le_of_ble_eq_true rfl) dX12_all_100 (List.range 10) [] (by decide) rfl rfl rfl (by decide) ⟨(Nat.le_of_ble_eq_true rfl), (Nat.le_of_ble_eq_true rfl)⟩ (fun a8 H locs hp hw => ?_)
      rw [hN1, va_up_get1] at hw
      have hw : Wd D A s [(mla, .inr (3, [.int q4.1, .ref a8.2, .int 1])), oH ma mfl mro mrp mca mwy mla mmi mtf mtk, ((ma 1), .inl (d 0, 6, .inl mHO)), ((ma 2), .inl (d 0, 6, .inl q4.2.2.1)), ((ma 3), .inl (d 0, 6, .inl q4.2.2.2.1)), ((ma 4), .inl (d 0, 6, .inl q4.2.2.2.2.1)), ((ma 5), .inl (d 0, 6, .inl q4.2.2.2.2.2.1)), ((ma 6), .inl (d 0, 6, .inl mRA)), (ra, .inr (11, [.ref (sa 2), .int rz, .int q4.2.2.2.2.2.2.1, .int q4.2.2.2.2.2.2.2.1, .int q4.2.2.2.2.2.2.2.2.1, .int q4.2.2.2.2.2.2.2.2.2.1, .ref (ma 0)])), ((sa 2), .inl (d 1, 110, .inl TA)), (a8.1, .inr (5 + q4.2.2.2.2.2.2.2.2.2.2.1, [.int q4.2.2.2.2.2.2.2.2.2.2.2])), (a8.2, .inl (d 6, 10, .inr (.inr (.inr (.inr (fun j => [a8.1][j]?))))))] H locs := hw
      have hw : Wd D A s (wL d sa ma ra mla a8.2 rz mfl mro mrp mca mwy mmi mtf mtk mHO mRA TA (yn q4 []) [a8.1]) H locs := hw.sub [8, 9, 0, 11, 1, 2, 3, 4, 5, 6, 7, 10] rfl rfl
      refine W.eq (g2 := F0 m 103 ls []) rfl ?_
      refine lv_goto (tgt := 88) hx hb dX12_all_103 (by decide) ?_
      exact all_loop_ret ln lf dk dn him hstr hemp sa ma ra mla rz mfl mro mrp mca mwy mmi mtf mtk mHO mRA TA yr cx 8 (yn q4 []) a8.2 [a8.1] H locs ls _ _ rfl (fun k hk => by rcases List.mem_singleton.mp hk with rfl; exact hk1) (by decide) (by decide) hf hw hl
    · cases hf
set_option maxHeartbeats 4000000 in
theorem all_L0_thr {p : Program} {l : Launch} {e : Env} {s : State} {m : MethodId} {args : Array Value} {below : List Frame} {meth : Method} {c : Code} {D : va_G} {d : Nat → ClassId} {A : Nat → Prop} {cs : Nat → Nat} {wi : va_W} (ln : Nat → Option Int32) (lf : Nat → Nat → Option Nat) (dk : Nat → Option Nat) (dn : Nat → Int32) (him : ImF d wi ln lf dk dn) (hstr : StrF d cs wi) (hemp : EmpF d cs wi) (sa ma : Nat → Nat) (ra mla : Nat) (rz mfl mro mrp mca mwy mmi mtf : Int32) (mtk : Option Nat) (mHO mRA TA : Nat → Int32) (er : Int32 × Int32) (cx : Cx p s m args meth c (XI D cs wi) D d A "DishLift$Reader" cX12_all 2 none "all") (hET : ∀ x ∈ c.exceptionTable.toList, False) (mAT mTO mWE mHE : Nat → Int32) (rat rtk rfr rva lm : Int32) {H : Heap} {locs : List Loc} {ls : Array Slot} {cells slots : Nat} (hc0 : cells = 0) (hs0 : slots = 0) (hf : allL mfl mAT mTO mWE mHE rz rat rtk rfr rva lm TA = some (.inr er)) (hw : Wd D A s ([(ra, .inr (11, [.ref (sa 2), .int rz, .int rat, .int rtk, .int rfr, .int rva, .ref (ma 0)])), ((sa 2), .inl (d 1, 110, .inl TA))] ++ [(mla, .inr (3, [.int lm, .ref (cs 0), .int 0])), oH ma mfl mro mrp mca mwy mla mmi mtf mtk, ((ma 1), .inl (d 0, 6, .inl mHO)), ((ma 2), .inl (d 0, 6, .inl mAT)), ((ma 3), .inl (d 0, 6, .inl mTO)), ((ma 4), .inl (d 0, 6, .inl mWE)), ((ma 5), .inl (d 0, 6, .inl mHE)), ((ma 6), .inl (d 0, 6, .inl mRA))]) H locs) (hl : lv_has ls 2 [(0, .ref ra)]) :
    W p l e { frames := 8, cells := 24, slots := 160, locals := 220 } s m args below meth c H locs cells slots (vx_MQ below (va_Qv (fun (_ : Unit) => False) (fun _ _ => True) A) (vx_X (fun _ : Unit => True) (fun E q u t => E = "DishLift$Fault" ∧ posW D ((fun q9 (_ : Unit) => [((sa 2), .inl (d 1, 110, .inl TA)), (q9, .inr (13, [.null, .null, .null, .null, .null, .int 0, .int er.1, .int er.2]))]) q u) A t) A) args s 24 160 A) (F0 m 88 ls []) := by
  have cx' := cx
  obtain ⟨hx, hb, hr, hlk, hml, hown, hts, hK, hA, hXs, hnm⟩ := cx'
  have hX := XI.ok (D := D) (cs := cs) (wi := wi)
  subst hc0
  subst hs0
  unfold allL at hf
  have hw : Wd D A s ((ra, .inr (11, [.ref (sa 2), .int rz, .int rat, .int rtk, .int rfr, .int rva, .ref (ma 0)])) :: (((sa 2), .inl (d 1, 110, .inl TA)) :: [(mla, .inr (3, [.int lm, .ref (cs 0), .int 0])), oH ma mfl mro mrp mca mwy mla mmi mtf mtk, ((ma 1), .inl (d 0, 6, .inl mHO)), ((ma 2), .inl (d 0, 6, .inl mAT)), ((ma 3), .inl (d 0, 6, .inl mTO)), ((ma 4), .inl (d 0, 6, .inl mWE)), ((ma 5), .inl (d 0, 6, .inl mHE)), ((ma 6), .inl (d 0, 6, .inl mRA))])) H locs := hw
  refine lv_aload_n hx hb dX12_all_88 rfl (lv_at hl 0 rfl) ?_
  refine va_ldcS hx hb hown hXs.2.1.2.2.2.2.2 dX12_all_89 ?_
  obtain ⟨q1, hcq1, hf⟩ := op_e hf
  refine x_VI (wr := (((sa 2), .inl (d 1, 110, .inl TA)) :: [(mla, .inr (3, [.int lm, .ref (cs 0), .int 0])), oH ma mfl mro mrp mca mwy mla mmi mtf mtk, ((ma 1), .inl (d 0, 6, .inl mHO)), ((ma 2), .inl (d 0, 6, .inl mAT)), ((ma 3), .inl (d 0, 6, .inl mTO)), ((ma 4), .inl (d 0, 6, .inl mWE)), ((ma 5), .inl (d 0, 6, .inl mHE)), ((ma 6), .inl (d 0, 6, .inl mRA))])) (rest := []) [.ref (cs 1)] hX cx hw hl.1 (mX12_sortOf l D d cs wi ln lf dk dn him ra sa ma rz rat rtk rfr rva hstr q1 hcq1) (lw_V q603 q605 qs11 q104 q606) hd_X12_sortOf ⟨(Nat.le_of_ble_eq_true rfl), (Nat.le_of_ble_eq_true rfl)⟩ (va_recv hK hw.1 (ci := 11) (q0 := 0) rfl rfl) rfl rfl (Nat.le_of_ble_eq_true rfl) dX12_all_91 [0] (List.range' 1 ((((sa 2), .inl (d 1, 110, .inl TA)) :: [(mla, .inr (3, [.int lm, .ref (cs 0), .int 0])), oH ma mfl mro mrp mca mwy mla mmi mtf mtk, ((ma 1), .inl (d 0, 6, .inl mHO)), ((ma 2), .inl (d 0, 6, .inl mAT)), ((ma 3), .inl (d 0, 6, .inl mTO)), ((ma 4), .inl (d 0, 6, .inl mWE)), ((ma 5), .inl (d 0, 6, .inl mHE)), ((ma 6), .inl (d 0, 6, .inl mRA))]).length)) rfl rfl (rg_map [(ra, .inr (11, [.ref (sa 2), .int rz, .int rat, .int rtk, .int rfr, .int rva, .ref (ma 0)]))] (((sa 2), .inl (d 1, 110, .inl TA)) :: [(mla, .inr (3, [.int lm, .ref (cs 0), .int 0])), oH ma mfl mro mrp mca mwy mla mmi mtf mtk, ((ma 1), .inl (d 0, 6, .inl mHO)), ((ma 2), .inl (d 0, 6, .inl mAT)), ((ma 3), .inl (d 0, 6, .inl mTO)), ((ma 4), .inl (d 0, 6, .inl mWE)), ((ma 5), .inl (d 0, 6, .inl mHE)), ((ma 6), .inl (d 0, 6, .inl mRA))]) 1 rfl) (rg_nd _ _) (by intro i hi hj; exact rg_dis 1 _ i hi hj) ⟨by dsimp only; omega, by dsimp only; omega⟩ (fun r u H locs hp hw => ?_)
  subst r
  have hw : Wd D A s ((ra, .inr (11, [.ref (sa 2), .int rz, .int rat, .int rtk, .int rfr, .int rva, .ref (ma 0)])) :: (((sa 2), .inl (d 1, 110, .inl TA)) :: [(mla, .inr (3, [.int lm, .ref (cs 0), .int 0])), oH ma mfl mro mrp mca mwy mla mmi mtf mtk, ((ma 1), .inl (d 0, 6, .inl mHO)), ((ma 2), .inl (d 0, 6, .inl mAT)), ((ma 3), .inl (d 0, 6, .inl mTO)), ((ma 4), .inl (d 0, 6, .inl mWE)), ((ma 5), .inl (d 0, 6, .inl mHE)), ((ma 6), .inl (d 0, 6, .inl mRA))])) H locs := hw.perm List.perm_append_comm
  refine lv_ldc (v := (-1000000)) hx hb hown (hts _ q553) dX12_all_94 ?_
  refine lv_icmp_eq (tgt := 106) hx hb dX12_all_96 (by decide) (fun c96 => ?_) (fun c96 => ?_)
  · have hf := if_t hf c96
    cases hf
  · have hf := if_f hf c96
    refine lv_aload_n hx hb dX12_all_99 rfl (lv_at hl 0 rfl) ?_
    obtain ⟨r3, hcr3, hf⟩ := op_e hf
    have hw : Wd D A s ([(ra, .inr (11, [.ref (sa 2), .int rz, .int rat, .int rtk, .int rfr, .int rva, .ref (ma 0)])), ((sa 2), .inl (d 1, 110, .inl TA))] ++ [(mla, .inr (3, [.int lm, .ref (cs 0), .int 0])), oH ma mfl mro mrp mca mwy mla mmi mtf mtk, ((ma 1), .inl (d 0, 6, .inl mHO)), ((ma 2), .inl (d 0, 6, .inl mAT)), ((ma 3), .inl (d 0, 6, .inl mTO)), ((ma 4), .inl (d 0, 6, .inl mWE)), ((ma 5), .inl (d 0, 6, .inl mHE)), ((ma 6), .inl (d 0, 6, .inl mRA))]) H locs := hw
    have hw : Wd D A s ([(mla, .inr (3, [.int lm, .ref (cs 0), .int 0])), oH ma mfl mro mrp mca mwy mla mmi mtf mtk, ((ma 1), .inl (d 0, 6, .inl mHO)), ((ma 2), .inl (d 0, 6, .inl mAT)), ((ma 3), .inl (d 0, 6, .inl mTO)), ((ma 4), .inl (d 0, 6, .inl mWE)), ((ma 5), .inl (d 0, 6, .inl mHE)), ((ma 6), .inl (d 0, 6, .inl mRA))] ++ [(ra, .inr (11, [.ref (sa 2), .int rz, .int rat, .int rtk, .int rfr, .int rva, .ref (ma 0)])), ((sa 2), .inl (d 1, 110, .inl TA))]) H locs := hw.perm (List.perm_append_comm (l₁ := [(ra, .inr (11, [.ref (sa 2), .int rz, .int rat, .int rtk, .int rfr, .int rva, .ref (ma 0)])), ((sa 2), .inl (d 1, 110, .inl TA))]) (l₂ := [(mla, .inr (3, [.int lm, .ref (cs 0), .int 0])), oH ma mfl mro mrp mca mwy mla mmi mtf mtk, ((ma 1), .inl (d 0, 6, .inl mHO)), ((ma 2), .inl (d 0, 6, .inl mAT)), ((ma 3), .inl (d 0, 6, .inl mTO)), ((ma 4), .inl (d 0, 6, .inl mWE)), ((ma 5), .inl (d 0, 6, .inl mHE)), ((ma 6), .inl (d 0, 6, .inl mRA))]))
    rcases r3 with q4 | e5
    · obtain ⟨hN1, hk1⟩ := dish_0_of hcr3
      refine x_VV (wr := []) (rest := []) [] hX cx hw hl.1 (mX12_dish_0 l D d cs wi ln lf dk dn him ma ra mla sa mfl mro mrp mca mwy mmi mtf mtk mHO mAT mTO mWE mHE mRA rz rat rtk rfr rva lm TA hstr hemp q4 hcr3) (lw_V q658 q660 qs12 q104 q661) hd_X12_dish ⟨(Nat.le_of_ble_eq_true rfl), (Nat.le_of_ble_eq_true rfl)⟩ (va_recv hK hw.1 (ci := 11) (q0 := 8) rfl rfl) rfl rfl (Nat.le_of_ble_eq_true rfl) dX12_all_100 (List.range 10) [] (by decide) rfl rfl rfl (by decide) ⟨(Nat.le_of_ble_eq_true rfl), (Nat.le_of_ble_eq_true rfl)⟩ (fun a8 H locs hp hw => ?_)
      rw [hN1, va_up_get1] at hw
      have hw : Wd D A s [(mla, .inr (3, [.int q4.1, .ref a8.2, .int 1])), oH ma mfl mro mrp mca mwy mla mmi mtf mtk, ((ma 1), .inl (d 0, 6, .inl mHO)), ((ma 2), .inl (d 0, 6, .inl q4.2.2.1)), ((ma 3), .inl (d 0, 6, .inl q4.2.2.2.1)), ((ma 4), .inl (d 0, 6, .inl q4.2.2.2.2.1)), ((ma 5), .inl (d 0, 6, .inl q4.2.2.2.2.2.1)), ((ma 6), .inl (d 0, 6, .inl mRA)), (ra, .inr (11, [.ref (sa 2), .int rz, .int q4.2.2.2.2.2.2.1, .int q4.2.2.2.2.2.2.2.1, .int q4.2.2.2.2.2.2.2.2.1, .int q4.2.2.2.2.2.2.2.2.2.1, .ref (ma 0)])), ((sa 2), .inl (d 1, 110, .inl TA)), (a8.1, .inr (5 + q4.2.2.2.2.2.2.2.2.2.2.1, [.int q4.2.2.2.2.2.2.2.2.2.2.2])), (a8.2, .inl (d 6, 10, .inr (.inr (.inr (.inr (fun j => [a8.1][j]?))))))] H locs := hw
      have hw : Wd D A s (wL d sa ma ra mla a8.2 rz mfl mro mrp mca mwy mmi mtf mtk mHO mRA TA (yn q4 []) [a8.1]) H locs := hw.sub [8, 9, 0, 11, 1, 2, 3, 4, 5, 6, 7, 10] rfl rfl
      refine W.eq (g2 := F0 m 103 ls []) rfl ?_
      refine lv_goto (tgt := 88) hx hb dX12_all_103 (by decide) ?_
      exact all_loop_thr ln lf dk dn him hstr hemp sa ma ra mla rz mfl mro mrp mca mwy mmi mtf mtk mHO mRA TA er cx hET 8 (yn q4 []) a8.2 [a8.1] H locs ls _ _ rfl (fun k hk => by rcases List.mem_singleton.mp hk with rfl; exact hk1) (by decide) (by decide) hf hw hl
    · have hf := Sum.inr.inj (sm_e hf)
      subst hf
      refine x_TV (wr := []) (rest := []) [] hX cx hw hl.1 (tX12_dish_0 l D d cs wi ln lf dk dn him ma ra mla sa mfl mro mrp mca mwy mmi mtf mtk mHO mAT mTO mWE mHE mRA rz rat rtk rfr rva lm TA hstr hemp e5 hcr3) (lw_V q658 q660 qs12 q104 q661) hd_X12_dish ⟨(Nat.le_of_ble_eq_true rfl), (Nat.le_of_ble_eq_true rfl)⟩ (va_recv hK hw.1 (ci := 11) (q0 := 8) rfl rfl) rfl rfl (Nat.le_of_ble_eq_true rfl) dX12_all_100 (List.range 10) [] (by decide) rfl rfl rfl (by decide) ⟨(Nat.le_of_ble_eq_true rfl), (Nat.le_of_ble_eq_true rfl)⟩ (fun a8 ce u H locs hw g1 g2 g3 => ?_)
      have hw : Wd D A s [((sa 2), .inl (d 1, 110, .inl TA)), (a8, .inr (13, [.null, .null, .null, .null, .null, .int 0, .int e5.1, .int e5.2]))] H locs := hw
      exact x_out cx hET hw () g1 g2 g3 [0, 1] rfl rfl (Nat.le_of_ble_eq_true rfl) (Nat.le_of_ble_eq_true rfl)
def fX12_all (rz : Int32) (rat : Int32) (lm : Int32) (mAT : Nat → Int32) (mTO : Nat → Int32) (mWE : Nat → Int32) (mHE : Nat → Int32) (TA : Nat → Int32) : Option ((Int32 × Int32 × Int32 × YY) ⊕ (Int32 × Int32)) :=
  (fX12_next rz rat TA).bind fun q1 =>
  (fX12_isLetter q1.2.1 q1.2.2.2 100).bind fun q2 =>
  (fX12_must q1.2.2.1 q2 1).bind fun r4 =>
  match r4 with
  | .inr e6 => some (.inr e6)
  | .inl q5 =>
    (fX12_next rz q1.1 TA).bind fun q7 =>
    (fX12_figure rz q7.1 q7.2.1 q7.2.2.1 q7.2.2.2 TA 2 9).bind fun r9 =>
    match r9 with
    | .inr e11 => some (.inr e11)
    | .inl q10 =>
      (fX12_more rz q10.2.1 q10.2.2.1 q10.2.2.2.1 TA 1 4).bind fun r13 =>
      match r13 with
      | .inr e15 => some (.inr e15)
      | .inl q14 =>
        (fX12_more rz q14.2.1 q14.2.2.1 q14.2.2.2.1 TA 1 40).bind fun r17 =>
        match r17 with
        | .inr e19 => some (.inr e19)
        | .inl q18 =>
          (fX12_sign rz q18.2.1 q18.2.2.1 q18.2.2.2.1 TA 4).bind fun r21 =>
          match r21 with
          | .inr e23 => some (.inr e23)
          | .inl q22 =>
            (fX12_sortOf q22.2.1 q22.2.2.2).bind fun q24 =>
            (if q24 = (-1000000) then
              some 0
            else
              some 1 : Option (Int32)).bind fun j25 =>
            (fX12_must q22.2.2.1 j25 1).bind fun r27 =>
            match r27 with
            | .inr e29 => some (.inr e29)
            | .inl q28 =>
              (allL q10.1 mAT mTO mWE mHE rz q22.1 q22.2.1 q22.2.2.1 q22.2.2.2 lm TA).bind fun r88 =>
              match r88 with
              | .inr e88 => some (.inr e88)
              | .inl y88 => some (.inl (q10.1, q14.1, q18.1, y88))
theorem hd_X12_all : yX12_all.cls = "DishLift$Reader" ∧ yX12_all.cls ≠ "java/lang/invoke/MethodHandle" ∧ yX12_all.cls ≠ "java/lang/invoke/VarHandle" ∧ (parseMethodDescriptor yX12_all.desc).map (fun d => d.parameters.length) = some 0 := by decide +kernel
set_option maxHeartbeats 4000000 in
theorem mX12_all (l : Launch) (D : va_G) (d : Nat → ClassId) (cs : Nat → Nat) (wi : va_W) (ln : Nat → Option Int32) (lf : Nat → Nat → Option Nat) (dk : Nat → Option Nat) (dn : Nat → Int32) (him : ImF d wi ln lf dk dn) (hstr : StrF d cs wi) (hemp : EmpF d cs wi) (sa ma : Nat → Nat) (ra mla : Nat) (rz mfl mro mrp mca mwy mmi mtf : Int32) (mtk : Option Nat) (mHO mRA TA : Nat → Int32) (mAT mTO mWE mHE : Nat → Int32) (rat rtk rfr rva lm : Int32) (res : Int32 × Int32 × Int32 × YY) (hf : fX12_all rz rat lm mAT mTO mWE mHE TA = some (.inl res)) : MetV l yX12_all (ws_ yX12_all cX12_all 2 none) { frames := 8, cells := 24, slots := 160, locals := 220 } [.ref ra] (XI D cs wi) D d [(ra, .inr (11, [.ref (sa 2), .int rz, .int rat, .int rtk, .int rfr, .int rva, .ref (ma 0)])), ((sa 2), .inl (d 1, 110, .inl TA)), (mla, .inr (3, [.int lm, .ref (cs 0), .int 0])), oH ma mfl mro mrp mca mwy mla mmi mtf mtk, ((ma 1), .inl (d 0, 6, .inl mHO)), ((ma 2), .inl (d 0, 6, .inl mAT)), ((ma 3), .inl (d 0, 6, .inl mTO)), ((ma 4), .inl (d 0, 6, .inl mWE)), ((ma 5), .inl (d 0, 6, .inl mHE)), ((ma 6), .inl (d 0, 6, .inl mRA))] (fun (u : Nat × List Nat) => u.2.length = (yks res.2.2.2).length ∧ ∀ k ∈ yks res.2.2.2, k.1 < 5) (fun u => wL d sa ma ra mla u.1 rz res.1 res.2.1 res.2.2.1 mca mwy mmi mtf mtk mHO mRA TA res.2.2.2 u.2) := by
  have hX := XI.ok (D := D) (cs := cs) (wi := wi)
  refine MetV.of (by decide +kernel) (Nat.le_of_ble_eq_true rfl) ?_
  intro p e s m below meth c A cx hw ls hl
  have cx : Cx p s m _ meth c (XI D cs wi) D d A "DishLift$Reader" cX12_all 2 none "all" := cx
  have cx' := cx
  obtain ⟨hx, hb, hr, hlk, hml, hown, hts, hK, hA, hXs, hnm⟩ := cx'
  have hl : lv_has ls 2 [(0, .ref ra)] := hl
  generalize hlo : ([] : List Loc) = locs at hw ⊢
  unfold fX12_all at hf
  refine lv_aload_n hx hb dX12_all_0 rfl (lv_at hl 0 rfl) ?_
  obtain ⟨q1, hcq1, hf⟩ := op_e hf
  refine x_VV (wr := [(mla, .inr (3, [.int lm, .ref (cs 0), .int 0])), oH ma mfl mro mrp mca mwy mla mmi mtf mtk, ((ma 1), .inl (d 0, 6, .inl mHO)), ((ma 2), .inl (d 0, 6, .inl mAT)), ((ma 3), .inl (d 0, 6, .inl mTO)), ((ma 4), .inl (d 0, 6, .inl mWE)), ((ma 5), .inl (d 0, 6, .inl mHE)), ((ma 6), .inl (d 0, 6, .inl mRA))]) (rest := []) [] hX cx hw hl.1 (mX12_next l  D d cs wi ln lf dk dn him ra sa ma rz rat rtk rfr rva TA  q1 hcq1) (lw_V q545 q547 qs4 q104 q548) hd_X12_next ⟨(Nat.le_of_ble_eq_true rfl), (Nat.le_of_ble_eq_true rfl)⟩ (va_recv hK hw.1 (ci := 11) (q0 := 0) rfl rfl) rfl rfl (Nat.le_of_ble_eq_true rfl) dX12_all_1 [0, 1] [2, 3, 4, 5, 6, 7, 8, 9] rfl rfl rfl rfl (by decide) ⟨(Nat.le_of_ble_eq_true rfl), (Nat.le_of_ble_eq_true rfl)⟩ (fun u H locs hp hw => ?_)
  have hw : Wd D A s [(mla, .inr (3, [.int lm, .ref (cs 0), .int 0])), oH ma mfl mro mrp mca mwy mla mmi mtf mtk, ((ma 1), .inl (d 0, 6, .inl mHO)), ((ma 2), .inl (d 0, 6, .inl mAT)), ((ma 3), .inl (d 0, 6, .inl mTO)), ((ma 4), .inl (d 0, 6, .inl mWE)), ((ma 5), .inl (d 0, 6, .inl mHE)), ((ma 6), .inl (d 0, 6, .inl mRA)), (ra, .inr (11, [.ref (sa 2), .int rz, .int q1.1, .int q1.2.1, .int q1.2.2.1, .int q1.2.2.2, .ref (ma 0)])), ((sa 2), .inl (d 1, 110, .inl TA))] H locs := hw
  refine lv_aload_n hx hb dX12_all_4 rfl (lv_at hl 0 rfl) ?_
  refine lv_aload_n hx hb dX12_all_5 rfl (lv_at hl 0 rfl) ?_
  refine lv_bipush (v := 100) hx hb dX12_all_6 (by decide) ?_
  obtain ⟨q2, hcq2, hf⟩ := op_e hf
  refine x_VI (wr := [(mla, .inr (3, [.int lm, .ref (cs 0), .int 0])), oH ma mfl mro mrp mca mwy mla mmi mtf mtk, ((ma 1), .inl (d 0, 6, .inl mHO)), ((ma 2), .inl (d 0, 6, .inl mAT)), ((ma 3), .inl (d 0, 6, .inl mTO)), ((ma 4), .inl (d 0, 6, .inl mWE)), ((ma 5), .inl (d 0, 6, .inl mHE)), ((ma 6), .inl (d 0, 6, .inl mRA)), ((sa 2), .inl (d 1, 110, .inl TA))]) (rest := [.ref ra]) [.int 100] hX cx hw hl.1 (mX12_isLetter l  D d cs wi ln lf dk dn him ra sa ma rz q1.1 q1.2.1 q1.2.2.1 q1.2.2.2 100  q2 hcq2) (lw_V q559 q561 qs6 q104 q562) hd_X12_isLetter ⟨(Nat.le_of_ble_eq_true rfl), (Nat.le_of_ble_eq_true rfl)⟩ (va_recv hK hw.1 (ci := 11) (q0 := 8) rfl rfl) rfl rfl (Nat.le_of_ble_eq_true rfl) dX12_all_8 [8] [0, 1, 2, 3, 4, 5, 6, 7, 9] rfl rfl rfl rfl (by decide) ⟨(Nat.le_of_ble_eq_true rfl), (Nat.le_of_ble_eq_true rfl)⟩ (fun r u H locs hp hw => ?_)
  have hw : Wd D A s [(mla, .inr (3, [.int lm, .ref (cs 0), .int 0])), oH ma mfl mro mrp mca mwy mla mmi mtf mtk, ((ma 1), .inl (d 0, 6, .inl mHO)), ((ma 2), .inl (d 0, 6, .inl mAT)), ((ma 3), .inl (d 0, 6, .inl mTO)), ((ma 4), .inl (d 0, 6, .inl mWE)), ((ma 5), .inl (d 0, 6, .inl mHE)), ((ma 6), .inl (d 0, 6, .inl mRA)), ((sa 2), .inl (d 1, 110, .inl TA)), (ra, .inr (11, [.ref (sa 2), .int rz, .int q1.1, .int q1.2.1, .int q1.2.2.1, .int q1.2.2.2, .ref (ma 0)]))] H locs := hw
  subst r
  refine lv_iconst (v := 1) hx hb dX12_all_11 (by decide) ?_
  obtain ⟨r4, hcr4, hf⟩ := op_e hf
  rcases r4 with q5 | e6
  · refine x_VV (wr := [(mla, .inr (3, [.int lm, .ref (cs 0), .int 0])), oH ma mfl mro mrp mca mwy mla mmi mtf mtk, ((ma 1), .inl (d 0, 6, .inl mHO)), ((ma 2), .inl (d 0, 6, .inl mAT)), ((ma 3), .inl (d 0, 6, .inl mTO)), ((ma 4), .inl (d 0, 6, .inl mWE)), ((ma 5), .inl (d 0, 6, .inl mHE)), ((ma 6), .inl (d 0, 6, .inl mRA)), ((sa 2), .inl (d 1, 110, .inl TA))]) (rest := []) [.int q2, .int 1] hX cx hw hl.1 (mX12_must l D d cs wi ln lf dk dn him ra sa ma rz q1.1 q1.2.1 q1.2.2.1 q1.2.2.2 q2 1  q5 hcr4) (lw_V q563 q565 qs7 q104 q566) hd_X12_must ⟨(Nat.le_of_ble_eq_true rfl), (Nat.le_of_ble_eq_true rfl)⟩ (va_recv hK hw.1 (ci := 11) (q0 := 9) rfl rfl) rfl rfl (Nat.le_of_ble_eq_true rfl) dX12_all_12 [9] [0, 1, 2, 3, 4, 5, 6, 7, 8] rfl rfl rfl rfl (by decide) ⟨(Nat.le_of_ble_eq_true rfl), (Nat.le_of_ble_eq_true rfl)⟩ (fun u H locs hp hw => ?_)
    have hw : Wd D A s [(mla, .inr (3, [.int lm, .ref (cs 0), .int 0])), oH ma mfl mro mrp mca mwy mla mmi mtf mtk, ((ma 1), .inl (d 0, 6, .inl mHO)), ((ma 2), .inl (d 0, 6, .inl mAT)), ((ma 3), .inl (d 0, 6, .inl mTO)), ((ma 4), .inl (d 0, 6, .inl mWE)), ((ma 5), .inl (d 0, 6, .inl mHE)), ((ma 6), .inl (d 0, 6, .inl mRA)), ((sa 2), .inl (d 1, 110, .inl TA)), (ra, .inr (11, [.ref (sa 2), .int rz, .int q1.1, .int q1.2.1, .int q1.2.2.1, .int q1.2.2.2, .ref (ma 0)]))] H locs := hw
    refine lv_aload_n hx hb dX12_all_15 rfl (lv_at hl 0 rfl) ?_
    obtain ⟨q7, hcq7, hf⟩ := op_e hf
    refine x_VV (wr := [(mla, .inr (3, [.int lm, .ref (cs 0), .int 0])), oH ma mfl mro mrp mca mwy mla mmi mtf mtk, ((ma 1), .inl (d 0, 6, .inl mHO)), ((ma 2), .inl (d 0, 6, .inl mAT)), ((ma 3), .inl (d 0, 6, .inl mTO)), ((ma 4), .inl (d 0, 6, .inl mWE)), ((ma 5), .inl (d 0, 6, .inl mHE)), ((ma 6), .inl (d 0, 6, .inl mRA))]) (rest := []) [] hX cx hw hl.1 (mX12_next l  D d cs wi ln lf dk dn him ra sa ma rz q1.1 q1.2.1 q1.2.2.1 q1.2.2.2 TA  q7 hcq7) (lw_V q545 q547 qs4 q104 q548) hd_X12_next ⟨(Nat.le_of_ble_eq_true rfl), (Nat.le_of_ble_eq_true rfl)⟩ (va_recv hK hw.1 (ci := 11) (q0 := 9) rfl rfl) rfl rfl (Nat.le_of_ble_eq_true rfl) dX12_all_16 [9, 8] [0, 1, 2, 3, 4, 5, 6, 7] rfl rfl rfl rfl (by decide) ⟨(Nat.le_of_ble_eq_true rfl), (Nat.le_of_ble_eq_true rfl)⟩ (fun u H locs hp hw => ?_)
    have hw : Wd D A s [(mla, .inr (3, [.int lm, .ref (cs 0), .int 0])), oH ma mfl mro mrp mca mwy mla mmi mtf mtk, ((ma 1), .inl (d 0, 6, .inl mHO)), ((ma 2), .inl (d 0, 6, .inl mAT)), ((ma 3), .inl (d 0, 6, .inl mTO)), ((ma 4), .inl (d 0, 6, .inl mWE)), ((ma 5), .inl (d 0, 6, .inl mHE)), ((ma 6), .inl (d 0, 6, .inl mRA)), (ra, .inr (11, [.ref (sa 2), .int rz, .int q7.1, .int q7.2.1, .int q7.2.2.1, .int q7.2.2.2, .ref (ma 0)])), ((sa 2), .inl (d 1, 110, .inl TA))] H locs := hw
    refine lv_aload_n hx hb dX12_all_19 rfl (lv_at hl 0 rfl) ?_
    refine lv_iconst (v := 2) hx hb dX12_all_20 (by decide) ?_
    refine lv_bipush (v := 9) hx hb dX12_all_21 (by decide) ?_
    obtain ⟨r9, hcr9, hf⟩ := op_e hf
    rcases r9 with q10 | e11
    · refine x_VI (wr := [(mla, .inr (3, [.int lm, .ref (cs 0), .int 0])), oH ma mfl mro mrp mca mwy mla mmi mtf mtk, ((ma 1), .inl (d 0, 6, .inl mHO)), ((ma 2), .inl (d 0, 6, .inl mAT)), ((ma 3), .inl (d 0, 6, .inl mTO)), ((ma 4), .inl (d 0, 6, .inl mWE)), ((ma 5), .inl (d 0, 6, .inl mHE)), ((ma 6), .inl (d 0, 6, .inl mRA))]) (rest := []) [.int 2, .int 9] hX cx hw hl.1 (mX12_figure l D d cs wi ln lf dk dn him ra sa ma rz q7.1 q7.2.1 q7.2.2.1 q7.2.2.2 TA 2 9  q10 hcr9) (lw_V q590 q592 qs8 q104 q593) hd_X12_figure ⟨(Nat.le_of_ble_eq_true rfl), (Nat.le_of_ble_eq_true rfl)⟩ (va_recv hK hw.1 (ci := 11) (q0 := 8) rfl rfl) rfl rfl (Nat.le_of_ble_eq_true rfl) dX12_all_23 [8, 9] [0, 1, 2, 3, 4, 5, 6, 7] rfl rfl rfl rfl (by decide) ⟨(Nat.le_of_ble_eq_true rfl), (Nat.le_of_ble_eq_true rfl)⟩ (fun r u H locs hp hw => ?_)
      have hw : Wd D A s [(mla, .inr (3, [.int lm, .ref (cs 0), .int 0])), oH ma mfl mro mrp mca mwy mla mmi mtf mtk, ((ma 1), .inl (d 0, 6, .inl mHO)), ((ma 2), .inl (d 0, 6, .inl mAT)), ((ma 3), .inl (d 0, 6, .inl mTO)), ((ma 4), .inl (d 0, 6, .inl mWE)), ((ma 5), .inl (d 0, 6, .inl mHE)), ((ma 6), .inl (d 0, 6, .inl mRA)), (ra, .inr (11, [.ref (sa 2), .int rz, .int q10.2.1, .int q10.2.2.1, .int q10.2.2.2.1, .int q10.2.2.2.2, .ref (ma 0)])), ((sa 2), .inl (d 1, 110, .inl TA))] H locs := hw
      subst r
      refine lv_istore_n (lv' := [(1, .int q10.1), (0, .ref ra)]) hx hb dX12_all_26 rfl hl (by decide) rfl (fun ls hl => ?_)
      refine lv_aload_n hx hb dX12_all_27 rfl (lv_at hl 1 rfl) ?_
      refine va_get (ci := 11) (C := RX12) (T := TX12) (N := 7) hx hb hts in_X12 hown hK hw.1 8 rfl rfl 6 (by decide) (hts _ q524) (fun _ h9 => h9) rfl dX12_all_28 ?_
      refine lv_aload_n hx hb dX12_all_31 rfl (lv_at hl 1 rfl) ?_
      refine lv_iconst (v := 1) hx hb dX12_all_32 (by decide) ?_
      refine lv_iconst (v := 4) hx hb dX12_all_33 (by decide) ?_
      obtain ⟨r13, hcr13, hf⟩ := op_e hf
      rcases r13 with q14 | e15
      · refine x_VI (wr := [(mla, .inr (3, [.int lm, .ref (cs 0), .int 0])), oH ma mfl mro mrp mca mwy mla mmi mtf mtk, ((ma 1), .inl (d 0, 6, .inl mHO)), ((ma 2), .inl (d 0, 6, .inl mAT)), ((ma 3), .inl (d 0, 6, .inl mTO)), ((ma 4), .inl (d 0, 6, .inl mWE)), ((ma 5), .inl (d 0, 6, .inl mHE)), ((ma 6), .inl (d 0, 6, .inl mRA))]) (rest := [.ref (ma 0)]) [.int 1, .int 4] hX cx hw hl.1 (mX12_more l D d cs wi ln lf dk dn him ra sa ma rz q10.2.1 q10.2.2.1 q10.2.2.2.1 q10.2.2.2.2 TA 1 4  q14 hcr13) (lw_V q594 q596 qs9 q104 q597) hd_X12_more ⟨(Nat.le_of_ble_eq_true rfl), (Nat.le_of_ble_eq_true rfl)⟩ (va_recv hK hw.1 (ci := 11) (q0 := 8) rfl rfl) rfl rfl (Nat.le_of_ble_eq_true rfl) dX12_all_34 [8, 9] [0, 1, 2, 3, 4, 5, 6, 7] rfl rfl rfl rfl (by decide) ⟨(Nat.le_of_ble_eq_true rfl), (Nat.le_of_ble_eq_true rfl)⟩ (fun r u H locs hp hw => ?_)
        have hw : Wd D A s [(mla, .inr (3, [.int lm, .ref (cs 0), .int 0])), oH ma mfl mro mrp mca mwy mla mmi mtf mtk, ((ma 1), .inl (d 0, 6, .inl mHO)), ((ma 2), .inl (d 0, 6, .inl mAT)), ((ma 3), .inl (d 0, 6, .inl mTO)), ((ma 4), .inl (d 0, 6, .inl mWE)), ((ma 5), .inl (d 0, 6, .inl mHE)), ((ma 6), .inl (d 0, 6, .inl mRA)), (ra, .inr (11, [.ref (sa 2), .int rz, .int q14.2.1, .int q14.2.2.1, .int q14.2.2.2.1, .int q14.2.2.2.2, .ref (ma 0)])), ((sa 2), .inl (d 1, 110, .inl TA))] H locs := hw
        subst r
        refine va_put (ci := 2) (v := .int q14.1) (ty := .int) (C := RX1) (T := TX1) (N := 15) hx hb hts in_X1 tyX1 tyX1_ok nmX1 hown hK hw.1 hw.2.1 hw.2.2 1 rfl rfl 1 (by decide) (hts _ q163) (fun _ h9 => h9) rfl (by decide +kernel) rfl rfl (Nat.le_of_ble_eq_true rfl) dX12_all_37 (fun H locs hP hD hS => ?_)
        have hw : Wd D A s [(mla, .inr (3, [.int lm, .ref (cs 0), .int 0])), oH ma mfl q14.1 mrp mca mwy mla mmi mtf mtk, ((ma 1), .inl (d 0, 6, .inl mHO)), ((ma 2), .inl (d 0, 6, .inl mAT)), ((ma 3), .inl (d 0, 6, .inl mTO)), ((ma 4), .inl (d 0, 6, .inl mWE)), ((ma 5), .inl (d 0, 6, .inl mHE)), ((ma 6), .inl (d 0, 6, .inl mRA)), (ra, .inr (11, [.ref (sa 2), .int rz, .int q14.2.1, .int q14.2.2.1, .int q14.2.2.2.1, .int q14.2.2.2.2, .ref (ma 0)])), ((sa 2), .inl (d 1, 110, .inl TA))] H locs := ⟨hP, hD, hS⟩
        refine lv_aload_n hx hb dX12_all_40 rfl (lv_at hl 1 rfl) ?_
        refine va_get (ci := 11) (C := RX12) (T := TX12) (N := 7) hx hb hts in_X12 hown hK hw.1 8 rfl rfl 6 (by decide) (hts _ q524) (fun _ h9 => h9) rfl dX12_all_41 ?_
        refine lv_aload_n hx hb dX12_all_44 rfl (lv_at hl 1 rfl) ?_
        refine lv_iconst (v := 1) hx hb dX12_all_45 (by decide) ?_
        refine lv_bipush (v := 40) hx hb dX12_all_46 (by decide) ?_
        obtain ⟨r17, hcr17, hf⟩ := op_e hf
        rcases r17 with q18 | e19
        · refine x_VI (wr := [(mla, .inr (3, [.int lm, .ref (cs 0), .int 0])), oH ma mfl q14.1 mrp mca mwy mla mmi mtf mtk, ((ma 1), .inl (d 0, 6, .inl mHO)), ((ma 2), .inl (d 0, 6, .inl mAT)), ((ma 3), .inl (d 0, 6, .inl mTO)), ((ma 4), .inl (d 0, 6, .inl mWE)), ((ma 5), .inl (d 0, 6, .inl mHE)), ((ma 6), .inl (d 0, 6, .inl mRA))]) (rest := [.ref (ma 0)]) [.int 1, .int 40] hX cx hw hl.1 (mX12_more l D d cs wi ln lf dk dn him ra sa ma rz q14.2.1 q14.2.2.1 q14.2.2.2.1 q14.2.2.2.2 TA 1 40  q18 hcr17) (lw_V q594 q596 qs9 q104 q597) hd_X12_more ⟨(Nat.le_of_ble_eq_true rfl), (Nat.le_of_ble_eq_true rfl)⟩ (va_recv hK hw.1 (ci := 11) (q0 := 8) rfl rfl) rfl rfl (Nat.le_of_ble_eq_true rfl) dX12_all_48 [8, 9] [0, 1, 2, 3, 4, 5, 6, 7] rfl rfl rfl rfl (by decide) ⟨(Nat.le_of_ble_eq_true rfl), (Nat.le_of_ble_eq_true rfl)⟩ (fun r u H locs hp hw => ?_)
          have hw : Wd D A s [(mla, .inr (3, [.int lm, .ref (cs 0), .int 0])), oH ma mfl q14.1 mrp mca mwy mla mmi mtf mtk, ((ma 1), .inl (d 0, 6, .inl mHO)), ((ma 2), .inl (d 0, 6, .inl mAT)), ((ma 3), .inl (d 0, 6, .inl mTO)), ((ma 4), .inl (d 0, 6, .inl mWE)), ((ma 5), .inl (d 0, 6, .inl mHE)), ((ma 6), .inl (d 0, 6, .inl mRA)), (ra, .inr (11, [.ref (sa 2), .int rz, .int q18.2.1, .int q18.2.2.1, .int q18.2.2.2.1, .int q18.2.2.2.2, .ref (ma 0)])), ((sa 2), .inl (d 1, 110, .inl TA))] H locs := hw
          subst r
          refine va_put (ci := 2) (v := .int q18.1) (ty := .int) (C := RX1) (T := TX1) (N := 15) hx hb hts in_X1 tyX1 tyX1_ok nmX1 hown hK hw.1 hw.2.1 hw.2.2 1 rfl rfl 2 (by decide) (hts _ q166) (fun _ h9 => h9) rfl (by decide +kernel) rfl rfl (Nat.le_of_ble_eq_true rfl) dX12_all_51 (fun H locs hP hD hS => ?_)
          have hw : Wd D A s [(mla, .inr (3, [.int lm, .ref (cs 0), .int 0])), oH ma mfl q14.1 q18.1 mca mwy mla mmi mtf mtk, ((ma 1), .inl (d 0, 6, .inl mHO)), ((ma 2), .inl (d 0, 6, .inl mAT)), ((ma 3), .inl (d 0, 6, .inl mTO)), ((ma 4), .inl (d 0, 6, .inl mWE)), ((ma 5), .inl (d 0, 6, .inl mHE)), ((ma 6), .inl (d 0, 6, .inl mRA)), (ra, .inr (11, [.ref (sa 2), .int rz, .int q18.2.1, .int q18.2.2.1, .int q18.2.2.2.1, .int q18.2.2.2.2, .ref (ma 0)])), ((sa 2), .inl (d 1, 110, .inl TA))] H locs := ⟨hP, hD, hS⟩
          refine lv_aload_n hx hb dX12_all_54 rfl (lv_at hl 1 rfl) ?_
          refine lv_iconst (v := 4) hx hb dX12_all_55 (by decide) ?_
          obtain ⟨r21, hcr21, hf⟩ := op_e hf
          rcases r21 with q22 | e23
          · refine x_VV (wr := [(mla, .inr (3, [.int lm, .ref (cs 0), .int 0])), oH ma mfl q14.1 q18.1 mca mwy mla mmi mtf mtk, ((ma 1), .inl (d 0, 6, .inl mHO)), ((ma 2), .inl (d 0, 6, .inl mAT)), ((ma 3), .inl (d 0, 6, .inl mTO)), ((ma 4), .inl (d 0, 6, .inl mWE)), ((ma 5), .inl (d 0, 6, .inl mHE)), ((ma 6), .inl (d 0, 6, .inl mRA))]) (rest := []) [.int 4] hX cx hw hl.1 (mX12_sign l D d cs wi ln lf dk dn him ra sa ma rz q18.2.1 q18.2.2.1 q18.2.2.2.1 q18.2.2.2.2 TA 4  q22 hcr21) (lw_V q598 q600 qs10 q104 q601) hd_X12_sign ⟨(Nat.le_of_ble_eq_true rfl), (Nat.le_of_ble_eq_true rfl)⟩ (va_recv hK hw.1 (ci := 11) (q0 := 8) rfl rfl) rfl rfl (Nat.le_of_ble_eq_true rfl) dX12_all_56 [8, 9] [0, 1, 2, 3, 4, 5, 6, 7] rfl rfl rfl rfl (by decide) ⟨(Nat.le_of_ble_eq_true rfl), (Nat.le_of_ble_eq_true rfl)⟩ (fun u H locs hp hw => ?_)
            have hw : Wd D A s [(mla, .inr (3, [.int lm, .ref (cs 0), .int 0])), oH ma mfl q14.1 q18.1 mca mwy mla mmi mtf mtk, ((ma 1), .inl (d 0, 6, .inl mHO)), ((ma 2), .inl (d 0, 6, .inl mAT)), ((ma 3), .inl (d 0, 6, .inl mTO)), ((ma 4), .inl (d 0, 6, .inl mWE)), ((ma 5), .inl (d 0, 6, .inl mHE)), ((ma 6), .inl (d 0, 6, .inl mRA)), (ra, .inr (11, [.ref (sa 2), .int rz, .int q22.1, .int q22.2.1, .int q22.2.2.1, .int q22.2.2.2, .ref (ma 0)])), ((sa 2), .inl (d 1, 110, .inl TA))] H locs := hw
            refine lv_aload_n hx hb dX12_all_59 rfl (lv_at hl 1 rfl) ?_
            refine va_get (ci := 11) (C := RX12) (T := TX12) (N := 7) hx hb hts in_X12 hown hK hw.1 8 rfl rfl 6 (by decide) (hts _ q524) (fun _ h9 => h9) rfl dX12_all_60 ?_
            refine lv_iload_n hx hb dX12_all_63 rfl (lv_at hl 0 rfl) ?_
            refine va_put (ci := 2) (v := .int q10.1) (ty := .int) (C := RX1) (T := TX1) (N := 15) hx hb hts in_X1 tyX1 tyX1_ok nmX1 hown hK hw.1 hw.2.1 hw.2.2 1 rfl rfl 0 (by decide) (hts _ q160) (fun _ h9 => h9) rfl (by decide +kernel) rfl rfl (Nat.le_of_ble_eq_true rfl) dX12_all_64 (fun H locs hP hD hS => ?_)
            have hw : Wd D A s [(mla, .inr (3, [.int lm, .ref (cs 0), .int 0])), oH ma q10.1 q14.1 q18.1 mca mwy mla mmi mtf mtk, ((ma 1), .inl (d 0, 6, .inl mHO)), ((ma 2), .inl (d 0, 6, .inl mAT)), ((ma 3), .inl (d 0, 6, .inl mTO)), ((ma 4), .inl (d 0, 6, .inl mWE)), ((ma 5), .inl (d 0, 6, .inl mHE)), ((ma 6), .inl (d 0, 6, .inl mRA)), (ra, .inr (11, [.ref (sa 2), .int rz, .int q22.1, .int q22.2.1, .int q22.2.2.1, .int q22.2.2.2, .ref (ma 0)])), ((sa 2), .inl (d 1, 110, .inl TA))] H locs := ⟨hP, hD, hS⟩
            refine lv_aload_n hx hb dX12_all_67 rfl (lv_at hl 1 rfl) ?_
            refine lv_aload_n hx hb dX12_all_68 rfl (lv_at hl 1 rfl) ?_
            refine va_ldcS hx hb hown hXs.2.1.2.2.2.2.2 dX12_all_69 ?_
            obtain ⟨q24, hcq24, hf⟩ := op_e hf
            refine x_VI (wr := [(mla, .inr (3, [.int lm, .ref (cs 0), .int 0])), oH ma q10.1 q14.1 q18.1 mca mwy mla mmi mtf mtk, ((ma 1), .inl (d 0, 6, .inl mHO)), ((ma 2), .inl (d 0, 6, .inl mAT)), ((ma 3), .inl (d 0, 6, .inl mTO)), ((ma 4), .inl (d 0, 6, .inl mWE)), ((ma 5), .inl (d 0, 6, .inl mHE)), ((ma 6), .inl (d 0, 6, .inl mRA)), ((sa 2), .inl (d 1, 110, .inl TA))]) (rest := [.ref ra]) [.ref (cs 1)] hX cx hw hl.1 (mX12_sortOf l  D d cs wi ln lf dk dn him ra sa ma rz q22.1 q22.2.1 q22.2.2.1 q22.2.2.2 hstr q24 hcq24) (lw_V q603 q605 qs11 q104 q606) hd_X12_sortOf ⟨(Nat.le_of_ble_eq_true rfl), (Nat.le_of_ble_eq_true rfl)⟩ (va_recv hK hw.1 (ci := 11) (q0 := 8) rfl rfl) rfl rfl (Nat.le_of_ble_eq_true rfl) dX12_all_71 [8] [0, 1, 2, 3, 4, 5, 6, 7, 9] rfl rfl rfl rfl (by decide) ⟨(Nat.le_of_ble_eq_true rfl), (Nat.le_of_ble_eq_true rfl)⟩ (fun r u H locs hp hw => ?_)
            have hw : Wd D A s [(mla, .inr (3, [.int lm, .ref (cs 0), .int 0])), oH ma q10.1 q14.1 q18.1 mca mwy mla mmi mtf mtk, ((ma 1), .inl (d 0, 6, .inl mHO)), ((ma 2), .inl (d 0, 6, .inl mAT)), ((ma 3), .inl (d 0, 6, .inl mTO)), ((ma 4), .inl (d 0, 6, .inl mWE)), ((ma 5), .inl (d 0, 6, .inl mHE)), ((ma 6), .inl (d 0, 6, .inl mRA)), ((sa 2), .inl (d 1, 110, .inl TA)), (ra, .inr (11, [.ref (sa 2), .int rz, .int q22.1, .int q22.2.1, .int q22.2.2.1, .int q22.2.2.2, .ref (ma 0)]))] H locs := hw
            subst r
            refine lv_ldc (v := (-1000000)) hx hb hown (hts _ q553) dX12_all_74 ?_
            obtain ⟨j25, hjA, hjR⟩ := op_e hf
            refine x_join (A := A) (D := D) (J := 84) (nL := 2) (cells' := 0) (slots' := 0) (st := [.int j25, .ref ra]) [(mla, .inr (3, [.int lm, .ref (cs 0), .int 0])), oH ma q10.1 q14.1 q18.1 mca mwy mla mmi mtf mtk, ((ma 1), .inl (d 0, 6, .inl mHO)), ((ma 2), .inl (d 0, 6, .inl mAT)), ((ma 3), .inl (d 0, 6, .inl mTO)), ((ma 4), .inl (d 0, 6, .inl mWE)), ((ma 5), .inl (d 0, 6, .inl mHE)), ((ma 6), .inl (d 0, 6, .inl mRA)), (ra, .inr (11, [.ref (sa 2), .int rz, .int q22.1, .int q22.2.1, .int q22.2.2.1, .int q22.2.2.2, .ref (ma 0)])), ((sa 2), .inl (d 1, 110, .inl TA))] [(0, .ref ra)] (fun H locs ls hw hl => ?_) (fun hKj84_j25 => ?_)
            · have hf := hjR
              refine lv_iconst (v := 1) hx hb dX12_all_84 (by decide) ?_
              obtain ⟨r27, hcr27, hf⟩ := op_e hf
              rcases r27 with q28 | e29
              · refine x_VV (wr := [(mla, .inr (3, [.int lm, .ref (cs 0), .int 0])), oH ma q10.1 q14.1 q18.1 mca mwy mla mmi mtf mtk, ((ma 1), .inl (d 0, 6, .inl mHO)), ((ma 2), .inl (d 0, 6, .inl mAT)), ((ma 3), .inl (d 0, 6, .inl mTO)), ((ma 4), .inl (d 0, 6, .inl mWE)), ((ma 5), .inl (d 0, 6, .inl mHE)), ((ma 6), .inl (d 0, 6, .inl mRA)), ((sa 2), .inl (d 1, 110, .inl TA))]) (rest := []) [.int j25, .int 1] hX cx hw hl.1 (mX12_must l D d cs wi ln lf dk dn him ra sa ma rz q22.1 q22.2.1 q22.2.2.1 q22.2.2.2 j25 1  q28 hcr27) (lw_V q563 q565 qs7 q104 q566) hd_X12_must ⟨(Nat.le_of_ble_eq_true rfl), (Nat.le_of_ble_eq_true rfl)⟩ (va_recv hK hw.1 (ci := 11) (q0 := 8) rfl rfl) rfl rfl (Nat.le_of_ble_eq_true rfl) dX12_all_85 [8] [0, 1, 2, 3, 4, 5, 6, 7, 9] rfl rfl rfl rfl (by decide) ⟨(Nat.le_of_ble_eq_true rfl), (Nat.le_of_ble_eq_true rfl)⟩ (fun u H locs hp hw => ?_)
                have hw : Wd D A s [(mla, .inr (3, [.int lm, .ref (cs 0), .int 0])), oH ma q10.1 q14.1 q18.1 mca mwy mla mmi mtf mtk, ((ma 1), .inl (d 0, 6, .inl mHO)), ((ma 2), .inl (d 0, 6, .inl mAT)), ((ma 3), .inl (d 0, 6, .inl mTO)), ((ma 4), .inl (d 0, 6, .inl mWE)), ((ma 5), .inl (d 0, 6, .inl mHE)), ((ma 6), .inl (d 0, 6, .inl mRA)), ((sa 2), .inl (d 1, 110, .inl TA)), (ra, .inr (11, [.ref (sa 2), .int rz, .int q22.1, .int q22.2.1, .int q22.2.2.1, .int q22.2.2.2, .ref (ma 0)]))] H locs := hw
                obtain ⟨r88, hc88, hf⟩ := op_e hf
                rcases r88 with y88 | e88
                · have hf := Sum.inl.inj (sm_e hf)
                  subst hf
                  exact all_L0_ret ln lf dk dn him hstr hemp sa ma ra mla rz q10.1 q14.1 q18.1 mca mwy mmi mtf mtk mHO mRA TA y88 cx mAT mTO mWE mHE q22.1 q22.2.1 q22.2.2.1 q22.2.2.2 lm rfl rfl hc88 (hw.sub [9, 8, 0, 1, 2, 3, 4, 5, 6, 7] rfl rfl) (lv_sub hl [0] rfl)
                · cases hf
              · have hf : (some (.inr e29) : Option ((Int32 × Int32 × Int32 × YY) ⊕ (Int32 × Int32))) = some (.inl res) := hf
                cases hf
            · have hf := hjA
              refine lv_icmp_eq (tgt := 83) hx hb dX12_all_76 (by decide) (fun c76 => ?_) (fun c76 => ?_)
              · have hf := if_t hf c76
                refine lv_iconst (v := 0) hx hb dX12_all_83 (by decide) ?_
                have hf := sm_e hf
                subst hf
                exact hKj84_j25 _ _ _ (hw.sub [0, 1, 2, 3, 4, 5, 6, 7, 9, 8] rfl rfl) (lv_sub hl [1] rfl)
              · have hf := if_f hf c76
                refine lv_iconst (v := 1) hx hb dX12_all_79 (by decide) ?_
                refine lv_goto (tgt := 84) hx hb dX12_all_80 (by decide) ?_
                have hf := sm_e hf
                subst hf
                exact hKj84_j25 _ _ _ (hw.sub [0, 1, 2, 3, 4, 5, 6, 7, 9, 8] rfl rfl) (lv_sub hl [1] rfl)
          · have hf : (some (.inr e23) : Option ((Int32 × Int32 × Int32 × YY) ⊕ (Int32 × Int32))) = some (.inl res) := hf
            cases hf
        · have hf : (some (.inr e19) : Option ((Int32 × Int32 × Int32 × YY) ⊕ (Int32 × Int32))) = some (.inl res) := hf
          cases hf
      · have hf : (some (.inr e15) : Option ((Int32 × Int32 × Int32 × YY) ⊕ (Int32 × Int32))) = some (.inl res) := hf
        cases hf
    · have hf : (some (.inr e11) : Option ((Int32 × Int32 × Int32 × YY) ⊕ (Int32 × Int32))) = some (.inl res) := hf
      cases hf
  · have hf : (some (.inr e6) : Option ((Int32 × Int32 × Int32 × YY) ⊕ (Int32 × Int32))) = some (.inl res) := hf
    cases hf
set_option maxHeartbeats 4000000 in
theorem tX12_all (l : Launch) (D : va_G) (d : Nat → ClassId) (cs : Nat → Nat) (wi : va_W) (ln : Nat → Option Int32) (lf : Nat → Nat → Option Nat) (dk : Nat → Option Nat) (dn : Nat → Int32) (him : ImF d wi ln lf dk dn) (hstr : StrF d cs wi) (hemp : EmpF d cs wi) (sa ma : Nat → Nat) (ra mla : Nat) (rz mfl mro mrp mca mwy mmi mtf : Int32) (mtk : Option Nat) (mHO mRA TA : Nat → Int32) (mAT mTO mWE mHE : Nat → Int32) (rat rtk rfr rva lm : Int32) (res : Int32 × Int32) (hf : fX12_all rz rat lm mAT mTO mWE mHE TA = some (.inr res)) : TMet l yX12_all (ws_ yX12_all cX12_all 2 none) { frames := 8, cells := 24, slots := 160, locals := 220 } [.ref ra] (XI D cs wi) D d [(ra, .inr (11, [.ref (sa 2), .int rz, .int rat, .int rtk, .int rfr, .int rva, .ref (ma 0)])), ((sa 2), .inl (d 1, 110, .inl TA)), (mla, .inr (3, [.int lm, .ref (cs 0), .int 0])), oH ma mfl mro mrp mca mwy mla mmi mtf mtk, ((ma 1), .inl (d 0, 6, .inl mHO)), ((ma 2), .inl (d 0, 6, .inl mAT)), ((ma 3), .inl (d 0, 6, .inl mTO)), ((ma 4), .inl (d 0, 6, .inl mWE)), ((ma 5), .inl (d 0, 6, .inl mHE)), ((ma 6), .inl (d 0, 6, .inl mRA))] "DishLift$Fault" (fun q9 (_ : Unit) => [((sa 2), .inl (d 1, 110, .inl TA)), (q9, .inr (13, [.null, .null, .null, .null, .null, .int 0, .int res.1, .int res.2]))]) := by
  have hX := XI.ok (D := D) (cs := cs) (wi := wi)
  refine TMet.of (by decide +kernel) (Nat.le_of_ble_eq_true rfl) ?_
  intro p e s m below meth c A cx hET hw ls hl
  have cx : Cx p s m _ meth c (XI D cs wi) D d A "DishLift$Reader" cX12_all 2 none "all" := cx
  have cx' := cx
  obtain ⟨hx, hb, hr, hlk, hml, hown, hts, hK, hA, hXs, hnm⟩ := cx'
  have hl : lv_has ls 2 [(0, .ref ra)] := hl
  generalize hlo : ([] : List Loc) = locs at hw ⊢
  unfold fX12_all at hf
  refine lv_aload_n hx hb dX12_all_0 rfl (lv_at hl 0 rfl) ?_
  obtain ⟨q1, hcq1, hf⟩ := op_e hf
  refine x_VV (wr := [(mla, .inr (3, [.int lm, .ref (cs 0), .int 0])), oH ma mfl mro mrp mca mwy mla mmi mtf mtk, ((ma 1), .inl (d 0, 6, .inl mHO)), ((ma 2), .inl (d 0, 6, .inl mAT)), ((ma 3), .inl (d 0, 6, .inl mTO)), ((ma 4), .inl (d 0, 6, .inl mWE)), ((ma 5), .inl (d 0, 6, .inl mHE)), ((ma 6), .inl (d 0, 6, .inl mRA))]) (rest := []) [] hX cx hw hl.1 (mX12_next l  D d cs wi ln lf dk dn him ra sa ma rz rat rtk rfr rva TA  q1 hcq1) (lw_V q545 q547 qs4 q104 q548) hd_X12_next ⟨(Nat.le_of_ble_eq_true rfl), (Nat.le_of_ble_eq_true rfl)⟩ (va_recv hK hw.1 (ci := 11) (q0 := 0) rfl rfl) rfl rfl (Nat.le_of_ble_eq_true rfl) dX12_all_1 [0, 1] [2, 3, 4, 5, 6, 7, 8, 9] rfl rfl rfl rfl (by decide) ⟨(Nat.le_of_ble_eq_true rfl), (Nat.le_of_ble_eq_true rfl)⟩ (fun u H locs hp hw => ?_)
  have hw : Wd D A s [(mla, .inr (3, [.int lm, .ref (cs 0), .int 0])), oH ma mfl mro mrp mca mwy mla mmi mtf mtk, ((ma 1), .inl (d 0, 6, .inl mHO)), ((ma 2), .inl (d 0, 6, .inl mAT)), ((ma 3), .inl (d 0, 6, .inl mTO)), ((ma 4), .inl (d 0, 6, .inl mWE)), ((ma 5), .inl (d 0, 6, .inl mHE)), ((ma 6), .inl (d 0, 6, .inl mRA)), (ra, .inr (11, [.ref (sa 2), .int rz, .int q1.1, .int q1.2.1, .int q1.2.2.1, .int q1.2.2.2, .ref (ma 0)])), ((sa 2), .inl (d 1, 110, .inl TA))] H locs := hw
  refine lv_aload_n hx hb dX12_all_4 rfl (lv_at hl 0 rfl) ?_
  refine lv_aload_n hx hb dX12_all_5 rfl (lv_at hl 0 rfl) ?_
  refine lv_bipush (v := 100) hx hb dX12_all_6 (by decide) ?_
  obtain ⟨q2, hcq2, hf⟩ := op_e hf
  refine x_VI (wr := [(mla, .inr (3, [.int lm, .ref (cs 0), .int 0])), oH ma mfl mro mrp mca mwy mla mmi mtf mtk, ((ma 1), .inl (d 0, 6, .inl mHO)), ((ma 2), .inl (d 0, 6, .inl mAT)), ((ma 3), .inl (d 0, 6, .inl mTO)), ((ma 4), .inl (d 0, 6, .inl mWE)), ((ma 5), .inl (d 0, 6, .inl mHE)), ((ma 6), .inl (d 0, 6, .inl mRA)), ((sa 2), .inl (d 1, 110, .inl TA))]) (rest := [.ref ra]) [.int 100] hX cx hw hl.1 (mX12_isLetter l  D d cs wi ln lf dk dn him ra sa ma rz q1.1 q1.2.1 q1.2.2.1 q1.2.2.2 100  q2 hcq2) (lw_V q559 q561 qs6 q104 q562) hd_X12_isLetter ⟨(Nat.le_of_ble_eq_true rfl), (Nat.le_of_ble_eq_true rfl)⟩ (va_recv hK hw.1 (ci := 11) (q0 := 8) rfl rfl) rfl rfl (Nat.le_of_ble_eq_true rfl) dX12_all_8 [8] [0, 1, 2, 3, 4, 5, 6, 7, 9] rfl rfl rfl rfl (by decide) ⟨(Nat.le_of_ble_eq_true rfl), (Nat.le_of_ble_eq_true rfl)⟩ (fun r u H locs hp hw => ?_)
  have hw : Wd D A s [(mla, .inr (3, [.int lm, .ref (cs 0), .int 0])), oH ma mfl mro mrp mca mwy mla mmi mtf mtk, ((ma 1), .inl (d 0, 6, .inl mHO)), ((ma 2), .inl (d 0, 6, .inl mAT)), ((ma 3), .inl (d 0, 6, .inl mTO)), ((ma 4), .inl (d 0, 6, .inl mWE)), ((ma 5), .inl (d 0, 6, .inl mHE)), ((ma 6), .inl (d 0, 6, .inl mRA)), ((sa 2), .inl (d 1, 110, .inl TA)), (ra, .inr (11, [.ref (sa 2), .int rz, .int q1.1, .int q1.2.1, .int q1.2.2.1, .int q1.2.2.2, .ref (ma 0)]))] H locs := hw
  subst r
  refine lv_iconst (v := 1) hx hb dX12_all_11 (by decide) ?_
  obtain ⟨r4, hcr4, hf⟩ := op_e hf
  rcases r4 with q5 | e6
  · refine x_VV (wr := [(mla, .inr (3, [.int lm, .ref (cs 0), .int 0])), oH ma mfl mro mrp mca mwy mla mmi mtf mtk, ((ma 1), .inl (d 0, 6, .inl mHO)), ((ma 2), .inl (d 0, 6, .inl mAT)), ((ma 3), .inl (d 0, 6, .inl mTO)), ((ma 4), .inl (d 0, 6, .inl mWE)), ((ma 5), .inl (d 0, 6, .inl mHE)), ((ma 6), .inl (d 0, 6, .inl mRA)), ((sa 2), .inl (d 1, 110, .inl TA))]) (rest := []) [.int q2, .int 1] hX cx hw hl.1 (mX12_must l D d cs wi ln lf dk dn him ra sa ma rz q1.1 q1.2.1 q1.2.2.1 q1.2.2.2 q2 1  q5 hcr4) (lw_V q563 q565 qs7 q104 q566) hd_X12_must ⟨(Nat.le_of_ble_eq_true rfl), (Nat.le_of_ble_eq_true rfl)⟩ (va_recv hK hw.1 (ci := 11) (q0 := 9) rfl rfl) rfl rfl (Nat.le_of_ble_eq_true rfl) dX12_all_12 [9] [0, 1, 2, 3, 4, 5, 6, 7, 8] rfl rfl rfl rfl (by decide) ⟨(Nat.le_of_ble_eq_true rfl), (Nat.le_of_ble_eq_true rfl)⟩ (fun u H locs hp hw => ?_)
    have hw : Wd D A s [(mla, .inr (3, [.int lm, .ref (cs 0), .int 0])), oH ma mfl mro mrp mca mwy mla mmi mtf mtk, ((ma 1), .inl (d 0, 6, .inl mHO)), ((ma 2), .inl (d 0, 6, .inl mAT)), ((ma 3), .inl (d 0, 6, .inl mTO)), ((ma 4), .inl (d 0, 6, .inl mWE)), ((ma 5), .inl (d 0, 6, .inl mHE)), ((ma 6), .inl (d 0, 6, .inl mRA)), ((sa 2), .inl (d 1, 110, .inl TA)), (ra, .inr (11, [.ref (sa 2), .int rz, .int q1.1, .int q1.2.1, .int q1.2.2.1, .int q1.2.2.2, .ref (ma 0)]))] H locs := hw
    refine lv_aload_n hx hb dX12_all_15 rfl (lv_at hl 0 rfl) ?_
    obtain ⟨q7, hcq7, hf⟩ := op_e hf
    refine x_VV (wr := [(mla, .inr (3, [.int lm, .ref (cs 0), .int 0])), oH ma mfl mro mrp mca mwy mla mmi mtf mtk, ((ma 1), .inl (d 0, 6, .inl mHO)), ((ma 2), .inl (d 0, 6, .inl mAT)), ((ma 3), .inl (d 0, 6, .inl mTO)), ((ma 4), .inl (d 0, 6, .inl mWE)), ((ma 5), .inl (d 0, 6, .inl mHE)), ((ma 6), .inl (d 0, 6, .inl mRA))]) (rest := []) [] hX cx hw hl.1 (mX12_next l  D d cs wi ln lf dk dn him ra sa ma rz q1.1 q1.2.1 q1.2.2.1 q1.2.2.2 TA  q7 hcq7) (lw_V q545 q547 qs4 q104 q548) hd_X12_next ⟨(Nat.le_of_ble_eq_true rfl), (Nat.le_of_ble_eq_true rfl)⟩ (va_recv hK hw.1 (ci := 11) (q0 := 9) rfl rfl) rfl rfl (Nat.le_of_ble_eq_true rfl) dX12_all_16 [9, 8] [0, 1, 2, 3, 4, 5, 6, 7] rfl rfl rfl rfl (by decide) ⟨(Nat.le_of_ble_eq_true rfl), (Nat.le_of_ble_eq_true rfl)⟩ (fun u H locs hp hw => ?_)
    have hw : Wd D A s [(mla, .inr (3, [.int lm, .ref (cs 0), .int 0])), oH ma mfl mro mrp mca mwy mla mmi mtf mtk, ((ma 1), .inl (d 0, 6, .inl mHO)), ((ma 2), .inl (d 0, 6, .inl mAT)), ((ma 3), .inl (d 0, 6, .inl mTO)), ((ma 4), .inl (d 0, 6, .inl mWE)), ((ma 5), .inl (d 0, 6, .inl mHE)), ((ma 6), .inl (d 0, 6, .inl mRA)), (ra, .inr (11, [.ref (sa 2), .int rz, .int q7.1, .int q7.2.1, .int q7.2.2.1, .int q7.2.2.2, .ref (ma 0)])), ((sa 2), .inl (d 1, 110, .inl TA))] H locs := hw
    refine lv_aload_n hx hb dX12_all_19 rfl (lv_at hl 0 rfl) ?_
    refine lv_iconst (v := 2) hx hb dX12_all_20 (by decide) ?_
    refine lv_bipush (v := 9) hx hb dX12_all_21 (by decide) ?_
    obtain ⟨r9, hcr9, hf⟩ := op_e hf
    rcases r9 with q10 | e11
    · refine x_VI (wr := [(mla, .inr (3, [.int lm, .ref (cs 0), .int 0])), oH ma mfl mro mrp mca mwy mla mmi mtf mtk, ((ma 1), .inl (d 0, 6, .inl mHO)), ((ma 2), .inl (d 0, 6, .inl mAT)), ((ma 3), .inl (d 0, 6, .inl mTO)), ((ma 4), .inl (d 0, 6, .inl mWE)), ((ma 5), .inl (d 0, 6, .inl mHE)), ((ma 6), .inl (d 0, 6, .inl mRA))]) (rest := []) [.int 2, .int 9] hX cx hw hl.1 (mX12_figure l D d cs wi ln lf dk dn him ra sa ma rz q7.1 q7.2.1 q7.2.2.1 q7.2.2.2 TA 2 9  q10 hcr9) (lw_V q590 q592 qs8 q104 q593) hd_X12_figure ⟨(Nat.le_of_ble_eq_true rfl), (Nat.le_of_ble_eq_true rfl)⟩ (va_recv hK hw.1 (ci := 11) (q0 := 8) rfl rfl) rfl rfl (Nat.le_of_ble_eq_true rfl) dX12_all_23 [8, 9] [0, 1, 2, 3, 4, 5, 6, 7] rfl rfl rfl rfl (by decide) ⟨(Nat.le_of_ble_eq_true rfl), (Nat.le_of_ble_eq_true rfl)⟩ (fun r u H locs hp hw => ?_)
      have hw : Wd D A s [(mla, .inr (3, [.int lm, .ref (cs 0), .int 0])), oH ma mfl mro mrp mca mwy mla mmi mtf mtk, ((ma 1), .inl (d 0, 6, .inl mHO)), ((ma 2), .inl (d 0, 6, .inl mAT)), ((ma 3), .inl (d 0, 6, .inl mTO)), ((ma 4), .inl (d 0, 6, .inl mWE)), ((ma 5), .inl (d 0, 6, .inl mHE)), ((ma 6), .inl (d 0, 6, .inl mRA)), (ra, .inr (11, [.ref (sa 2), .int rz, .int q10.2.1, .int q10.2.2.1, .int q10.2.2.2.1, .int q10.2.2.2.2, .ref (ma 0)])), ((sa 2), .inl (d 1, 110, .inl TA))] H locs := hw
      subst r
      refine lv_istore_n (lv' := [(1, .int q10.1), (0, .ref ra)]) hx hb dX12_all_26 rfl hl (by decide) rfl (fun ls hl => ?_)
      refine lv_aload_n hx hb dX12_all_27 rfl (lv_at hl 1 rfl) ?_
      refine va_get (ci := 11) (C := RX12) (T := TX12) (N := 7) hx hb hts in_X12 hown hK hw.1 8 rfl rfl 6 (by decide) (hts _ q524) (fun _ h9 => h9) rfl dX12_all_28 ?_
      refine lv_aload_n hx hb dX12_all_31 rfl (lv_at hl 1 rfl) ?_
      refine lv_iconst (v := 1) hx hb dX12_all_32 (by decide) ?_
      refine lv_iconst (v := 4) hx hb dX12_all_33 (by decide) ?_
      obtain ⟨r13, hcr13, hf⟩ := op_e hf
      rcases r13 with q14 | e15
      · refine x_VI (wr := [(mla, .inr (3, [.int lm, .ref (cs 0), .int 0])), oH ma mfl mro mrp mca mwy mla mmi mtf mtk, ((ma 1), .inl (d 0, 6, .inl mHO)), ((ma 2), .inl (d 0, 6, .inl mAT)), ((ma 3), .inl (d 0, 6, .inl mTO)), ((ma 4), .inl (d 0, 6, .inl mWE)), ((ma 5), .inl (d 0, 6, .inl mHE)), ((ma 6), .inl (d 0, 6, .inl mRA))]) (rest := [.ref (ma 0)]) [.int 1, .int 4] hX cx hw hl.1 (mX12_more l D d cs wi ln lf dk dn him ra sa ma rz q10.2.1 q10.2.2.1 q10.2.2.2.1 q10.2.2.2.2 TA 1 4  q14 hcr13) (lw_V q594 q596 qs9 q104 q597) hd_X12_more ⟨(Nat.le_of_ble_eq_true rfl), (Nat.le_of_ble_eq_true rfl)⟩ (va_recv hK hw.1 (ci := 11) (q0 := 8) rfl rfl) rfl rfl (Nat.le_of_ble_eq_true rfl) dX12_all_34 [8, 9] [0, 1, 2, 3, 4, 5, 6, 7] rfl rfl rfl rfl (by decide) ⟨(Nat.le_of_ble_eq_true rfl), (Nat.le_of_ble_eq_true rfl)⟩ (fun r u H locs hp hw => ?_)
        have hw : Wd D A s [(mla, .inr (3, [.int lm, .ref (cs 0), .int 0])), oH ma mfl mro mrp mca mwy mla mmi mtf mtk, ((ma 1), .inl (d 0, 6, .inl mHO)), ((ma 2), .inl (d 0, 6, .inl mAT)), ((ma 3), .inl (d 0, 6, .inl mTO)), ((ma 4), .inl (d 0, 6, .inl mWE)), ((ma 5), .inl (d 0, 6, .inl mHE)), ((ma 6), .inl (d 0, 6, .inl mRA)), (ra, .inr (11, [.ref (sa 2), .int rz, .int q14.2.1, .int q14.2.2.1, .int q14.2.2.2.1, .int q14.2.2.2.2, .ref (ma 0)])), ((sa 2), .inl (d 1, 110, .inl TA))] H locs := hw
        subst r
        refine va_put (ci := 2) (v := .int q14.1) (ty := .int) (C := RX1) (T := TX1) (N := 15) hx hb hts in_X1 tyX1 tyX1_ok nmX1 hown hK hw.1 hw.2.1 hw.2.2 1 rfl rfl 1 (by decide) (hts _ q163) (fun _ h9 => h9) rfl (by decide +kernel) rfl rfl (Nat.le_of_ble_eq_true rfl) dX12_all_37 (fun H locs hP hD hS => ?_)
        have hw : Wd D A s [(mla, .inr (3, [.int lm, .ref (cs 0), .int 0])), oH ma mfl q14.1 mrp mca mwy mla mmi mtf mtk, ((ma 1), .inl (d 0, 6, .inl mHO)), ((ma 2), .inl (d 0, 6, .inl mAT)), ((ma 3), .inl (d 0, 6, .inl mTO)), ((ma 4), .inl (d 0, 6, .inl mWE)), ((ma 5), .inl (d 0, 6, .inl mHE)), ((ma 6), .inl (d 0, 6, .inl mRA)), (ra, .inr (11, [.ref (sa 2), .int rz, .int q14.2.1, .int q14.2.2.1, .int q14.2.2.2.1, .int q14.2.2.2.2, .ref (ma 0)])), ((sa 2), .inl (d 1, 110, .inl TA))] H locs := ⟨hP, hD, hS⟩
        refine lv_aload_n hx hb dX12_all_40 rfl (lv_at hl 1 rfl) ?_
        refine va_get (ci := 11) (C := RX12) (T := TX12) (N := 7) hx hb hts in_X12 hown hK hw.1 8 rfl rfl 6 (by decide) (hts _ q524) (fun _ h9 => h9) rfl dX12_all_41 ?_
        refine lv_aload_n hx hb dX12_all_44 rfl (lv_at hl 1 rfl) ?_
        refine lv_iconst (v := 1) hx hb dX12_all_45 (by decide) ?_
        refine lv_bipush (v := 40) hx hb dX12_all_46 (by decide) ?_
        obtain ⟨r17, hcr17, hf⟩ := op_e hf
        rcases r17 with q18 | e19
        · refine x_VI (wr := [(mla, .inr (3, [.int lm, .ref (cs 0), .int 0])), oH ma mfl q14.1 mrp mca mwy mla mmi mtf mtk, ((ma 1), .inl (d 0, 6, .inl mHO)), ((ma 2), .inl (d 0, 6, .inl mAT)), ((ma 3), .inl (d 0, 6, .inl mTO)), ((ma 4), .inl (d 0, 6, .inl mWE)), ((ma 5), .inl (d 0, 6, .inl mHE)), ((ma 6), .inl (d 0, 6, .inl mRA))]) (rest := [.ref (ma 0)]) [.int 1, .int 40] hX cx hw hl.1 (mX12_more l D d cs wi ln lf dk dn him ra sa ma rz q14.2.1 q14.2.2.1 q14.2.2.2.1 q14.2.2.2.2 TA 1 40  q18 hcr17) (lw_V q594 q596 qs9 q104 q597) hd_X12_more ⟨(Nat.le_of_ble_eq_true rfl), (Nat.le_of_ble_eq_true rfl)⟩ (va_recv hK hw.1 (ci := 11) (q0 := 8) rfl rfl) rfl rfl (Nat.le_of_ble_eq_true rfl) dX12_all_48 [8, 9] [0, 1, 2, 3, 4, 5, 6, 7] rfl rfl rfl rfl (by decide) ⟨(Nat.le_of_ble_eq_true rfl), (Nat.le_of_ble_eq_true rfl)⟩ (fun r u H locs hp hw => ?_)
          have hw : Wd D A s [(mla, .inr (3, [.int lm, .ref (cs 0), .int 0])), oH ma mfl q14.1 mrp mca mwy mla mmi mtf mtk, ((ma 1), .inl (d 0, 6, .inl mHO)), ((ma 2), .inl (d 0, 6, .inl mAT)), ((ma 3), .inl (d 0, 6, .inl mTO)), ((ma 4), .inl (d 0, 6, .inl mWE)), ((ma 5), .inl (d 0, 6, .inl mHE)), ((ma 6), .inl (d 0, 6, .inl mRA)), (ra, .inr (11, [.ref (sa 2), .int rz, .int q18.2.1, .int q18.2.2.1, .int q18.2.2.2.1, .int q18.2.2.2.2, .ref (ma 0)])), ((sa 2), .inl (d 1, 110, .inl TA))] H locs := hw
          subst r
          refine va_put (ci := 2) (v := .int q18.1) (ty := .int) (C := RX1) (T := TX1) (N := 15) hx hb hts in_X1 tyX1 tyX1_ok nmX1 hown hK hw.1 hw.2.1 hw.2.2 1 rfl rfl 2 (by decide) (hts _ q166) (fun _ h9 => h9) rfl (by decide +kernel) rfl rfl (Nat.le_of_ble_eq_true rfl) dX12_all_51 (fun H locs hP hD hS => ?_)
          have hw : Wd D A s [(mla, .inr (3, [.int lm, .ref (cs 0), .int 0])), oH ma mfl q14.1 q18.1 mca mwy mla mmi mtf mtk, ((ma 1), .inl (d 0, 6, .inl mHO)), ((ma 2), .inl (d 0, 6, .inl mAT)), ((ma 3), .inl (d 0, 6, .inl mTO)), ((ma 4), .inl (d 0, 6, .inl mWE)), ((ma 5), .inl (d 0, 6, .inl mHE)), ((ma 6), .inl (d 0, 6, .inl mRA)), (ra, .inr (11, [.ref (sa 2), .int rz, .int q18.2.1, .int q18.2.2.1, .int q18.2.2.2.1, .int q18.2.2.2.2, .ref (ma 0)])), ((sa 2), .inl (d 1, 110, .inl TA))] H locs := ⟨hP, hD, hS⟩
          refine lv_aload_n hx hb dX12_all_54 rfl (lv_at hl 1 rfl) ?_
          refine lv_iconst (v := 4) hx hb dX12_all_55 (by decide) ?_
          obtain ⟨r21, hcr21, hf⟩ := op_e hf
          rcases r21 with q22 | e23
          · refine x_VV (wr := [(mla, .inr (3, [.int lm, .ref (cs 0), .int 0])), oH ma mfl q14.1 q18.1 mca mwy mla mmi mtf mtk, ((ma 1), .inl (d 0, 6, .inl mHO)), ((ma 2), .inl (d 0, 6, .inl mAT)), ((ma 3), .inl (d 0, 6, .inl mTO)), ((ma 4), .inl (d 0, 6, .inl mWE)), ((ma 5), .inl (d 0, 6, .inl mHE)), ((ma 6), .inl (d 0, 6, .inl mRA))]) (rest := []) [.int 4] hX cx hw hl.1 (mX12_sign l D d cs wi ln lf dk dn him ra sa ma rz q18.2.1 q18.2.2.1 q18.2.2.2.1 q18.2.2.2.2 TA 4  q22 hcr21) (lw_V q598 q600 qs10 q104 q601) hd_X12_sign ⟨(Nat.le_of_ble_eq_true rfl), (Nat.le_of_ble_eq_true rfl)⟩ (va_recv hK hw.1 (ci := 11) (q0 := 8) rfl rfl) rfl rfl (Nat.le_of_ble_eq_true rfl) dX12_all_56 [8, 9] [0, 1, 2, 3, 4, 5, 6, 7] rfl rfl rfl rfl (by decide) ⟨(Nat.le_of_ble_eq_true rfl), (Nat.le_of_ble_eq_true rfl)⟩ (fun u H locs hp hw => ?_)
            have hw : Wd D A s [(mla, .inr (3, [.int lm, .ref (cs 0), .int 0])), oH ma mfl q14.1 q18.1 mca mwy mla mmi mtf mtk, ((ma 1), .inl (d 0, 6, .inl mHO)), ((ma 2), .inl (d 0, 6, .inl mAT)), ((ma 3), .inl (d 0, 6, .inl mTO)), ((ma 4), .inl (d 0, 6, .inl mWE)), ((ma 5), .inl (d 0, 6, .inl mHE)), ((ma 6), .inl (d 0, 6, .inl mRA)), (ra, .inr (11, [.ref (sa 2), .int rz, .int q22.1, .int q22.2.1, .int q22.2.2.1, .int q22.2.2.2, .ref (ma 0)])), ((sa 2), .inl (d 1, 110, .inl TA))] H locs := hw
            refine lv_aload_n hx hb dX12_all_59 rfl (lv_at hl 1 rfl) ?_
            refine va_get (ci := 11) (C := RX12) (T := TX12) (N := 7) hx hb hts in_X12 hown hK hw.1 8 rfl rfl 6 (by decide) (hts _ q524) (fun _ h9 => h9) rfl dX12_all_60 ?_
            refine lv_iload_n hx hb dX12_all_63 rfl (lv_at hl 0 rfl) ?_
            refine va_put (ci := 2) (v := .int q10.1) (ty := .int) (C := RX1) (T := TX1) (N := 15) hx hb hts in_X1 tyX1 tyX1_ok nmX1 hown hK hw.1 hw.2.1 hw.2.2 1 rfl rfl 0 (by decide) (hts _ q160) (fun _ h9 => h9) rfl (by decide +kernel) rfl rfl (Nat.le_of_ble_eq_true rfl) dX12_all_64 (fun H locs hP hD hS => ?_)
            have hw : Wd D A s [(mla, .inr (3, [.int lm, .ref (cs 0), .int 0])), oH ma q10.1 q14.1 q18.1 mca mwy mla mmi mtf mtk, ((ma 1), .inl (d 0, 6, .inl mHO)), ((ma 2), .inl (d 0, 6, .inl mAT)), ((ma 3), .inl (d 0, 6, .inl mTO)), ((ma 4), .inl (d 0, 6, .inl mWE)), ((ma 5), .inl (d 0, 6, .inl mHE)), ((ma 6), .inl (d 0, 6, .inl mRA)), (ra, .inr (11, [.ref (sa 2), .int rz, .int q22.1, .int q22.2.1, .int q22.2.2.1, .int q22.2.2.2, .ref (ma 0)])), ((sa 2), .inl (d 1, 110, .inl TA))] H locs := ⟨hP, hD, hS⟩
            refine lv_aload_n hx hb dX12_all_67 rfl (lv_at hl 1 rfl) ?_
            refine lv_aload_n hx hb dX12_all_68 rfl (lv_at hl 1 rfl) ?_
            refine va_ldcS hx hb hown hXs.2.1.2.2.2.2.2 dX12_all_69 ?_
            obtain ⟨q24, hcq24, hf⟩ := op_e hf
            refine x_VI (wr := [(mla, .inr (3, [.int lm, .ref (cs 0), .int 0])), oH ma q10.1 q14.1 q18.1 mca mwy mla mmi mtf mtk, ((ma 1), .inl (d 0, 6, .inl mHO)), ((ma 2), .inl (d 0, 6, .inl mAT)), ((ma 3), .inl (d 0, 6, .inl mTO)), ((ma 4), .inl (d 0, 6, .inl mWE)), ((ma 5), .inl (d 0, 6, .inl mHE)), ((ma 6), .inl (d 0, 6, .inl mRA)), ((sa 2), .inl (d 1, 110, .inl TA))]) (rest := [.ref ra]) [.ref (cs 1)] hX cx hw hl.1 (mX12_sortOf l  D d cs wi ln lf dk dn him ra sa ma rz q22.1 q22.2.1 q22.2.2.1 q22.2.2.2 hstr q24 hcq24) (lw_V q603 q605 qs11 q104 q606) hd_X12_sortOf ⟨(Nat.le_of_ble_eq_true rfl), (Nat.le_of_ble_eq_true rfl)⟩ (va_recv hK hw.1 (ci := 11) (q0 := 8) rfl rfl) rfl rfl (Nat.le_of_ble_eq_true rfl) dX12_all_71 [8] [0, 1, 2, 3, 4, 5, 6, 7, 9] rfl rfl rfl rfl (by decide) ⟨(Nat.le_of_ble_eq_true rfl), (Nat.le_of_ble_eq_true rfl)⟩ (fun r u H locs hp hw => ?_)
            have hw : Wd D A s [(mla, .inr (3, [.int lm, .ref (cs 0), .int 0])), oH ma q10.1 q14.1 q18.1 mca mwy mla mmi mtf mtk, ((ma 1), .inl (d 0, 6, .inl mHO)), ((ma 2), .inl (d 0, 6, .inl mAT)), ((ma 3), .inl (d 0, 6, .inl mTO)), ((ma 4), .inl (d 0, 6, .inl mWE)), ((ma 5), .inl (d 0, 6, .inl mHE)), ((ma 6), .inl (d 0, 6, .inl mRA)), ((sa 2), .inl (d 1, 110, .inl TA)), (ra, .inr (11, [.ref (sa 2), .int rz, .int q22.1, .int q22.2.1, .int q22.2.2.1, .int q22.2.2.2, .ref (ma 0)]))] H locs := hw
            subst r
            refine lv_ldc (v := (-1000000)) hx hb hown (hts _ q553) dX12_all_74 ?_
            obtain ⟨j25, hjA, hjR⟩ := op_e hf
            refine x_join (A := A) (D := D) (J := 84) (nL := 2) (cells' := 0) (slots' := 0) (st := [.int j25, .ref ra]) [(mla, .inr (3, [.int lm, .ref (cs 0), .int 0])), oH ma q10.1 q14.1 q18.1 mca mwy mla mmi mtf mtk, ((ma 1), .inl (d 0, 6, .inl mHO)), ((ma 2), .inl (d 0, 6, .inl mAT)), ((ma 3), .inl (d 0, 6, .inl mTO)), ((ma 4), .inl (d 0, 6, .inl mWE)), ((ma 5), .inl (d 0, 6, .inl mHE)), ((ma 6), .inl (d 0, 6, .inl mRA)), (ra, .inr (11, [.ref (sa 2), .int rz, .int q22.1, .int q22.2.1, .int q22.2.2.1, .int q22.2.2.2, .ref (ma 0)])), ((sa 2), .inl (d 1, 110, .inl TA))] [(0, .ref ra)] (fun H locs ls hw hl => ?_) (fun hKj84_j25 => ?_)
            · have hf := hjR
              refine lv_iconst (v := 1) hx hb dX12_all_84 (by decide) ?_
              obtain ⟨r27, hcr27, hf⟩ := op_e hf
              rcases r27 with q28 | e29
              · refine x_VV (wr := [(mla, .inr (3, [.int lm, .ref (cs 0), .int 0])), oH ma q10.1 q14.1 q18.1 mca mwy mla mmi mtf mtk, ((ma 1), .inl (d 0, 6, .inl mHO)), ((ma 2), .inl (d 0, 6, .inl mAT)), ((ma 3), .inl (d 0, 6, .inl mTO)), ((ma 4), .inl (d 0, 6, .inl mWE)), ((ma 5), .inl (d 0, 6, .inl mHE)), ((ma 6), .inl (d 0, 6, .inl mRA)), ((sa 2), .inl (d 1, 110, .inl TA))]) (rest := []) [.int j25, .int 1] hX cx hw hl.1 (mX12_must l D d cs wi ln lf dk dn him ra sa ma rz q22.1 q22.2.1 q22.2.2.1 q22.2.2.2 j25 1  q28 hcr27) (lw_V q563 q565 qs7 q104 q566) hd_X12_must ⟨(Nat.le_of_ble_eq_true rfl), (Nat.le_of_ble_eq_true rfl)⟩ (va_recv hK hw.1 (ci := 11) (q0 := 8) rfl rfl) rfl rfl (Nat.le_of_ble_eq_true rfl) dX12_all_85 [8] [0, 1, 2, 3, 4, 5, 6, 7, 9] rfl rfl rfl rfl (by decide) ⟨(Nat.le_of_ble_eq_true rfl), (Nat.le_of_ble_eq_true rfl)⟩ (fun u H locs hp hw => ?_)
                have hw : Wd D A s [(mla, .inr (3, [.int lm, .ref (cs 0), .int 0])), oH ma q10.1 q14.1 q18.1 mca mwy mla mmi mtf mtk, ((ma 1), .inl (d 0, 6, .inl mHO)), ((ma 2), .inl (d 0, 6, .inl mAT)), ((ma 3), .inl (d 0, 6, .inl mTO)), ((ma 4), .inl (d 0, 6, .inl mWE)), ((ma 5), .inl (d 0, 6, .inl mHE)), ((ma 6), .inl (d 0, 6, .inl mRA)), ((sa 2), .inl (d 1, 110, .inl TA)), (ra, .inr (11, [.ref (sa 2), .int rz, .int q22.1, .int q22.2.1, .int q22.2.2.1, .int q22.2.2.2, .ref (ma 0)]))] H locs := hw
                obtain ⟨r88, hc88, hf⟩ := op_e hf
                rcases r88 with y88 | e88
                · cases hf
                · have hf := Sum.inr.inj (sm_e hf)
                  subst hf
                  exact all_L0_thr ln lf dk dn him hstr hemp sa ma ra mla rz q10.1 q14.1 q18.1 mca mwy mmi mtf mtk mHO mRA TA e88 cx hET mAT mTO mWE mHE q22.1 q22.2.1 q22.2.2.1 q22.2.2.2 lm rfl rfl hc88 (hw.sub [9, 8, 0, 1, 2, 3, 4, 5, 6, 7] rfl rfl) (lv_sub hl [0] rfl)
              · have hf : (some (.inr e29) : Option ((Int32 × Int32 × Int32 × YY) ⊕ (Int32 × Int32))) = some (.inr res) := hf
                have hf := Sum.inr.inj (sm_e hf)
                subst hf
                refine x_TV (wr := [(mla, .inr (3, [.int lm, .ref (cs 0), .int 0])), oH ma q10.1 q14.1 q18.1 mca mwy mla mmi mtf mtk, ((ma 1), .inl (d 0, 6, .inl mHO)), ((ma 2), .inl (d 0, 6, .inl mAT)), ((ma 3), .inl (d 0, 6, .inl mTO)), ((ma 4), .inl (d 0, 6, .inl mWE)), ((ma 5), .inl (d 0, 6, .inl mHE)), ((ma 6), .inl (d 0, 6, .inl mRA)), ((sa 2), .inl (d 1, 110, .inl TA))]) (rest := []) [.int j25, .int 1] hX cx hw hl.1 (tX12_must l D d cs wi ln lf dk dn him ra sa ma rz q22.1 q22.2.1 q22.2.2.1 q22.2.2.2 j25 1  e29 hcr27) (lw_V q563 q565 qs7 q104 q566) hd_X12_must ⟨(Nat.le_of_ble_eq_true rfl), (Nat.le_of_ble_eq_true rfl)⟩ (va_recv hK hw.1 (ci := 11) (q0 := 8) rfl rfl) rfl rfl (Nat.le_of_ble_eq_true rfl) dX12_all_85 [8] [0, 1, 2, 3, 4, 5, 6, 7, 9] rfl rfl rfl rfl (by decide) ⟨(Nat.le_of_ble_eq_true rfl), (Nat.le_of_ble_eq_true rfl)⟩ (fun a26 ce u H locs hw g1 g2 g3 => ?_)
                have hw : Wd D A s [(mla, .inr (3, [.int lm, .ref (cs 0), .int 0])), oH ma q10.1 q14.1 q18.1 mca mwy mla mmi mtf mtk, ((ma 1), .inl (d 0, 6, .inl mHO)), ((ma 2), .inl (d 0, 6, .inl mAT)), ((ma 3), .inl (d 0, 6, .inl mTO)), ((ma 4), .inl (d 0, 6, .inl mWE)), ((ma 5), .inl (d 0, 6, .inl mHE)), ((ma 6), .inl (d 0, 6, .inl mRA)), ((sa 2), .inl (d 1, 110, .inl TA)), (a26, .inr (13, [.null, .null, .null, .null, .null, .int 0, .int e29.1, .int e29.2]))] H locs := hw
                exact x_out cx hET hw () g1 g2 g3 [8, 9] rfl rfl (Nat.le_of_ble_eq_true rfl) (Nat.le_of_ble_eq_true rfl)
            · have hf := hjA
              refine lv_icmp_eq (tgt := 83) hx hb dX12_all_76 (by decide) (fun c76 => ?_) (fun c76 => ?_)
              · have hf := if_t hf c76
                refine lv_iconst (v := 0) hx hb dX12_all_83 (by decide) ?_
                have hf := sm_e hf
                subst hf
                exact hKj84_j25 _ _ _ (hw.sub [0, 1, 2, 3, 4, 5, 6, 7, 9, 8] rfl rfl) (lv_sub hl [1] rfl)
              · have hf := if_f hf c76
                refine lv_iconst (v := 1) hx hb dX12_all_79 (by decide) ?_
                refine lv_goto (tgt := 84) hx hb dX12_all_80 (by decide) ?_
                have hf := sm_e hf
                subst hf
                exact hKj84_j25 _ _ _ (hw.sub [0, 1, 2, 3, 4, 5, 6, 7, 9, 8] rfl rfl) (lv_sub hl [1] rfl)
          · have hf : (some (.inr e23) : Option ((Int32 × Int32 × Int32 × YY) ⊕ (Int32 × Int32))) = some (.inr res) := hf
            have hf := Sum.inr.inj (sm_e hf)
            subst hf
            refine x_TV (wr := [(mla, .inr (3, [.int lm, .ref (cs 0), .int 0])), oH ma mfl q14.1 q18.1 mca mwy mla mmi mtf mtk, ((ma 1), .inl (d 0, 6, .inl mHO)), ((ma 2), .inl (d 0, 6, .inl mAT)), ((ma 3), .inl (d 0, 6, .inl mTO)), ((ma 4), .inl (d 0, 6, .inl mWE)), ((ma 5), .inl (d 0, 6, .inl mHE)), ((ma 6), .inl (d 0, 6, .inl mRA))]) (rest := []) [.int 4] hX cx hw hl.1 (tX12_sign l D d cs wi ln lf dk dn him ra sa ma rz q18.2.1 q18.2.2.1 q18.2.2.2.1 q18.2.2.2.2 TA 4  e23 hcr21) (lw_V q598 q600 qs10 q104 q601) hd_X12_sign ⟨(Nat.le_of_ble_eq_true rfl), (Nat.le_of_ble_eq_true rfl)⟩ (va_recv hK hw.1 (ci := 11) (q0 := 8) rfl rfl) rfl rfl (Nat.le_of_ble_eq_true rfl) dX12_all_56 [8, 9] [0, 1, 2, 3, 4, 5, 6, 7] rfl rfl rfl rfl (by decide) ⟨(Nat.le_of_ble_eq_true rfl), (Nat.le_of_ble_eq_true rfl)⟩ (fun a20 ce u H locs hw g1 g2 g3 => ?_)
            have hw : Wd D A s [(mla, .inr (3, [.int lm, .ref (cs 0), .int 0])), oH ma mfl q14.1 q18.1 mca mwy mla mmi mtf mtk, ((ma 1), .inl (d 0, 6, .inl mHO)), ((ma 2), .inl (d 0, 6, .inl mAT)), ((ma 3), .inl (d 0, 6, .inl mTO)), ((ma 4), .inl (d 0, 6, .inl mWE)), ((ma 5), .inl (d 0, 6, .inl mHE)), ((ma 6), .inl (d 0, 6, .inl mRA)), ((sa 2), .inl (d 1, 110, .inl TA)), (a20, .inr (13, [.null, .null, .null, .null, .null, .int 0, .int e23.1, .int e23.2]))] H locs := hw
            exact x_out cx hET hw () g1 g2 g3 [8, 9] rfl rfl (Nat.le_of_ble_eq_true rfl) (Nat.le_of_ble_eq_true rfl)
        · have hf : (some (.inr e19) : Option ((Int32 × Int32 × Int32 × YY) ⊕ (Int32 × Int32))) = some (.inr res) := hf
          have hf := Sum.inr.inj (sm_e hf)
          subst hf
          refine x_TV (wr := [(mla, .inr (3, [.int lm, .ref (cs 0), .int 0])), oH ma mfl q14.1 mrp mca mwy mla mmi mtf mtk, ((ma 1), .inl (d 0, 6, .inl mHO)), ((ma 2), .inl (d 0, 6, .inl mAT)), ((ma 3), .inl (d 0, 6, .inl mTO)), ((ma 4), .inl (d 0, 6, .inl mWE)), ((ma 5), .inl (d 0, 6, .inl mHE)), ((ma 6), .inl (d 0, 6, .inl mRA))]) (rest := [.ref (ma 0)]) [.int 1, .int 40] hX cx hw hl.1 (tX12_more l D d cs wi ln lf dk dn him ra sa ma rz q14.2.1 q14.2.2.1 q14.2.2.2.1 q14.2.2.2.2 TA 1 40  e19 hcr17) (lw_V q594 q596 qs9 q104 q597) hd_X12_more ⟨(Nat.le_of_ble_eq_true rfl), (Nat.le_of_ble_eq_true rfl)⟩ (va_recv hK hw.1 (ci := 11) (q0 := 8) rfl rfl) rfl rfl (Nat.le_of_ble_eq_true rfl) dX12_all_48 [8, 9] [0, 1, 2, 3, 4, 5, 6, 7] rfl rfl rfl rfl (by decide) ⟨(Nat.le_of_ble_eq_true rfl), (Nat.le_of_ble_eq_true rfl)⟩ (fun a16 ce u H locs hw g1 g2 g3 => ?_)
          have hw : Wd D A s [(mla, .inr (3, [.int lm, .ref (cs 0), .int 0])), oH ma mfl q14.1 mrp mca mwy mla mmi mtf mtk, ((ma 1), .inl (d 0, 6, .inl mHO)), ((ma 2), .inl (d 0, 6, .inl mAT)), ((ma 3), .inl (d 0, 6, .inl mTO)), ((ma 4), .inl (d 0, 6, .inl mWE)), ((ma 5), .inl (d 0, 6, .inl mHE)), ((ma 6), .inl (d 0, 6, .inl mRA)), ((sa 2), .inl (d 1, 110, .inl TA)), (a16, .inr (13, [.null, .null, .null, .null, .null, .int 0, .int e19.1, .int e19.2]))] H locs := hw
          exact x_out cx hET hw () g1 g2 g3 [8, 9] rfl rfl (Nat.le_of_ble_eq_true rfl) (Nat.le_of_ble_eq_true rfl)
      · have hf : (some (.inr e15) : Option ((Int32 × Int32 × Int32 × YY) ⊕ (Int32 × Int32))) = some (.inr res) := hf
        have hf := Sum.inr.inj (sm_e hf)
        subst hf
        refine x_TV (wr := [(mla, .inr (3, [.int lm, .ref (cs 0), .int 0])), oH ma mfl mro mrp mca mwy mla mmi mtf mtk, ((ma 1), .inl (d 0, 6, .inl mHO)), ((ma 2), .inl (d 0, 6, .inl mAT)), ((ma 3), .inl (d 0, 6, .inl mTO)), ((ma 4), .inl (d 0, 6, .inl mWE)), ((ma 5), .inl (d 0, 6, .inl mHE)), ((ma 6), .inl (d 0, 6, .inl mRA))]) (rest := [.ref (ma 0)]) [.int 1, .int 4] hX cx hw hl.1 (tX12_more l D d cs wi ln lf dk dn him ra sa ma rz q10.2.1 q10.2.2.1 q10.2.2.2.1 q10.2.2.2.2 TA 1 4  e15 hcr13) (lw_V q594 q596 qs9 q104 q597) hd_X12_more ⟨(Nat.le_of_ble_eq_true rfl), (Nat.le_of_ble_eq_true rfl)⟩ (va_recv hK hw.1 (ci := 11) (q0 := 8) rfl rfl) rfl rfl (Nat.le_of_ble_eq_true rfl) dX12_all_34 [8, 9] [0, 1, 2, 3, 4, 5, 6, 7] rfl rfl rfl rfl (by decide) ⟨(Nat.le_of_ble_eq_true rfl), (Nat.le_of_ble_eq_true rfl)⟩ (fun a12 ce u H locs hw g1 g2 g3 => ?_)
        have hw : Wd D A s [(mla, .inr (3, [.int lm, .ref (cs 0), .int 0])), oH ma mfl mro mrp mca mwy mla mmi mtf mtk, ((ma 1), .inl (d 0, 6, .inl mHO)), ((ma 2), .inl (d 0, 6, .inl mAT)), ((ma 3), .inl (d 0, 6, .inl mTO)), ((ma 4), .inl (d 0, 6, .inl mWE)), ((ma 5), .inl (d 0, 6, .inl mHE)), ((ma 6), .inl (d 0, 6, .inl mRA)), ((sa 2), .inl (d 1, 110, .inl TA)), (a12, .inr (13, [.null, .null, .null, .null, .null, .int 0, .int e15.1, .int e15.2]))] H locs := hw
        exact x_out cx hET hw () g1 g2 g3 [8, 9] rfl rfl (Nat.le_of_ble_eq_true rfl) (Nat.le_of_ble_eq_true rfl)
    · have hf : (some (.inr e11) : Option ((Int32 × Int32 × Int32 × YY) ⊕ (Int32 × Int32))) = some (.inr res) := hf
      have hf := Sum.inr.inj (sm_e hf)
      subst hf
      refine x_TV (wr := [(mla, .inr (3, [.int lm, .ref (cs 0), .int 0])), oH ma mfl mro mrp mca mwy mla mmi mtf mtk, ((ma 1), .inl (d 0, 6, .inl mHO)), ((ma 2), .inl (d 0, 6, .inl mAT)), ((ma 3), .inl (d 0, 6, .inl mTO)), ((ma 4), .inl (d 0, 6, .inl mWE)), ((ma 5), .inl (d 0, 6, .inl mHE)), ((ma 6), .inl (d 0, 6, .inl mRA))]) (rest := []) [.int 2, .int 9] hX cx hw hl.1 (tX12_figure l D d cs wi ln lf dk dn him ra sa ma rz q7.1 q7.2.1 q7.2.2.1 q7.2.2.2 TA 2 9  e11 hcr9) (lw_V q590 q592 qs8 q104 q593) hd_X12_figure ⟨(Nat.le_of_ble_eq_true rfl), (Nat.le_of_ble_eq_true rfl)⟩ (va_recv hK hw.1 (ci := 11) (q0 := 8) rfl rfl) rfl rfl (Nat.le_of_ble_eq_true rfl) dX12_all_23 [8, 9] [0, 1, 2, 3, 4, 5, 6, 7] rfl rfl rfl rfl (by decide) ⟨(Nat.le_of_ble_eq_true rfl), (Nat.le_of_ble_eq_true rfl)⟩ (fun a8 ce u H locs hw g1 g2 g3 => ?_)
      have hw : Wd D A s [(mla, .inr (3, [.int lm, .ref (cs 0), .int 0])), oH ma mfl mro mrp mca mwy mla mmi mtf mtk, ((ma 1), .inl (d 0, 6, .inl mHO)), ((ma 2), .inl (d 0, 6, .inl mAT)), ((ma 3), .inl (d 0, 6, .inl mTO)), ((ma 4), .inl (d 0, 6, .inl mWE)), ((ma 5), .inl (d 0, 6, .inl mHE)), ((ma 6), .inl (d 0, 6, .inl mRA)), ((sa 2), .inl (d 1, 110, .inl TA)), (a8, .inr (13, [.null, .null, .null, .null, .null, .int 0, .int e11.1, .int e11.2]))] H locs := hw
      exact x_out cx hET hw () g1 g2 g3 [8, 9] rfl rfl (Nat.le_of_ble_eq_true rfl) (Nat.le_of_ble_eq_true rfl)
  · have hf : (some (.inr e6) : Option ((Int32 × Int32 × Int32 × YY) ⊕ (Int32 × Int32))) = some (.inr res) := hf
    have hf := Sum.inr.inj (sm_e hf)
    subst hf
    refine x_TV (wr := [(mla, .inr (3, [.int lm, .ref (cs 0), .int 0])), oH ma mfl mro mrp mca mwy mla mmi mtf mtk, ((ma 1), .inl (d 0, 6, .inl mHO)), ((ma 2), .inl (d 0, 6, .inl mAT)), ((ma 3), .inl (d 0, 6, .inl mTO)), ((ma 4), .inl (d 0, 6, .inl mWE)), ((ma 5), .inl (d 0, 6, .inl mHE)), ((ma 6), .inl (d 0, 6, .inl mRA)), ((sa 2), .inl (d 1, 110, .inl TA))]) (rest := []) [.int q2, .int 1] hX cx hw hl.1 (tX12_must l D d cs wi ln lf dk dn him ra sa ma rz q1.1 q1.2.1 q1.2.2.1 q1.2.2.2 q2 1  e6 hcr4) (lw_V q563 q565 qs7 q104 q566) hd_X12_must ⟨(Nat.le_of_ble_eq_true rfl), (Nat.le_of_ble_eq_true rfl)⟩ (va_recv hK hw.1 (ci := 11) (q0 := 9) rfl rfl) rfl rfl (Nat.le_of_ble_eq_true rfl) dX12_all_12 [9] [0, 1, 2, 3, 4, 5, 6, 7, 8] rfl rfl rfl rfl (by decide) ⟨(Nat.le_of_ble_eq_true rfl), (Nat.le_of_ble_eq_true rfl)⟩ (fun a3 ce u H locs hw g1 g2 g3 => ?_)
    have hw : Wd D A s [(mla, .inr (3, [.int lm, .ref (cs 0), .int 0])), oH ma mfl mro mrp mca mwy mla mmi mtf mtk, ((ma 1), .inl (d 0, 6, .inl mHO)), ((ma 2), .inl (d 0, 6, .inl mAT)), ((ma 3), .inl (d 0, 6, .inl mTO)), ((ma 4), .inl (d 0, 6, .inl mWE)), ((ma 5), .inl (d 0, 6, .inl mHE)), ((ma 6), .inl (d 0, 6, .inl mRA)), ((sa 2), .inl (d 1, 110, .inl TA)), (a3, .inr (13, [.null, .null, .null, .null, .null, .int 0, .int e6.1, .int e6.2]))] H locs := hw
    exact x_out cx hET hw () g1 g2 g3 [8, 9] rfl rfl (Nat.le_of_ble_eq_true rfl) (Nat.le_of_ble_eq_true rfl)
