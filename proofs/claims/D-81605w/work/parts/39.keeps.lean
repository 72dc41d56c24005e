set_option maxRecDepth 100000
/-! KEEPING A HOUSE -/
def ghs (hs : Nat → Bool) (e : Nat) : Option Unit := if hs e = true then some () else none
theorem ghs_spec {hs : Nat → Bool} {e : Nat} {u : Unit} (h : ghs hs e = some u) : hs e = true := by
  unfold ghs at h
  split at h
  · assumption
  · cases h
theorem hhs_any {D : va_G} {d : Nat → ClassId} {cs : Nat → Nat} {wi ws : va_W} {A : Nat → Prop} {s : State} {H : Heap} {locs : List Loc} {hs : Nat → Bool} {e : Nat} (hhs : ∀ e, hs e = true → ∃ fs, (e, .inr (2, fs)) ∈ wi) (h : hs e = true) (hX : XI D cs wi A s s.heap) (hK : va_K D vwCl (tyA d) s) (hw : Wd D A s ws H locs) : va_Any "DishLift$House" s H e := by
  obtain ⟨fs, hm⟩ := hhs e h
  obtain ⟨k0, hk0⟩ := List.getElem?_of_mem hm
  have hcls := (hK.1 2 _ rfl).2
  refine va_rAny hK (XI.at hX hw) hk0 rfl (fun comp c0 h1 h2 => ?_)
  have e1 : comp = D.1 2 := Option.some.inj (h1.symm.trans hcls.1)
  have e2 : c0 = D.1 2 := Option.some.inj (h2.symm.trans hcls.1)
  rw [e1, e2]
  exact va_assign hcls

def fX0_keep_b18 (hs : Nat → Bool) (x18 : Int32 × (Nat → Option Nat)) : Option ((Int32 × (Nat → Option Nat)) ⊕ ((Nat → Option Nat))) :=
  if 24 ≤ x18.1 then
    some (.inr x18.2)
  else
    (rdq x18.2 24 x18.1).bind fun o13 =>
    o13.bind fun e14 =>
    (gix 24 (x18.1 - 1)).bind fun g15 =>
    (ghs hs e14).bind fun g16 =>
    some (.inl ((x18.1 + 1), (va_up x18.2 (x18.1 - 1).toNatClampNeg (some e14))))
def fX0_keep_1 (qa : Nat → Nat) (hs : Nat → Bool) (hv : HV) (qv : HV) (gc : Int32) (PA : Nat → Option Nat) : Option (HV × Int32 × (Nat → Option Nat)) :=
  (if gc = 24 then
    (rdq PA 24 0).bind fun o9 =>
    o9.bind fun e10 =>
    (eqa e10 (qa 0)).bind fun g11 =>
    (lp (fX0_keep_b18 hs) FU (1, PA)).bind fun r12 =>
    some ((gc - 1), (va_up r12 23 (some (qa 0))))
  else
    some (gc, PA) : Option (Int32 × (Nat → Option Nat))).bind fun j1 =>
  (rdq j1.2 24 j1.1).bind fun o2 =>
  (if o2 = none then
    none
  else
    some () : Option (Unit)).bind fun j4 =>
  (rdq j1.2 24 j1.1).bind fun o5 =>
  o5.bind fun e6 =>
  (eqa e6 (qa 0)).bind fun g7 =>
  (gX1_become qv hv).bind fun q8 =>
  some (q8, (j1.1 + 1), j1.2)
def fX0_keep_0 (hv : HV) (gc : Int32) (PA : Nat → Option Nat) : Option (Int32 × HV) :=
  if gc = 24 then
    none
  else
    (rdq PA 24 gc).bind fun o1 =>
    if o1 = none then
      (gix 24 gc).bind fun g4 =>
      (gX1_become (hv0 0) hv).bind fun q5 =>
      some ((gc + 1), q5)
    else
      none
theorem hd_X0_keep : yX0_keep.cls = "DishLift" ∧ yX0_keep.cls ≠ "java/lang/invoke/MethodHandle" ∧ yX0_keep.cls ≠ "java/lang/invoke/VarHandle" ∧ (parseMethodDescriptor yX0_keep.desc).map (fun d => d.parameters.length) = some 0 := by decide +kernel
set_option maxHeartbeats 4000000 in
theorem mX0_keep_1 (l : Launch) (D : va_G) (d : Nat → ClassId) (cs : Nat → Nat) (wi : va_W) (ln : Nat → Option Int32) (lf : Nat → Nat → Option Nat) (dk : Nat → Option Nat) (dn : Nat → Int32) (him : ImF d wi ln lf dk dn) (ha : Nat → Nat) (qa : Nat → Nat) (sa : Nat → Nat) (ta : Nat → Nat) (hs : Nat → Bool) (hv : HV) (qv : HV) (gt : Int32) (gf : Int32) (gc : Int32) (tra : Nat) (gs : Int32) (PA : Nat → Option Nat) (hhs : ∀ e, hs e = true → ∃ fs, (e, .inr (2, fs)) ∈ wi) (res : HV × Int32 × (Nat → Option Nat)) (hf : fX0_keep_1 qa hs hv qv gc PA = some res) : MetV l yX0_keep (ws_ yX0_keep cX0_keep 3 none) { frames := 2, cells := 0, slots := 0, locals := 61 } [.ref (sa 0)] (XI D cs wi) D d [oH ha (Hfl hv) (Hro hv) (Hrp hv) (Hca hv) (Hwy hv) (Hla hv) (Hmi hv) (Htf hv) (Htk hv), aV d ha 1 (HHO hv), aV d ha 2 (HAT hv), aV d ha 3 (HTO hv), aV d ha 4 (HWE hv), aV d ha 5 (HHE hv), aV d ha 6 (HRA hv), oH qa (Hfl qv) (Hro qv) (Hrp qv) (Hca qv) (Hwy qv) (Hla qv) (Hmi qv) (Htf qv) (Htk qv), aV d qa 1 (HHO qv), aV d qa 2 (HAT qv), aV d qa 3 (HTO qv), aV d qa 4 (HWE qv), aV d qa 5 (HHE qv), aV d qa 6 (HRA qv), oS sa ha ta gt gf gc tra gs, ((sa 3), .inl (d 4, 24, .inr (.inr (.inr (.inr PA)))))] (fun (_ : Unit) => True) (fun _ => [oH ha (Hfl hv) (Hro hv) (Hrp hv) (Hca hv) (Hwy hv) (Hla hv) (Hmi hv) (Htf hv) (Htk hv), aV d ha 1 (HHO hv), aV d ha 2 (HAT hv), aV d ha 3 (HTO hv), aV d ha 4 (HWE hv), aV d ha 5 (HHE hv), aV d ha 6 (HRA hv), oH qa (Hfl res.1) (Hro res.1) (Hrp res.1) (Hca res.1) (Hwy res.1) (Hla res.1) (Hmi res.1) (Htf res.1) (Htk res.1), aV d qa 1 (HHO res.1), aV d qa 2 (HAT res.1), aV d qa 3 (HTO res.1), aV d qa 4 (HWE res.1), aV d qa 5 (HHE res.1), aV d qa 6 (HRA res.1), oS sa ha ta gt gf res.2.1 tra gs, ((sa 3), .inl (d 4, 24, .inr (.inr (.inr (.inr res.2.2)))))]) := by
  have hX := XI.ok (D := D) (cs := cs) (wi := wi)
  refine MetV.of (by decide +kernel) (Nat.le_of_ble_eq_true rfl) ?_
  intro p e s m below meth c A cx hw ls hl
  have cx : Cx p s m _ meth c (XI D cs wi) D d A "DishLift" cX0_keep 3 none "keep" := cx
  have cx' := cx
  obtain ⟨hx, hb, hr, hlk, hml, hown, hts, hK, hA, hXs, hnm⟩ := cx'
  have hl : lv_has ls 3 [(0, .ref (sa 0))] := hl
  generalize hlo : ([] : List Loc) = locs at hw ⊢
  unfold fX0_keep_1 at hf
  refine lv_aload_n hx hb dX0_keep_0 rfl (lv_at hl 0 rfl) ?_
  refine va_get (ci := 1) (C := RX0) (T := TX0) (N := 14) hx hb hts in_X0 hown hK hw.1 14 rfl rfl 7 (by decide) (hts _ q301) (fun _ h9 => h9) rfl dX0_keep_1 ?_
  refine lv_bipush (v := 24) hx hb dX0_keep_4 (by decide) ?_
  obtain ⟨j1, hjA, hjR⟩ := op_e hf
  refine x_join (A := A) (D := D) (J := 62) (nL := 3) (cells' := 0) (slots' := 0) (st := []) [oH ha (Hfl hv) (Hro hv) (Hrp hv) (Hca hv) (Hwy hv) (Hla hv) (Hmi hv) (Htf hv) (Htk hv), aV d ha 1 (HHO hv), aV d ha 2 (HAT hv), aV d ha 3 (HTO hv), aV d ha 4 (HWE hv), aV d ha 5 (HHE hv), aV d ha 6 (HRA hv), oH qa (Hfl qv) (Hro qv) (Hrp qv) (Hca qv) (Hwy qv) (Hla qv) (Hmi qv) (Htf qv) (Htk qv), aV d qa 1 (HHO qv), aV d qa 2 (HAT qv), aV d qa 3 (HTO qv), aV d qa 4 (HWE qv), aV d qa 5 (HHE qv), aV d qa 6 (HRA qv), oS sa ha ta gt gf j1.1 tra gs, ((sa 3), .inl (d 4, 24, .inr (.inr (.inr (.inr j1.2)))))] [(0, .ref (sa 0))] (fun H locs ls hw hl => ?_) (fun hKj62_j1 => ?_)
  · have hf := hjR
    refine lv_aload_n hx hb dX0_keep_62 rfl (lv_at hl 0 rfl) ?_
    refine va_get (ci := 1) (C := RX0) (T := TX0) (N := 14) hx hb hts in_X0 hown hK hw.1 14 rfl rfl 6 (by decide) (hts _ q300) (fun _ h9 => h9) rfl dX0_keep_63 ?_
    refine lv_aload_n hx hb dX0_keep_66 rfl (lv_at hl 0 rfl) ?_
    refine va_get (ci := 1) (C := RX0) (T := TX0) (N := 14) hx hb hts in_X0 hown hK hw.1 14 rfl rfl 7 (by decide) (hts _ q301) (fun _ h9 => h9) rfl dX0_keep_67 ?_
    obtain ⟨o2, hrd, hf⟩ := op_e hf
    refine x_aald (q0 := 15) (t0 := 4) cx hw rfl rfl hrd dX0_keep_70 ?_
    obtain ⟨j4, hjA, hjR⟩ := op_e hf
    refine x_join (A := A) (D := D) (J := 90) (nL := 3) (cells' := 0) (slots' := 0) (st := []) [oH ha (Hfl hv) (Hro hv) (Hrp hv) (Hca hv) (Hwy hv) (Hla hv) (Hmi hv) (Htf hv) (Htk hv), aV d ha 1 (HHO hv), aV d ha 2 (HAT hv), aV d ha 3 (HTO hv), aV d ha 4 (HWE hv), aV d ha 5 (HHE hv), aV d ha 6 (HRA hv), oH qa (Hfl qv) (Hro qv) (Hrp qv) (Hca qv) (Hwy qv) (Hla qv) (Hmi qv) (Htf qv) (Htk qv), aV d qa 1 (HHO qv), aV d qa 2 (HAT qv), aV d qa 3 (HTO qv), aV d qa 4 (HWE qv), aV d qa 5 (HHE qv), aV d qa 6 (HRA qv), oS sa ha ta gt gf j1.1 tra gs, ((sa 3), .inl (d 4, 24, .inr (.inr (.inr (.inr j1.2)))))] [(0, .ref (sa 0))] (fun H locs ls hw hl => ?_) (fun hKj90_j4 => ?_)
    · have hf := hjR
      refine lv_aload_n hx hb dX0_keep_90 rfl (lv_at hl 0 rfl) ?_
      refine va_get (ci := 1) (C := RX0) (T := TX0) (N := 14) hx hb hts in_X0 hown hK hw.1 14 rfl rfl 6 (by decide) (hts _ q300) (fun _ h9 => h9) rfl dX0_keep_91 ?_
      refine lv_aload_n hx hb dX0_keep_94 rfl (lv_at hl 0 rfl) ?_
      refine va_get (ci := 1) (C := RX0) (T := TX0) (N := 14) hx hb hts in_X0 hown hK hw.1 14 rfl rfl 7 (by decide) (hts _ q301) (fun _ h9 => h9) rfl dX0_keep_95 ?_
      obtain ⟨o5, hrd, hf⟩ := op_e hf
      refine x_aald (q0 := 15) (t0 := 4) cx hw rfl rfl hrd dX0_keep_98 ?_
      obtain ⟨e6, ho, hf⟩ := op_e hf
      obtain ⟨g7, hgq, hf⟩ := op_e hf
      have hgq := eqa_spec hgq
      refine W.eq (g2 := F0 m 99 ls [.ref (qa 0)]) (by rw [ho, hgq]; rfl) ?_
      refine lv_aload_n hx hb dX0_keep_99 rfl (lv_at hl 0 rfl) ?_
      refine va_get (ci := 1) (C := RX0) (T := TX0) (N := 14) hx hb hts in_X0 hown hK hw.1 14 rfl rfl 4 (by decide) (hts _ q298) (fun _ h9 => h9) rfl dX0_keep_100 ?_
      obtain ⟨q8, hcq8, hf⟩ := op_e hf
      refine x_VA (wr := [oS sa ha ta gt gf j1.1 tra gs, ((sa 3), .inl (d 4, 24, .inr (.inr (.inr (.inr j1.2)))))]) (rest := []) [.ref (ha 0)] hX cx hw hl.1 (vX1_become l  D d cs wi ln lf dk dn him qa ha qv hv  q8 hcq8) (lw_V q750 q751 q752 q83 q753) hd_X1_become ⟨(Nat.le_of_ble_eq_true rfl), (Nat.le_of_ble_eq_true rfl)⟩ (va_recv hK hw.1 (ci := 2) (q0 := 7) rfl rfl) rfl rfl (Nat.le_of_ble_eq_true rfl) dX0_keep_103 [7, 8, 9, 10, 11, 12, 13, 0, 1, 2, 3, 4, 5, 6] [14, 15] rfl rfl rfl rfl (by decide) ⟨(Nat.le_of_ble_eq_true rfl), (Nat.le_of_ble_eq_true rfl)⟩ (fun u H locs hp hw => ?_)
      have hw : Wd D A s [oS sa ha ta gt gf j1.1 tra gs, ((sa 3), .inl (d 4, 24, .inr (.inr (.inr (.inr j1.2))))), oH qa (Hfl q8) (Hro q8) (Hrp q8) (Hca q8) (Hwy q8) (Hla q8) (Hmi q8) (Htf q8) (Htk q8), aV d qa 1 (HHO q8), aV d qa 2 (HAT q8), aV d qa 3 (HTO q8), aV d qa 4 (HWE q8), aV d qa 5 (HHE q8), aV d qa 6 (HRA q8), oH ha (Hfl hv) (Hro hv) (Hrp hv) (Hca hv) (Hwy hv) (Hla hv) (Hmi hv) (Htf hv) (Htk hv), aV d ha 1 (HHO hv), aV d ha 2 (HAT hv), aV d ha 3 (HTO hv), aV d ha 4 (HWE hv), aV d ha 5 (HHE hv), aV d ha 6 (HRA hv)] H locs := hw
      refine lv_pop hx hb dX0_keep_106 rfl ?_
      refine lv_aload_n hx hb dX0_keep_107 rfl (lv_at hl 0 rfl) ?_
      refine lv_dup hx hb dX0_keep_108 rfl ?_
      refine va_get (ci := 1) (C := RX0) (T := TX0) (N := 14) hx hb hts in_X0 hown hK hw.1 0 rfl rfl 7 (by decide) (hts _ q301) (fun _ h9 => h9) rfl dX0_keep_109 ?_
      refine lv_iconst (v := 1) hx hb dX0_keep_112 (by decide) ?_
      refine lv_iadd hx hb dX0_keep_113 ?_
      refine va_put (ci := 1) (v := .int (j1.1 + 1)) (ty := .int) (C := RX0) (T := TX0) (N := 14) hx hb hts in_X0 tyX0 tyX0_ok nmX0 hown hK hw.1 hw.2.1 hw.2.2 0 rfl rfl 7 (by decide) (hts _ q301) (fun _ h9 => h9) rfl (by decide +kernel) rfl rfl (Nat.le_of_ble_eq_true rfl) dX0_keep_114 (fun H locs hP hD hS => ?_)
      have hw : Wd D A s [oS sa ha ta gt gf (j1.1 + 1) tra gs, ((sa 3), .inl (d 4, 24, .inr (.inr (.inr (.inr j1.2))))), oH qa (Hfl q8) (Hro q8) (Hrp q8) (Hca q8) (Hwy q8) (Hla q8) (Hmi q8) (Htf q8) (Htk q8), aV d qa 1 (HHO q8), aV d qa 2 (HAT q8), aV d qa 3 (HTO q8), aV d qa 4 (HWE q8), aV d qa 5 (HHE q8), aV d qa 6 (HRA q8), oH ha (Hfl hv) (Hro hv) (Hrp hv) (Hca hv) (Hwy hv) (Hla hv) (Hmi hv) (Htf hv) (Htk hv), aV d ha 1 (HHO hv), aV d ha 2 (HAT hv), aV d ha 3 (HTO hv), aV d ha 4 (HWE hv), aV d ha 5 (HHE hv), aV d ha 6 (HRA hv)] H locs := ⟨hP, hD, hS⟩
      have hf := sm_e hf
      subst hf
      exact x_retV cx hw () trivial [9, 10, 11, 12, 13, 14, 15, 2, 3, 4, 5, 6, 7, 8, 0, 1] rfl rfl (Nat.le_of_ble_eq_true rfl) (Nat.le_of_ble_eq_true rfl) dX0_keep_117
    · have hf := hjA
      by_cases c71 : o2 = none
      · have hf := if_t hf c71
        refine W.eq (g2 := F0 m 71 ls [.null]) (by rw [c71]; rfl) ?_
        refine lv_ifnonnullN hx hb dX0_keep_71 ?_
        cases hf
      · have hf := if_f hf c71
        obtain ⟨e3, hee3⟩ := Option.ne_none_iff_exists'.mp c71
        refine W.eq (g2 := F0 m 71 ls [.ref e3]) (by rw [hee3]; rfl) ?_
        refine lv_ifnonnull (tgt := 90) hx hb dX0_keep_71 (by decide) ?_
        have hf := sm_e hf
        subst hf
        exact hKj90_j4 _ _ _ hw hl
  · have hf := hjA
    refine lv_icmp_ne (tgt := 62) hx hb dX0_keep_6 (by decide) (fun c6 => ?_) (fun c6 => ?_)
    · have hf := if_f hf c6
      have hf := sm_e hf
      subst hf
      exact hKj62_j1 _ _ _ hw hl
    · have hf := if_t hf c6
      refine lv_aload_n hx hb dX0_keep_9 rfl (lv_at hl 0 rfl) ?_
      refine va_get (ci := 1) (C := RX0) (T := TX0) (N := 14) hx hb hts in_X0 hown hK hw.1 14 rfl rfl 6 (by decide) (hts _ q300) (fun _ h9 => h9) rfl dX0_keep_10 ?_
      refine lv_iconst (v := 0) hx hb dX0_keep_13 (by decide) ?_
      obtain ⟨o9, hrd, hf⟩ := op_e hf
      refine x_aald (q0 := 15) (t0 := 4) cx hw rfl rfl hrd dX0_keep_14 ?_
      obtain ⟨e10, ho, hf⟩ := op_e hf
      obtain ⟨g11, hgq, hf⟩ := op_e hf
      have hgq := eqa_spec hgq
      refine W.eq (g2 := F0 m 15 ls [.ref (qa 0)]) (by rw [ho, hgq]; rfl) ?_
      refine lv_astore_n (lv' := [(1, .ref (qa 0)), (0, .ref (sa 0))]) hx hb dX0_keep_15 rfl hl (by decide) rfl (fun ls hl => ?_)
      refine lv_iconst (v := 1) hx hb dX0_keep_16 (by decide) ?_
      refine lv_istore_n (lv' := [(2, .int 1), (1, .ref (qa 0)), (0, .ref (sa 0))]) hx hb dX0_keep_17 rfl hl (by decide) rfl (fun ls hl => ?_)
      obtain ⟨r12, hlp18, hf⟩ := op_e hf
      refine x_join (A := A) (D := D) (J := 44) (nL := 3) (cells' := 0) (slots' := 0) (st := []) [oH ha (Hfl hv) (Hro hv) (Hrp hv) (Hca hv) (Hwy hv) (Hla hv) (Hmi hv) (Htf hv) (Htk hv), aV d ha 1 (HHO hv), aV d ha 2 (HAT hv), aV d ha 3 (HTO hv), aV d ha 4 (HWE hv), aV d ha 5 (HHE hv), aV d ha 6 (HRA hv), oH qa (Hfl qv) (Hro qv) (Hrp qv) (Hca qv) (Hwy qv) (Hla qv) (Hmi qv) (Htf qv) (Htk qv), aV d qa 1 (HHO qv), aV d qa 2 (HAT qv), aV d qa 3 (HTO qv), aV d qa 4 (HWE qv), aV d qa 5 (HHE qv), aV d qa 6 (HRA qv), oS sa ha ta gt gf gc tra gs, ((sa 3), .inl (d 4, 24, .inr (.inr (.inr (.inr r12)))))] [(0, .ref (sa 0)), (1, .ref (qa 0))] (fun H locs ls hw hl => ?_) (fun hK18 => ?_)
      · refine lv_aload_n hx hb dX0_keep_44 rfl (lv_at hl 0 rfl) ?_
        refine va_get (ci := 1) (C := RX0) (T := TX0) (N := 14) hx hb hts in_X0 hown hK hw.1 14 rfl rfl 6 (by decide) (hts _ q300) (fun _ h9 => h9) rfl dX0_keep_45 ?_
        refine lv_bipush (v := 23) hx hb dX0_keep_48 (by decide) ?_
        refine lv_aload_n hx hb dX0_keep_50 rfl (lv_at hl 1 rfl) ?_
        refine va_astq hx hb hK hw.1 hw.2.1 hw.2.2 15 4 7 2 rfl rfl rfl rfl (i := 23) (by unfold vp_in; decide) dX0_keep_51 (fun H locs hP hD hS => ?_)
        have hw : Wd D A s [oH ha (Hfl hv) (Hro hv) (Hrp hv) (Hca hv) (Hwy hv) (Hla hv) (Hmi hv) (Htf hv) (Htk hv), aV d ha 1 (HHO hv), aV d ha 2 (HAT hv), aV d ha 3 (HTO hv), aV d ha 4 (HWE hv), aV d ha 5 (HHE hv), aV d ha 6 (HRA hv), oH qa (Hfl qv) (Hro qv) (Hrp qv) (Hca qv) (Hwy qv) (Hla qv) (Hmi qv) (Htf qv) (Htk qv), aV d qa 1 (HHO qv), aV d qa 2 (HAT qv), aV d qa 3 (HTO qv), aV d qa 4 (HWE qv), aV d qa 5 (HHE qv), aV d qa 6 (HRA qv), oS sa ha ta gt gf gc tra gs, ((sa 3), .inl (d 4, 24, .inr (.inr (.inr (.inr (va_up r12 23 (some (qa 0))))))))] H locs := ⟨hP, hD, hS⟩
        refine lv_aload_n hx hb dX0_keep_52 rfl (lv_at hl 0 rfl) ?_
        refine lv_dup hx hb dX0_keep_53 rfl ?_
        refine va_get (ci := 1) (C := RX0) (T := TX0) (N := 14) hx hb hts in_X0 hown hK hw.1 14 rfl rfl 7 (by decide) (hts _ q301) (fun _ h9 => h9) rfl dX0_keep_54 ?_
        refine lv_iconst (v := 1) hx hb dX0_keep_57 (by decide) ?_
        refine lv_isub hx hb dX0_keep_58 ?_
        refine va_put (ci := 1) (v := .int (gc - 1)) (ty := .int) (C := RX0) (T := TX0) (N := 14) hx hb hts in_X0 tyX0 tyX0_ok nmX0 hown hK hw.1 hw.2.1 hw.2.2 14 rfl rfl 7 (by decide) (hts _ q301) (fun _ h9 => h9) rfl (by decide +kernel) rfl rfl (Nat.le_of_ble_eq_true rfl) dX0_keep_59 (fun H locs hP hD hS => ?_)
        have hw : Wd D A s [oH ha (Hfl hv) (Hro hv) (Hrp hv) (Hca hv) (Hwy hv) (Hla hv) (Hmi hv) (Htf hv) (Htk hv), aV d ha 1 (HHO hv), aV d ha 2 (HAT hv), aV d ha 3 (HTO hv), aV d ha 4 (HWE hv), aV d ha 5 (HHE hv), aV d ha 6 (HRA hv), oH qa (Hfl qv) (Hro qv) (Hrp qv) (Hca qv) (Hwy qv) (Hla qv) (Hmi qv) (Htf qv) (Htk qv), aV d qa 1 (HHO qv), aV d qa 2 (HAT qv), aV d qa 3 (HTO qv), aV d qa 4 (HWE qv), aV d qa 5 (HHE qv), aV d qa 6 (HRA qv), oS sa ha ta gt gf (gc - 1) tra gs, ((sa 3), .inl (d 4, 24, .inr (.inr (.inr (.inr (va_up r12 23 (some (qa 0))))))))] H locs := ⟨hP, hD, hS⟩
        have hf := sm_e hf
        subst hf
        exact hKj62_j1 _ _ _ hw (lv_sub hl [0] rfl)
      · refine x_lp hlp18 (fun x18 => [oH ha (Hfl hv) (Hro hv) (Hrp hv) (Hca hv) (Hwy hv) (Hla hv) (Hmi hv) (Htf hv) (Htk hv), aV d ha 1 (HHO hv), aV d ha 2 (HAT hv), aV d ha 3 (HTO hv), aV d ha 4 (HWE hv), aV d ha 5 (HHE hv), aV d ha 6 (HRA hv), oH qa (Hfl qv) (Hro qv) (Hrp qv) (Hca qv) (Hwy qv) (Hla qv) (Hmi qv) (Htf qv) (Htk qv), aV d qa 1 (HHO qv), aV d qa 2 (HAT qv), aV d qa 3 (HTO qv), aV d qa 4 (HWE qv), aV d qa 5 (HHE qv), aV d qa 6 (HRA qv), oS sa ha ta gt gf gc tra gs, ((sa 3), .inl (d 4, 24, .inr (.inr (.inr (.inr x18.2)))))]) (fun x18 => [(0, .ref (sa 0)), (1, .ref (qa 0)), (2, .int x18.1)]) hw (lv_sub hl [2, 1, 0] rfl) (fun x18 y18 hf hin18 hout18 H locs ls hw hl => ?_)
        have hw : Wd D A s [oH ha (Hfl hv) (Hro hv) (Hrp hv) (Hca hv) (Hwy hv) (Hla hv) (Hmi hv) (Htf hv) (Htk hv), aV d ha 1 (HHO hv), aV d ha 2 (HAT hv), aV d ha 3 (HTO hv), aV d ha 4 (HWE hv), aV d ha 5 (HHE hv), aV d ha 6 (HRA hv), oH qa (Hfl qv) (Hro qv) (Hrp qv) (Hca qv) (Hwy qv) (Hla qv) (Hmi qv) (Htf qv) (Htk qv), aV d qa 1 (HHO qv), aV d qa 2 (HAT qv), aV d qa 3 (HTO qv), aV d qa 4 (HWE qv), aV d qa 5 (HHE qv), aV d qa 6 (HRA qv), oS sa ha ta gt gf gc tra gs, ((sa 3), .inl (d 4, 24, .inr (.inr (.inr (.inr x18.2)))))] H locs := hw
        have hl : lv_has ls 3 [(0, .ref (sa 0)), (1, .ref (qa 0)), (2, .int x18.1)] := hl
        refine lv_iload_n hx hb dX0_keep_18 rfl (lv_at hl 2 rfl) ?_
        refine lv_bipush (v := 24) hx hb dX0_keep_19 (by decide) ?_
        refine lv_icmp_ge (tgt := 44) hx hb dX0_keep_21 (by decide) (fun c21 => ?_) (fun c21 => ?_)
        · have hf := if_t hf c21
          have hf := sm_e hf
          subst hf
          have hz := hout18 _ rfl
          subst hz
          exact hK18 _ _ _ hw (lv_sub hl [0, 1] rfl)
        · have hf := if_f hf c21
          refine lv_aload_n hx hb dX0_keep_24 rfl (lv_at hl 0 rfl) ?_
          refine va_get (ci := 1) (C := RX0) (T := TX0) (N := 14) hx hb hts in_X0 hown hK hw.1 14 rfl rfl 6 (by decide) (hts _ q300) (fun _ h9 => h9) rfl dX0_keep_25 ?_
          refine lv_iload_n hx hb dX0_keep_28 rfl (lv_at hl 2 rfl) ?_
          refine lv_iconst (v := 1) hx hb dX0_keep_29 (by decide) ?_
          refine lv_isub hx hb dX0_keep_30 ?_
          refine lv_aload_n hx hb dX0_keep_31 rfl (lv_at hl 0 rfl) ?_
          refine va_get (ci := 1) (C := RX0) (T := TX0) (N := 14) hx hb hts in_X0 hown hK hw.1 14 rfl rfl 6 (by decide) (hts _ q300) (fun _ h9 => h9) rfl dX0_keep_32 ?_
          refine lv_iload_n hx hb dX0_keep_35 rfl (lv_at hl 2 rfl) ?_
          obtain ⟨o13, hrd, hf⟩ := op_e hf
          refine x_aald (q0 := 15) (t0 := 4) cx hw rfl rfl hrd dX0_keep_36 ?_
          obtain ⟨e14, ho, hf⟩ := op_e hf
          refine W.eq (g2 := F0 m 37 ls [.ref e14, .int (x18.1 - 1), .ref (sa 3)]) (by rw [ho]; rfl) ?_
          obtain ⟨g15, hgi, hf⟩ := op_e hf
          obtain ⟨g16, hgs, hf⟩ := op_e hf
          refine va_astqM hx hb hK hw.1 hw.2.1 hw.2.2 15 4 rfl rfl (hhs_any hhs (ghs_spec hgs) hXs hK hw) (gix_spec hgi) dX0_keep_37 (fun H locs hP hD hS => ?_)
          have hw : Wd D A s [oH ha (Hfl hv) (Hro hv) (Hrp hv) (Hca hv) (Hwy hv) (Hla hv) (Hmi hv) (Htf hv) (Htk hv), aV d ha 1 (HHO hv), aV d ha 2 (HAT hv), aV d ha 3 (HTO hv), aV d ha 4 (HWE hv), aV d ha 5 (HHE hv), aV d ha 6 (HRA hv), oH qa (Hfl qv) (Hro qv) (Hrp qv) (Hca qv) (Hwy qv) (Hla qv) (Hmi qv) (Htf qv) (Htk qv), aV d qa 1 (HHO qv), aV d qa 2 (HAT qv), aV d qa 3 (HTO qv), aV d qa 4 (HWE qv), aV d qa 5 (HHE qv), aV d qa 6 (HRA qv), oS sa ha ta gt gf gc tra gs, ((sa 3), .inl (d 4, 24, .inr (.inr (.inr (.inr (va_up x18.2 (x18.1 - 1).toNatClampNeg (some e14)))))))] H locs := ⟨hP, hD, hS⟩
          refine lv_iinc (v := (x18.1 + 1)) (lv' := [(2, .int (x18.1 + 1)), (0, .ref (sa 0)), (1, .ref (qa 0))]) hx hb dX0_keep_38 hl (k := 2) rfl (by first | rfl | decide) (by decide) rfl (fun ls hl => ?_)
          refine lv_goto (tgt := 18) hx hb dX0_keep_41 (by decide) ?_
          have hf := sm_e hf
          subst hf
          exact hin18 _ rfl _ _ _ hw (lv_sub hl [1, 2, 0] rfl)
set_option maxHeartbeats 4000000 in
theorem mX0_keep_0 (l : Launch) (D : va_G) (d : Nat → ClassId) (cs : Nat → Nat) (wi : va_W) (ln : Nat → Option Int32) (lf : Nat → Nat → Option Nat) (dk : Nat → Option Nat) (dn : Nat → Int32) (him : ImF d wi ln lf dk dn) (ha : Nat → Nat) (sa : Nat → Nat) (ta : Nat → Nat) (hv : HV) (gt : Int32) (gf : Int32) (gc : Int32) (tra : Nat) (gs : Int32) (PA : Nat → Option Nat)  (res : Int32 × HV) (hf : fX0_keep_0 hv gc PA = some res) : MetV l yX0_keep (ws_ yX0_keep cX0_keep 3 none) { frames := 5, cells := 8, slots := 54, locals := 121 } [.ref (sa 0)] (XI D cs wi) D d [oH ha (Hfl hv) (Hro hv) (Hrp hv) (Hca hv) (Hwy hv) (Hla hv) (Hmi hv) (Htf hv) (Htk hv), aV d ha 1 (HHO hv), aV d ha 2 (HAT hv), aV d ha 3 (HTO hv), aV d ha 4 (HWE hv), aV d ha 5 (HHE hv), aV d ha 6 (HRA hv), oS sa ha ta gt gf gc tra gs, ((sa 3), .inl (d 4, 24, .inr (.inr (.inr (.inr PA)))))] (fun (_ : Nat → Nat) => True) (fun (qa : Nat → Nat) => [oH ha (Hfl hv) (Hro hv) (Hrp hv) (Hca hv) (Hwy hv) (Hla hv) (Hmi hv) (Htf hv) (Htk hv), aV d ha 1 (HHO hv), aV d ha 2 (HAT hv), aV d ha 3 (HTO hv), aV d ha 4 (HWE hv), aV d ha 5 (HHE hv), aV d ha 6 (HRA hv), oS sa ha ta gt gf res.1 tra gs, ((sa 3), .inl (d 4, 24, .inr (.inr (.inr (.inr (va_up PA gc.toNatClampNeg (some (qa 0)))))))), oH qa (Hfl res.2) (Hro res.2) (Hrp res.2) (Hca res.2) (Hwy res.2) (Hla res.2) (Hmi res.2) (Htf res.2) (Htk res.2), aV d qa 1 (HHO res.2), aV d qa 2 (HAT res.2), aV d qa 3 (HTO res.2), aV d qa 4 (HWE res.2), aV d qa 5 (HHE res.2), aV d qa 6 (HRA res.2)]) := by
  have hX := XI.ok (D := D) (cs := cs) (wi := wi)
  refine MetV.of (by decide +kernel) (Nat.le_of_ble_eq_true rfl) ?_
  intro p e s m below meth c A cx hw ls hl
  have cx : Cx p s m _ meth c (XI D cs wi) D d A "DishLift" cX0_keep 3 none "keep" := cx
  have cx' := cx
  obtain ⟨hx, hb, hr, hlk, hml, hown, hts, hK, hA, hXs, hnm⟩ := cx'
  have hl : lv_has ls 3 [(0, .ref (sa 0))] := hl
  generalize hlo : ([] : List Loc) = locs at hw ⊢
  unfold fX0_keep_0 at hf
  refine lv_aload_n hx hb dX0_keep_0 rfl (lv_at hl 0 rfl) ?_
  refine va_get (ci := 1) (C := RX0) (T := TX0) (N := 14) hx hb hts in_X0 hown hK hw.1 7 rfl rfl 7 (by decide) (hts _ q301) (fun _ h9 => h9) rfl dX0_keep_1 ?_
  refine lv_bipush (v := 24) hx hb dX0_keep_4 (by decide) ?_
  refine lv_icmp_ne (tgt := 62) hx hb dX0_keep_6 (by decide) (fun c6 => ?_) (fun c6 => ?_)
  · have hf := if_f hf c6
    refine lv_aload_n hx hb dX0_keep_62 rfl (lv_at hl 0 rfl) ?_
    refine va_get (ci := 1) (C := RX0) (T := TX0) (N := 14) hx hb hts in_X0 hown hK hw.1 7 rfl rfl 6 (by decide) (hts _ q300) (fun _ h9 => h9) rfl dX0_keep_63 ?_
    refine lv_aload_n hx hb dX0_keep_66 rfl (lv_at hl 0 rfl) ?_
    refine va_get (ci := 1) (C := RX0) (T := TX0) (N := 14) hx hb hts in_X0 hown hK hw.1 7 rfl rfl 7 (by decide) (hts _ q301) (fun _ h9 => h9) rfl dX0_keep_67 ?_
    obtain ⟨o1, hrd, hf⟩ := op_e hf
    refine x_aald (q0 := 8) (t0 := 4) cx hw rfl rfl hrd dX0_keep_70 ?_
    by_cases c71 : o1 = none
    · have hf := if_t hf c71
      refine W.eq (g2 := F0 m 71 ls [.null]) (by rw [c71]; rfl) ?_
      refine lv_ifnonnullN hx hb dX0_keep_71 ?_
      refine lv_aload_n hx hb dX0_keep_74 rfl (lv_at hl 0 rfl) ?_
      refine va_get (ci := 1) (C := RX0) (T := TX0) (N := 14) hx hb hts in_X0 hown hK hw.1 7 rfl rfl 6 (by decide) (hts _ q300) (fun _ h9 => h9) rfl dX0_keep_75 ?_
      refine lv_aload_n hx hb dX0_keep_78 rfl (lv_at hl 0 rfl) ?_
      refine va_get (ci := 1) (C := RX0) (T := TX0) (N := 14) hx hb hts in_X0 hown hK hw.1 7 rfl rfl 7 (by decide) (hts _ q301) (fun _ h9 => h9) rfl dX0_keep_79 ?_
      refine va_new (ci := 2) (fs := [.int 0, .int 0, .int 0, .int 0, .int 0, .null, .null, .null, .null, .null, .null, .null, .int 0, .int 0, .null]) (C := RX1) (T := TX1) (N := 15) hx hb hts in_X1 tyX1 tyX1_ok hown (hts _ q125) (hts _ q126) (hts _ q83) hK hw.1 hw.2.1 hw.2.2 hA rfl (fun j hj => match j, hj with | 0, _ => rfl | 1, _ => rfl | 2, _ => rfl | 3, _ => rfl | 4, _ => rfl | 5, _ => rfl | 6, _ => rfl | 7, _ => rfl | 8, _ => rfl | 9, _ => rfl | 10, _ => rfl | 11, _ => rfl | 12, _ => rfl | 13, _ => rfl | 14, _ => rfl | j + 15, hj => absurd hj (by omega)) (Nat.le_of_ble_eq_true rfl) (Nat.le_of_ble_eq_true rfl) dX0_keep_82 (fun a3 H hP hD hS => ?_)
      have hw : Wd D A s [oH ha (Hfl hv) (Hro hv) (Hrp hv) (Hca hv) (Hwy hv) (Hla hv) (Hmi hv) (Htf hv) (Htk hv), aV d ha 1 (HHO hv), aV d ha 2 (HAT hv), aV d ha 3 (HTO hv), aV d ha 4 (HWE hv), aV d ha 5 (HHE hv), aV d ha 6 (HRA hv), oS sa ha ta gt gf gc tra gs, ((sa 3), .inl (d 4, 24, .inr (.inr (.inr (.inr PA))))), (a3, .inr (2, [.int 0, .int 0, .int 0, .int 0, .int 0, .null, .null, .null, .null, .null, .null, .null, .int 0, .int 0, .null]))] H locs := ⟨hP, hD, hS⟩
      refine W.widen (k := 1) (n := 15) (Nat.le_of_ble_eq_true rfl) (Nat.le_of_ble_eq_true rfl) ?_
      refine lv_dup hx hb dX0_keep_85 rfl ?_
      refine x_NV (wr := [oH ha (Hfl hv) (Hro hv) (Hrp hv) (Hca hv) (Hwy hv) (Hla hv) (Hmi hv) (Htf hv) (Htk hv), aV d ha 1 (HHO hv), aV d ha 2 (HAT hv), aV d ha 3 (HTO hv), aV d ha 4 (HWE hv), aV d ha 5 (HHE hv), aV d ha 6 (HRA hv), oS sa ha ta gt gf gc tra gs, ((sa 3), .inl (d 4, 24, .inr (.inr (.inr (.inr PA)))))]) (rest := [.ref a3, .int gc, .ref (sa 3)]) [] hX cx hw hl.1 (vX1_init l cs wi D d a3) q129 q83 q127 q128 rfl hd_X1_init ⟨(Nat.le_of_ble_eq_true rfl), (Nat.le_of_ble_eq_true rfl)⟩ rfl rfl (Nat.le_of_ble_eq_true rfl) dX0_keep_86 [9] [0, 1, 2, 3, 4, 5, 6, 7, 8] rfl rfl rfl rfl (by decide) ⟨(Nat.le_of_ble_eq_true rfl), (Nat.le_of_ble_eq_true rfl)⟩ (fun qa H locs hp hw9 => ?_)
      have hp : qa 0 = a3 := hp
      subst hp
      have hw : Wd D A s [oH ha (Hfl hv) (Hro hv) (Hrp hv) (Hca hv) (Hwy hv) (Hla hv) (Hmi hv) (Htf hv) (Htk hv), aV d ha 1 (HHO hv), aV d ha 2 (HAT hv), aV d ha 3 (HTO hv), aV d ha 4 (HWE hv), aV d ha 5 (HHE hv), aV d ha 6 (HRA hv), oS sa ha ta gt gf gc tra gs, ((sa 3), .inl (d 4, 24, .inr (.inr (.inr (.inr PA))))), oH qa (Hfl (hv0 (qa 7))) (Hro (hv0 (qa 7))) (Hrp (hv0 (qa 7))) (Hca (hv0 (qa 7))) (Hwy (hv0 (qa 7))) (Hla (hv0 (qa 7))) (Hmi (hv0 (qa 7))) (Htf (hv0 (qa 7))) (Htk (hv0 (qa 7))), ((qa 7), .inr (3, [.int 0, .ref (cs 0), .int 0])), aV d qa 1 (HHO (hv0 (qa 7))), aV d qa 2 (HAT (hv0 (qa 7))), aV d qa 3 (HTO (hv0 (qa 7))), aV d qa 4 (HWE (hv0 (qa 7))), aV d qa 5 (HHE (hv0 (qa 7))), aV d qa 6 (HRA (hv0 (qa 7)))] H locs := hw9
      refine W.widen (k := 8) (n := 54) (Nat.le_of_ble_eq_true rfl) (Nat.le_of_ble_eq_true rfl) ?_
      obtain ⟨g4, hgi, hf⟩ := op_e hf
      refine va_astq hx hb hK hw.1 hw.2.1 hw.2.2 8 4 9 2 rfl rfl rfl rfl (gix_spec hgi) dX0_keep_89 (fun H locs hP hD hS => ?_)
      have hw : Wd D A s [oH ha (Hfl hv) (Hro hv) (Hrp hv) (Hca hv) (Hwy hv) (Hla hv) (Hmi hv) (Htf hv) (Htk hv), aV d ha 1 (HHO hv), aV d ha 2 (HAT hv), aV d ha 3 (HTO hv), aV d ha 4 (HWE hv), aV d ha 5 (HHE hv), aV d ha 6 (HRA hv), oS sa ha ta gt gf gc tra gs, ((sa 3), .inl (d 4, 24, .inr (.inr (.inr (.inr (va_up PA gc.toNatClampNeg (some (qa 0)))))))), oH qa (Hfl (hv0 (qa 7))) (Hro (hv0 (qa 7))) (Hrp (hv0 (qa 7))) (Hca (hv0 (qa 7))) (Hwy (hv0 (qa 7))) (Hla (hv0 (qa 7))) (Hmi (hv0 (qa 7))) (Htf (hv0 (qa 7))) (Htk (hv0 (qa 7))), ((qa 7), .inr (3, [.int 0, .ref (cs 0), .int 0])), aV d qa 1 (HHO (hv0 (qa 7))), aV d qa 2 (HAT (hv0 (qa 7))), aV d qa 3 (HTO (hv0 (qa 7))), aV d qa 4 (HWE (hv0 (qa 7))), aV d qa 5 (HHE (hv0 (qa 7))), aV d qa 6 (HRA (hv0 (qa 7)))] H locs := ⟨hP, hD, hS⟩
      refine lv_aload_n hx hb dX0_keep_90 rfl (lv_at hl 0 rfl) ?_
      refine va_get (ci := 1) (C := RX0) (T := TX0) (N := 14) hx hb hts in_X0 hown hK hw.1 7 rfl rfl 6 (by decide) (hts _ q300) (fun _ h9 => h9) rfl dX0_keep_91 ?_
      refine lv_aload_n hx hb dX0_keep_94 rfl (lv_at hl 0 rfl) ?_
      refine va_get (ci := 1) (C := RX0) (T := TX0) (N := 14) hx hb hts in_X0 hown hK hw.1 7 rfl rfl 7 (by decide) (hts _ q301) (fun _ h9 => h9) rfl dX0_keep_95 ?_
      refine x_aald (q0 := 8) (t0 := 4) (v := some (qa 0)) cx hw rfl rfl (rdq_up (gix_spec hgi)) dX0_keep_98 ?_
      refine W.eq (g2 := F0 m 99 ls [.ref (qa 0)]) rfl ?_
      refine lv_aload_n hx hb dX0_keep_99 rfl (lv_at hl 0 rfl) ?_
      refine va_get (ci := 1) (C := RX0) (T := TX0) (N := 14) hx hb hts in_X0 hown hK hw.1 7 rfl rfl 4 (by decide) (hts _ q298) (fun _ h9 => h9) rfl dX0_keep_100 ?_
      obtain ⟨q5, hcq5, hf⟩ := op_e hf
      refine x_VA (wr := [oS sa ha ta gt gf gc tra gs, ((sa 3), .inl (d 4, 24, .inr (.inr (.inr (.inr (va_up PA gc.toNatClampNeg (some (qa 0)))))))), ((qa 7), .inr (3, [.int 0, .ref (cs 0), .int 0]))]) (rest := []) [.ref (ha 0)] hX cx hw hl.1 (vX1_become l  D d cs wi ln lf dk dn him qa ha (hv0 (qa 7)) hv  q5 hcq5) (lw_V q750 q751 q752 q83 q753) hd_X1_become ⟨(Nat.le_of_ble_eq_true rfl), (Nat.le_of_ble_eq_true rfl)⟩ (va_recv hK hw.1 (ci := 2) (q0 := 9) rfl rfl) rfl rfl (Nat.le_of_ble_eq_true rfl) dX0_keep_103 [9, 11, 12, 13, 14, 15, 16, 0, 1, 2, 3, 4, 5, 6] [7, 8, 10] rfl rfl rfl rfl (by decide) ⟨(Nat.le_of_ble_eq_true rfl), (Nat.le_of_ble_eq_true rfl)⟩ (fun u H locs hp hw => ?_)
      have hw : Wd D A s [oS sa ha ta gt gf gc tra gs, ((sa 3), .inl (d 4, 24, .inr (.inr (.inr (.inr (va_up PA gc.toNatClampNeg (some (qa 0)))))))), ((qa 7), .inr (3, [.int 0, .ref (cs 0), .int 0])), oH qa (Hfl q5) (Hro q5) (Hrp q5) (Hca q5) (Hwy q5) (Hla q5) (Hmi q5) (Htf q5) (Htk q5), aV d qa 1 (HHO q5), aV d qa 2 (HAT q5), aV d qa 3 (HTO q5), aV d qa 4 (HWE q5), aV d qa 5 (HHE q5), aV d qa 6 (HRA q5), oH ha (Hfl hv) (Hro hv) (Hrp hv) (Hca hv) (Hwy hv) (Hla hv) (Hmi hv) (Htf hv) (Htk hv), aV d ha 1 (HHO hv), aV d ha 2 (HAT hv), aV d ha 3 (HTO hv), aV d ha 4 (HWE hv), aV d ha 5 (HHE hv), aV d ha 6 (HRA hv)] H locs := hw
      refine lv_pop hx hb dX0_keep_106 rfl ?_
      refine lv_aload_n hx hb dX0_keep_107 rfl (lv_at hl 0 rfl) ?_
      refine lv_dup hx hb dX0_keep_108 rfl ?_
      refine va_get (ci := 1) (C := RX0) (T := TX0) (N := 14) hx hb hts in_X0 hown hK hw.1 0 rfl rfl 7 (by decide) (hts _ q301) (fun _ h9 => h9) rfl dX0_keep_109 ?_
      refine lv_iconst (v := 1) hx hb dX0_keep_112 (by decide) ?_
      refine lv_iadd hx hb dX0_keep_113 ?_
      refine va_put (ci := 1) (v := .int (gc + 1)) (ty := .int) (C := RX0) (T := TX0) (N := 14) hx hb hts in_X0 tyX0 tyX0_ok nmX0 hown hK hw.1 hw.2.1 hw.2.2 0 rfl rfl 7 (by decide) (hts _ q301) (fun _ h9 => h9) rfl (by decide +kernel) rfl rfl (Nat.le_of_ble_eq_true rfl) dX0_keep_114 (fun H locs hP hD hS => ?_)
      have hw : Wd D A s [oS sa ha ta gt gf (gc + 1) tra gs, ((sa 3), .inl (d 4, 24, .inr (.inr (.inr (.inr (va_up PA gc.toNatClampNeg (some (qa 0)))))))), ((qa 7), .inr (3, [.int 0, .ref (cs 0), .int 0])), oH qa (Hfl q5) (Hro q5) (Hrp q5) (Hca q5) (Hwy q5) (Hla q5) (Hmi q5) (Htf q5) (Htk q5), aV d qa 1 (HHO q5), aV d qa 2 (HAT q5), aV d qa 3 (HTO q5), aV d qa 4 (HWE q5), aV d qa 5 (HHE q5), aV d qa 6 (HRA q5), oH ha (Hfl hv) (Hro hv) (Hrp hv) (Hca hv) (Hwy hv) (Hla hv) (Hmi hv) (Htf hv) (Htk hv), aV d ha 1 (HHO hv), aV d ha 2 (HAT hv), aV d ha 3 (HTO hv), aV d ha 4 (HWE hv), aV d ha 5 (HHE hv), aV d ha 6 (HRA hv)] H locs := ⟨hP, hD, hS⟩
      have hf := sm_e hf
      subst hf
      exact x_retV cx hw qa trivial [10, 11, 12, 13, 14, 15, 16, 0, 1, 3, 4, 5, 6, 7, 8, 9] rfl rfl (Nat.le_of_ble_eq_true rfl) (Nat.le_of_ble_eq_true rfl) dX0_keep_117
    · have hf := if_f hf c71
      obtain ⟨e2, hee2⟩ := Option.ne_none_iff_exists'.mp c71
      refine W.eq (g2 := F0 m 71 ls [.ref e2]) (by rw [hee2]; rfl) ?_
      refine lv_ifnonnull (tgt := 90) hx hb dX0_keep_71 (by decide) ?_
      cases hf
  · have hf := if_t hf c6
    cases hf
