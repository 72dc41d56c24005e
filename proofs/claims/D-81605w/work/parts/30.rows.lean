set_option maxRecDepth 100000
/-! BASE 6: new arrays of a variable size, arraycopy of variables -/
def gn (n : Int32) : Option Unit := if n < 0 ∨ 40 < n.toNatClampNeg then none else some ()
theorem gn_spec {n : Int32} {u : Unit} (h : gn n = some u) : ¬ n < 0 ∧ n.toNatClampNeg ≤ 40 ∧ n.toNatClampNeg * 4 ≤ 536870912 := by
  unfold gn at h
  split at h
  · cases h
  · next h1 =>
    refine ⟨fun h2 => h1 (Or.inl h2), ?_, ?_⟩
    · have := fun h2 => h1 (Or.inr h2); omega
    · have := fun h2 => h1 (Or.inr h2); omega
def acp (f : Nat → Int32) (n0 : Nat) (sp : Int32) (g : Nat → Int32) (n1 : Nat) (dp n : Int32) : Option (Nat → Int32) := if ¬ sp < 0 ∧ ¬ dp < 0 ∧ ¬ n < 0 ∧ sp.toNatClampNeg + n.toNatClampNeg ≤ n0 ∧ dp.toNatClampNeg + n.toNatClampNeg ≤ n1 then some (va_cpy f g sp.toNatClampNeg dp.toNatClampNeg n.toNatClampNeg) else none
theorem acp_spec {f g w : Nat → Int32} {n0 n1 : Nat} {sp dp n : Int32} (h : acp f n0 sp g n1 dp n = some w) : ¬ sp < 0 ∧ ¬ dp < 0 ∧ ¬ n < 0 ∧ sp.toNatClampNeg + n.toNatClampNeg ≤ n0 ∧ dp.toNatClampNeg + n.toNatClampNeg ≤ n1 ∧ va_cpy f g sp.toNatClampNeg dp.toNatClampNeg n.toNatClampNeg = w := by
  unfold acp at h
  split at h
  · next h1 => exact ⟨h1.1, h1.2.1, h1.2.2.1, h1.2.2.2.1, h1.2.2.2.2, Option.some.inj h⟩
  · cases h

def fX11_init (p2 : Int32) : Option (Unit) :=
  (gn p2).bind fun g2 =>
  some ()
def fX11_cut (rl : Int32) (p1 : Int32) : Option (Int32) :=
  if rl = 0 then
    some p1.toInt8.toInt32
  else
    if rl = 1 then
      some p1.toInt16.toInt32
    else
      some p1
def fX11_row (rn : Nat) (RI : Nat → Int32) (p1 : Int32) (p2 : Int32) : Option (((Nat → Int32)) ⊕ (Int32)) :=
  (if p1 < 0 then
    some 0
  else
    if (Int32.ofNat rn).toInt64 < (p1.toInt64 + p2.toInt64) then
      some 0
    else
      some 1 : Option (Int32)).bind fun j1 =>
  (fX0_must j1 2).bind fun r3 =>
  match r3 with
  | .inr e5 => some (.inr e5)
  | .inl q4 =>
    (gn p2).bind fun g7 =>
    (acp RI rn p1 (fun _ => 0) p2.toNatClampNeg 0 p2).bind fun w8 =>
    some (.inl w8)
def fX0_found (en : Int32) : Option (Int32 × Int32) :=
  some (((-1000010) - en), en)
theorem hd_X11_init : yX11_init.cls ≠ "java/lang/invoke/MethodHandle" ∧ yX11_init.cls ≠ "java/lang/invoke/VarHandle" ∧ (parseMethodDescriptor yX11_init.desc).map (fun d => d.parameters.length) = some 2 := by decide +kernel
set_option maxHeartbeats 4000000 in
theorem mX11_init (l : Launch) (cs : Nat → Nat) (wi : va_W) (D : va_G) (d : Nat → ClassId) (h : Nat) (p1 : Int32) (p2 : Int32)  (res : Unit) (hf : fX11_init p2 = some res) : MetV l yX11_init (ws_ yX11_init cX11_init 3 none) { frames := 1, cells := 1, slots := 40, locals := 40 } [.ref h, .int p1, .int p2] (XI D cs wi) D d [(h, .inr (10, [.int 0, .null]))] (fun (_ : Nat) => True) (fun u => [(h, .inr (10, [.int p1, .ref u])), (u, .inl (d 0, p2.toNatClampNeg, .inl (fun _ => 0)))]) := by
  have hX := XI.ok (D := D) (cs := cs) (wi := wi)
  refine MetV.of (by decide +kernel) (Nat.le_of_ble_eq_true rfl) ?_
  intro p e s m below meth c A cx hw ls hl
  have cx : Cx p s m _ meth c (XI D cs wi) D d A "DishLift$Row" cX11_init 3 none "<init>" := cx
  have cx' := cx
  obtain ⟨hx, hb, hr, hlk, hml, hown, hts, hK, hA, hXs, hnm⟩ := cx'
  have hl : lv_has ls 3 [(0, .ref h), (1, .int p1), (2, .int p2)] := hl
  generalize hlo : ([] : List Loc) = locs at hw ⊢
  unfold fX11_init at hf
  refine lv_aload_n hx hb dX11_init_0 rfl (lv_at hl 0 rfl) ?_
  refine W.objInit hx hb hown (hts _ q423) (hts _ q121) (hts _ q122) rfl (by rw [hml]; exact hl.1) rfl dX11_init_1 (Nat.le_of_ble_eq_true rfl) (Nat.le_of_ble_eq_true rfl) ?_
  refine W.eq (g2 := F0 m 4 ls []) rfl ?_
  refine lv_aload_n hx hb dX11_init_4 rfl (lv_at hl 0 rfl) ?_
  refine lv_iload_n hx hb dX11_init_5 rfl (lv_at hl 1 rfl) ?_
  refine va_putF (ci := 10) (v := .int p1) (ty := .int) (C := RX11) (T := TX11) (N := 2) hx hb hts in_X11 tyX11 tyX11_ok nmX11 hown hK hw.1 hw.2.1 hw.2.2 0 rfl rfl 0 (by decide) (hts _ q424) (fun _ h9 => h9) rfl hnm rfl (by decide +kernel) rfl rfl (Nat.le_of_ble_eq_true rfl) dX11_init_6 (fun H locs hP hD hS => ?_)
  have hw : Wd D A s [(h, .inr (10, [.int p1, .null]))] H locs := ⟨hP, hD, hS⟩
  refine lv_aload_n hx hb dX11_init_9 rfl (lv_at hl 0 rfl) ?_
  refine lv_iload_n hx hb dX11_init_10 rfl (lv_at hl 2 rfl) ?_
  obtain ⟨g2, hgn, hf⟩ := op_e hf
  refine x_newi (N := p2.toNatClampNeg) cx hw (gn_spec hgn).1 rfl (gn_spec hgn).2.2 (Nat.le_of_ble_eq_true rfl) (Nat.le_trans (Nat.add_le_add_left (gn_spec hgn).2.1 _) (Nat.le_of_ble_eq_true rfl)) dX11_init_11 (fun a1 H hw => ?_)
  have hw : Wd D A s [(h, .inr (10, [.int p1, .null])), (a1, .inl (d 0, p2.toNatClampNeg, .inl (fun _ => 0)))] H locs := hw
  refine W.widen (k := 1) (n := 40) (Nat.le_of_ble_eq_true rfl) (Nat.le_trans (Nat.add_le_add_left (gn_spec hgn).2.1 _) (Nat.le_of_ble_eq_true rfl)) ?_
  refine va_putF (ci := 10) (v := .ref a1) (ty := (.array .int)) (C := RX11) (T := TX11) (N := 2) hx hb hts in_X11 tyX11 tyX11_ok nmX11 hown hK hw.1 hw.2.1 hw.2.2 0 rfl rfl 1 (by decide) (hts _ q426) (fun _ h9 => h9) rfl hnm rfl (by decide +kernel) rfl rfl (Nat.le_of_ble_eq_true rfl) dX11_init_13 (fun H locs hP hD hS => ?_)
  have hw : Wd D A s [(h, .inr (10, [.int p1, .ref a1])), (a1, .inl (d 0, p2.toNatClampNeg, .inl (fun _ => 0)))] H locs := ⟨hP, hD, hS⟩
  have hf := sm_e hf
  subst hf
  exact x_retV cx hw a1 trivial [0, 1] rfl rfl (Nat.le_of_ble_eq_true rfl) (Nat.le_of_ble_eq_true rfl) dX11_init_16
theorem hd_X11_cut : yX11_cut.cls = "DishLift$Row" ∧ yX11_cut.cls ≠ "java/lang/invoke/MethodHandle" ∧ yX11_cut.cls ≠ "java/lang/invoke/VarHandle" ∧ (parseMethodDescriptor yX11_cut.desc).map (fun d => d.parameters.length) = some 1 := by decide +kernel
set_option maxHeartbeats 4000000 in
theorem mX11_cut (l : Launch) (D : va_G) (d : Nat → ClassId) (cs : Nat → Nat) (wi : va_W) (ln : Nat → Option Int32) (lf : Nat → Nat → Option Nat) (dk : Nat → Option Nat) (dn : Nat → Int32) (him : ImF d wi ln lf dk dn) (ra : Nat) (ria : Nat) (rn : Nat) (rl : Int32) (RI : Nat → Int32) (p1 : Int32)  (res : Int32) (hf : fX11_cut rl p1 = some res) : MetI l yX11_cut (ws_ yX11_cut cX11_cut 2 (some .int)) { frames := 0, cells := 0, slots := 0, locals := 0 } [.ref ra, .int p1] (XI D cs wi) D d [(ra, .inr (10, [.int rl, .ref ria])), (ria, .inl (d 0, rn, .inl RI))] (fun r (_ : Unit) => r = res) (fun _ => [(ra, .inr (10, [.int rl, .ref ria])), (ria, .inl (d 0, rn, .inl RI))]) := by
  have hX := XI.ok (D := D) (cs := cs) (wi := wi)
  refine MetI.of (by decide +kernel) (Nat.le_of_ble_eq_true rfl) ?_
  intro p e s m below meth c A cx hw ls hl
  have cx : Cx p s m _ meth c (XI D cs wi) D d A "DishLift$Row" cX11_cut 2 (some .int) "cut" := cx
  have cx' := cx
  obtain ⟨hx, hb, hr, hlk, hml, hown, hts, hK, hA, hXs, hnm⟩ := cx'
  have hl : lv_has ls 2 [(0, .ref ra), (1, .int p1)] := hl
  generalize hlo : ([] : List Loc) = locs at hw ⊢
  unfold fX11_cut at hf
  refine lv_aload_n hx hb dX11_cut_0 rfl (lv_at hl 0 rfl) ?_
  refine va_get (ci := 10) (C := RX11) (T := TX11) (N := 2) hx hb hts in_X11 hown hK hw.1 0 rfl rfl 0 (by decide) (hts _ q424) (fun _ h9 => h9) rfl dX11_cut_1 ?_
  refine lv_if_ne (tgt := 12) hx hb dX11_cut_4 (by decide) (fun c4 => ?_) (fun c4 => ?_)
  · have hf := if_f hf c4
    refine lv_aload_n hx hb dX11_cut_12 rfl (lv_at hl 0 rfl) ?_
    refine va_get (ci := 10) (C := RX11) (T := TX11) (N := 2) hx hb hts in_X11 hown hK hw.1 0 rfl rfl 0 (by decide) (hts _ q424) (fun _ h9 => h9) rfl dX11_cut_13 ?_
    refine lv_iconst (v := 1) hx hb dX11_cut_16 (by decide) ?_
    refine lv_icmp_ne (tgt := 25) hx hb dX11_cut_17 (by decide) (fun c17 => ?_) (fun c17 => ?_)
    · have hf := if_f hf c17
      refine lv_iload_n hx hb dX11_cut_25 rfl (lv_at hl 1 rfl) ?_
      have hf := sm_e hf
      subst hf
      exact x_retI cx hw rfl () rfl [0, 1] rfl rfl (Nat.le_of_ble_eq_true rfl) (Nat.le_of_ble_eq_true rfl) dX11_cut_26
    · have hf := if_t hf c17
      refine lv_iload_n hx hb dX11_cut_20 rfl (lv_at hl 1 rfl) ?_
      refine lv_i2s (v := p1.toInt16.toInt32) hx hb dX11_cut_21 rfl ?_
      refine lv_goto (tgt := 26) hx hb dX11_cut_22 (by decide) ?_
      have hf := sm_e hf
      subst hf
      exact x_retI cx hw rfl () rfl [0, 1] rfl rfl (Nat.le_of_ble_eq_true rfl) (Nat.le_of_ble_eq_true rfl) dX11_cut_26
  · have hf := if_t hf c4
    refine lv_iload_n hx hb dX11_cut_7 rfl (lv_at hl 1 rfl) ?_
    refine lv_i2b (v := p1.toInt8.toInt32) hx hb dX11_cut_8 rfl ?_
    refine lv_goto (tgt := 26) hx hb dX11_cut_9 (by decide) ?_
    have hf := sm_e hf
    subst hf
    exact x_retI cx hw rfl () rfl [0, 1] rfl rfl (Nat.le_of_ble_eq_true rfl) (Nat.le_of_ble_eq_true rfl) dX11_cut_26
theorem hd_X11_row : yX11_row.cls = "DishLift$Row" ∧ yX11_row.cls ≠ "java/lang/invoke/MethodHandle" ∧ yX11_row.cls ≠ "java/lang/invoke/VarHandle" ∧ (parseMethodDescriptor yX11_row.desc).map (fun d => d.parameters.length) = some 2 := by decide +kernel
set_option maxHeartbeats 4000000 in
theorem mX11_row (l : Launch) (D : va_G) (d : Nat → ClassId) (cs : Nat → Nat) (wi : va_W) (ln : Nat → Option Int32) (lf : Nat → Nat → Option Nat) (dk : Nat → Option Nat) (dn : Nat → Int32) (him : ImF d wi ln lf dk dn) (ra : Nat) (ria : Nat) (rn : Nat) (rl : Int32) (RI : Nat → Int32) (p1 : Int32) (p2 : Int32)  (res : (Nat → Int32)) (hf : fX11_row rn RI p1 p2 = some (.inl res)) : MetR l yX11_row (ws_ yX11_row cX11_row 4 (some (.array .int))) { frames := 5, cells := 1, slots := 40, locals := 130 } [.ref ra, .int p1, .int p2] (XI D cs wi) D d [(ra, .inr (10, [.int rl, .ref ria])), (ria, .inl (d 0, rn, .inl RI))] (fun (_ : Unit) => True) (fun _ ra9 => [(ra, .inr (10, [.int rl, .ref ria])), (ria, .inl (d 0, rn, .inl RI)), (ra9, .inl (d 0, p2.toNatClampNeg, .inl res))]) := by
  have hX := XI.ok (D := D) (cs := cs) (wi := wi)
  refine MetR.of (by decide +kernel) (Nat.le_of_ble_eq_true rfl) ?_
  intro p e s m below meth c A cx hw ls hl
  have cx : Cx p s m _ meth c (XI D cs wi) D d A "DishLift$Row" cX11_row 4 (some (.array .int)) "row" := cx
  have cx' := cx
  obtain ⟨hx, hb, hr, hlk, hml, hown, hts, hK, hA, hXs, hnm⟩ := cx'
  have hl : lv_has ls 4 [(0, .ref ra), (1, .int p1), (2, .int p2)] := hl
  generalize hlo : ([] : List Loc) = locs at hw ⊢
  unfold fX11_row at hf
  refine lv_iload_n hx hb dX11_row_0 rfl (lv_at hl 1 rfl) ?_
  obtain ⟨j1, hjA, hjR⟩ := op_e hf
  refine x_join (A := A) (D := D) (J := 24) (nL := 4) (cells' := 0) (slots' := 0) (st := [.int j1]) [(ra, .inr (10, [.int rl, .ref ria])), (ria, .inl (d 0, rn, .inl RI))] [(0, .ref ra), (1, .int p1), (2, .int p2)] (fun H locs ls hw hl => ?_) (fun hKj24_j1 => ?_)
  · have hf := hjR
    refine lv_iconst (v := 2) hx hb dX11_row_24 (by decide) ?_
    obtain ⟨r3, hcr3, hf⟩ := op_e hf
    rcases r3 with q4 | e5
    · refine x_SNV (wr := [(ra, .inr (10, [.int rl, .ref ria])), (ria, .inl (d 0, rn, .inl RI))]) (rest := []) [.int j1, .int 2] hX cx hw hl.1 (mX0_must l D d cs wi ln lf dk dn him j1 2  q4 hcr3) q353 (Tb.nestM q1045 hXs.1) q352 q82 hd_X0_must ⟨(Nat.le_of_ble_eq_true rfl), (Nat.le_of_ble_eq_true rfl)⟩ rfl rfl (Nat.le_of_ble_eq_true rfl) dX11_row_25 [] [0, 1] rfl rfl rfl rfl (by decide) ⟨(Nat.le_of_ble_eq_true rfl), (Nat.le_of_ble_eq_true rfl)⟩ (fun u H locs hp hw => ?_)
      have hw : Wd D A s [(ra, .inr (10, [.int rl, .ref ria])), (ria, .inl (d 0, rn, .inl RI))] H locs := hw
      refine lv_iload_n hx hb dX11_row_28 rfl (lv_at hl 2 rfl) ?_
      obtain ⟨g7, hgn, hf⟩ := op_e hf
      refine x_newi (N := p2.toNatClampNeg) cx hw (gn_spec hgn).1 rfl (gn_spec hgn).2.2 (Nat.le_of_ble_eq_true rfl) (Nat.le_trans (Nat.add_le_add_left (gn_spec hgn).2.1 _) (Nat.le_of_ble_eq_true rfl)) dX11_row_29 (fun a6 H hw => ?_)
      have hw : Wd D A s [(ra, .inr (10, [.int rl, .ref ria])), (ria, .inl (d 0, rn, .inl RI)), (a6, .inl (d 0, p2.toNatClampNeg, .inl (fun _ => 0)))] H locs := hw
      refine W.widen (k := 1) (n := 40) (Nat.le_of_ble_eq_true rfl) (Nat.le_trans (Nat.add_le_add_left (gn_spec hgn).2.1 _) (Nat.le_of_ble_eq_true rfl)) ?_
      refine lv_astore_n (lv' := [(3, .ref a6), (0, .ref ra), (1, .int p1), (2, .int p2)]) hx hb dX11_row_31 rfl hl (by decide) rfl (fun ls hl => ?_)
      refine lv_aload_n hx hb dX11_row_32 rfl (lv_at hl 1 rfl) ?_
      refine va_get (ci := 10) (C := RX11) (T := TX11) (N := 2) hx hb hts in_X11 hown hK hw.1 0 rfl rfl 1 (by decide) (hts _ q426) (fun _ h9 => h9) rfl dX11_row_33 ?_
      refine lv_iload_n hx hb dX11_row_36 rfl (lv_at hl 2 rfl) ?_
      refine lv_aload_n hx hb dX11_row_37 rfl (lv_at hl 0 rfl) ?_
      refine lv_iconst (v := 0) hx hb dX11_row_38 (by decide) ?_
      refine lv_iload_n hx hb dX11_row_39 rfl (lv_at hl 3 rfl) ?_
      obtain ⟨w8, hrd, hf⟩ := op_e hf
      obtain ⟨ha1, ha2, ha3, ha4, ha5, haw⟩ := acp_spec hrd
      refine va_copyi hx hb (hml.trans hl.1.symm) hown (hts _ q1046) (hts _ q494) (hts _ q493) (hts _ q103) hK hw.1 hw.2.1 hw.2.2 1 2 0 0 rfl rfl rfl rfl rfl ha1 ha2 ha3 ha4 ha5 (fun _ _ => rfl) (Nat.le_of_ble_eq_true rfl) (Nat.le_of_ble_eq_true rfl) dX11_row_40 (fun H locs hP hD hS => ?_)
      rw [haw] at hP hD
      have hw : Wd D A s [(ra, .inr (10, [.int rl, .ref ria])), (ria, .inl (d 0, rn, .inl RI)), (a6, .inl (d 0, p2.toNatClampNeg, .inl w8))] H locs := ⟨hP, hD, hS⟩
      refine lv_aload_n hx hb dX11_row_43 rfl (lv_at hl 0 rfl) ?_
      have hf := Sum.inl.inj (sm_e hf)
      subst hf
      exact x_retR cx hw (Or.inr ⟨_, rfl⟩) () trivial [0, 1, 2] rfl rfl (Nat.le_of_ble_eq_true rfl) (Nat.le_of_ble_eq_true rfl) dX11_row_44
    · have hf : (some (.inr e5) : Option (((Nat → Int32)) ⊕ (Int32))) = some (.inl res) := hf
      cases hf
  · have hf := hjA
    refine lv_if_lt (tgt := 23) hx hb dX11_row_1 (by decide) (fun c1 => ?_) (fun c1 => ?_)
    · have hf := if_t hf c1
      refine lv_iconst (v := 0) hx hb dX11_row_23 (by decide) ?_
      have hf := sm_e hf
      subst hf
      exact hKj24_j1 _ _ _ hw hl
    · have hf := if_f hf c1
      refine lv_iload_n hx hb dX11_row_4 rfl (lv_at hl 1 rfl) ?_
      refine lv_i2l (v := p1.toInt64) hx hb dX11_row_5 rfl ?_
      refine lv_iload_n hx hb dX11_row_6 rfl (lv_at hl 2 rfl) ?_
      refine lv_i2l (v := p2.toInt64) hx hb dX11_row_7 rfl ?_
      refine lv_ladd hx hb dX11_row_8 ?_
      refine lv_aload_n hx hb dX11_row_9 rfl (lv_at hl 0 rfl) ?_
      refine va_get (ci := 10) (C := RX11) (T := TX11) (N := 2) hx hb hts in_X11 hown hK hw.1 0 rfl rfl 1 (by decide) (hts _ q426) (fun _ h9 => h9) rfl dX11_row_10 ?_
      refine va_alen (v := (Int32.ofNat rn)) hx hb hK hw.1 1 0 rfl rfl rfl dX11_row_13 ?_
      refine lv_i2l (v := (Int32.ofNat rn).toInt64) hx hb dX11_row_14 rfl ?_
      refine W.lcmp hx hb dX11_row_15 ?_
      refine lv_if_gt (tgt := 23) hx hb dX11_row_16 (by decide) (fun c16 => ?_) (fun c16 => ?_)
      · have hf := if_t hf ((lg_cmp_gt _ _).mp c16)
        refine lv_iconst (v := 0) hx hb dX11_row_23 (by decide) ?_
        have hf := sm_e hf
        subst hf
        exact hKj24_j1 _ _ _ hw hl
      · have hf := if_f hf (fun h => c16 ((lg_cmp_gt _ _).mpr h))
        refine lv_iconst (v := 1) hx hb dX11_row_19 (by decide) ?_
        refine lv_goto (tgt := 24) hx hb dX11_row_20 (by decide) ?_
        have hf := sm_e hf
        subst hf
        exact hKj24_j1 _ _ _ hw hl
set_option maxHeartbeats 4000000 in
theorem tX11_row (l : Launch) (D : va_G) (d : Nat → ClassId) (cs : Nat → Nat) (wi : va_W) (ln : Nat → Option Int32) (lf : Nat → Nat → Option Nat) (dk : Nat → Option Nat) (dn : Nat → Int32) (him : ImF d wi ln lf dk dn) (ra : Nat) (ria : Nat) (rn : Nat) (rl : Int32) (RI : Nat → Int32) (p1 : Int32) (p2 : Int32)  (res : Int32) (hf : fX11_row rn RI p1 p2 = some (.inr res)) : TMet l yX11_row (ws_ yX11_row cX11_row 4 (some (.array .int))) { frames := 5, cells := 1, slots := 40, locals := 130 } [.ref ra, .int p1, .int p2] (XI D cs wi) D d [(ra, .inr (10, [.int rl, .ref ria])), (ria, .inl (d 0, rn, .inl RI))] "DishLift$Finding" (fun q9 (_ : Unit) => [(ra, .inr (10, [.int rl, .ref ria])), (ria, .inl (d 0, rn, .inl RI)), (q9, .inr (12, [.null, .null, .null, .null, .null, .int 0, .int res]))]) := by
  have hX := XI.ok (D := D) (cs := cs) (wi := wi)
  refine TMet.of (by decide +kernel) (Nat.le_of_ble_eq_true rfl) ?_
  intro p e s m below meth c A cx hET hw ls hl
  have cx : Cx p s m _ meth c (XI D cs wi) D d A "DishLift$Row" cX11_row 4 (some (.array .int)) "row" := cx
  have cx' := cx
  obtain ⟨hx, hb, hr, hlk, hml, hown, hts, hK, hA, hXs, hnm⟩ := cx'
  have hl : lv_has ls 4 [(0, .ref ra), (1, .int p1), (2, .int p2)] := hl
  generalize hlo : ([] : List Loc) = locs at hw ⊢
  unfold fX11_row at hf
  refine lv_iload_n hx hb dX11_row_0 rfl (lv_at hl 1 rfl) ?_
  obtain ⟨j1, hjA, hjR⟩ := op_e hf
  refine x_join (A := A) (D := D) (J := 24) (nL := 4) (cells' := 0) (slots' := 0) (st := [.int j1]) [(ra, .inr (10, [.int rl, .ref ria])), (ria, .inl (d 0, rn, .inl RI))] [(0, .ref ra), (1, .int p1), (2, .int p2)] (fun H locs ls hw hl => ?_) (fun hKj24_j1 => ?_)
  · have hf := hjR
    refine lv_iconst (v := 2) hx hb dX11_row_24 (by decide) ?_
    obtain ⟨r3, hcr3, hf⟩ := op_e hf
    rcases r3 with q4 | e5
    · refine x_SNV (wr := [(ra, .inr (10, [.int rl, .ref ria])), (ria, .inl (d 0, rn, .inl RI))]) (rest := []) [.int j1, .int 2] hX cx hw hl.1 (mX0_must l D d cs wi ln lf dk dn him j1 2  q4 hcr3) q353 (Tb.nestM q1045 hXs.1) q352 q82 hd_X0_must ⟨(Nat.le_of_ble_eq_true rfl), (Nat.le_of_ble_eq_true rfl)⟩ rfl rfl (Nat.le_of_ble_eq_true rfl) dX11_row_25 [] [0, 1] rfl rfl rfl rfl (by decide) ⟨(Nat.le_of_ble_eq_true rfl), (Nat.le_of_ble_eq_true rfl)⟩ (fun u H locs hp hw => ?_)
      have hw : Wd D A s [(ra, .inr (10, [.int rl, .ref ria])), (ria, .inl (d 0, rn, .inl RI))] H locs := hw
      refine lv_iload_n hx hb dX11_row_28 rfl (lv_at hl 2 rfl) ?_
      obtain ⟨g7, hgn, hf⟩ := op_e hf
      refine x_newi (N := p2.toNatClampNeg) cx hw (gn_spec hgn).1 rfl (gn_spec hgn).2.2 (Nat.le_of_ble_eq_true rfl) (Nat.le_trans (Nat.add_le_add_left (gn_spec hgn).2.1 _) (Nat.le_of_ble_eq_true rfl)) dX11_row_29 (fun a6 H hw => ?_)
      have hw : Wd D A s [(ra, .inr (10, [.int rl, .ref ria])), (ria, .inl (d 0, rn, .inl RI)), (a6, .inl (d 0, p2.toNatClampNeg, .inl (fun _ => 0)))] H locs := hw
      refine W.widen (k := 1) (n := 40) (Nat.le_of_ble_eq_true rfl) (Nat.le_trans (Nat.add_le_add_left (gn_spec hgn).2.1 _) (Nat.le_of_ble_eq_true rfl)) ?_
      refine lv_astore_n (lv' := [(3, .ref a6), (0, .ref ra), (1, .int p1), (2, .int p2)]) hx hb dX11_row_31 rfl hl (by decide) rfl (fun ls hl => ?_)
      refine lv_aload_n hx hb dX11_row_32 rfl (lv_at hl 1 rfl) ?_
      refine va_get (ci := 10) (C := RX11) (T := TX11) (N := 2) hx hb hts in_X11 hown hK hw.1 0 rfl rfl 1 (by decide) (hts _ q426) (fun _ h9 => h9) rfl dX11_row_33 ?_
      refine lv_iload_n hx hb dX11_row_36 rfl (lv_at hl 2 rfl) ?_
      refine lv_aload_n hx hb dX11_row_37 rfl (lv_at hl 0 rfl) ?_
      refine lv_iconst (v := 0) hx hb dX11_row_38 (by decide) ?_
      refine lv_iload_n hx hb dX11_row_39 rfl (lv_at hl 3 rfl) ?_
      obtain ⟨w8, hrd, hf⟩ := op_e hf
      obtain ⟨ha1, ha2, ha3, ha4, ha5, haw⟩ := acp_spec hrd
      refine va_copyi hx hb (hml.trans hl.1.symm) hown (hts _ q1046) (hts _ q494) (hts _ q493) (hts _ q103) hK hw.1 hw.2.1 hw.2.2 1 2 0 0 rfl rfl rfl rfl rfl ha1 ha2 ha3 ha4 ha5 (fun _ _ => rfl) (Nat.le_of_ble_eq_true rfl) (Nat.le_of_ble_eq_true rfl) dX11_row_40 (fun H locs hP hD hS => ?_)
      rw [haw] at hP hD
      have hw : Wd D A s [(ra, .inr (10, [.int rl, .ref ria])), (ria, .inl (d 0, rn, .inl RI)), (a6, .inl (d 0, p2.toNatClampNeg, .inl w8))] H locs := ⟨hP, hD, hS⟩
      cases hf
    · have hf : (some (.inr e5) : Option (((Nat → Int32)) ⊕ (Int32))) = some (.inr res) := hf
      have hf := Sum.inr.inj (sm_e hf)
      subst hf
      refine x_TSN (wr := [(ra, .inr (10, [.int rl, .ref ria])), (ria, .inl (d 0, rn, .inl RI))]) (rest := []) [.int j1, .int 2] hX cx hw hl.1 (tX0_must l D d cs wi ln lf dk dn him j1 2  e5 hcr3) q353 (Tb.nestM q1045 hXs.1) q352 q82 hd_X0_must ⟨(Nat.le_of_ble_eq_true rfl), (Nat.le_of_ble_eq_true rfl)⟩ rfl rfl (Nat.le_of_ble_eq_true rfl) dX11_row_25 [] [0, 1] rfl rfl rfl rfl (by decide) ⟨(Nat.le_of_ble_eq_true rfl), (Nat.le_of_ble_eq_true rfl)⟩ (fun a2 ce u H locs hw g1 g2 g3 => ?_)
      have hw : Wd D A s [(ra, .inr (10, [.int rl, .ref ria])), (ria, .inl (d 0, rn, .inl RI)), (a2, .inr (12, [.null, .null, .null, .null, .null, .int 0, .int e5]))] H locs := hw
      exact x_out cx hET hw () g1 g2 g3 [0, 1, 2] rfl rfl (Nat.le_of_ble_eq_true rfl) (Nat.le_of_ble_eq_true rfl)
  · have hf := hjA
    refine lv_if_lt (tgt := 23) hx hb dX11_row_1 (by decide) (fun c1 => ?_) (fun c1 => ?_)
    · have hf := if_t hf c1
      refine lv_iconst (v := 0) hx hb dX11_row_23 (by decide) ?_
      have hf := sm_e hf
      subst hf
      exact hKj24_j1 _ _ _ hw hl
    · have hf := if_f hf c1
      refine lv_iload_n hx hb dX11_row_4 rfl (lv_at hl 1 rfl) ?_
      refine lv_i2l (v := p1.toInt64) hx hb dX11_row_5 rfl ?_
      refine lv_iload_n hx hb dX11_row_6 rfl (lv_at hl 2 rfl) ?_
      refine lv_i2l (v := p2.toInt64) hx hb dX11_row_7 rfl ?_
      refine lv_ladd hx hb dX11_row_8 ?_
      refine lv_aload_n hx hb dX11_row_9 rfl (lv_at hl 0 rfl) ?_
      refine va_get (ci := 10) (C := RX11) (T := TX11) (N := 2) hx hb hts in_X11 hown hK hw.1 0 rfl rfl 1 (by decide) (hts _ q426) (fun _ h9 => h9) rfl dX11_row_10 ?_
      refine va_alen (v := (Int32.ofNat rn)) hx hb hK hw.1 1 0 rfl rfl rfl dX11_row_13 ?_
      refine lv_i2l (v := (Int32.ofNat rn).toInt64) hx hb dX11_row_14 rfl ?_
      refine W.lcmp hx hb dX11_row_15 ?_
      refine lv_if_gt (tgt := 23) hx hb dX11_row_16 (by decide) (fun c16 => ?_) (fun c16 => ?_)
      · have hf := if_t hf ((lg_cmp_gt _ _).mp c16)
        refine lv_iconst (v := 0) hx hb dX11_row_23 (by decide) ?_
        have hf := sm_e hf
        subst hf
        exact hKj24_j1 _ _ _ hw hl
      · have hf := if_f hf (fun h => c16 ((lg_cmp_gt _ _).mpr h))
        refine lv_iconst (v := 1) hx hb dX11_row_19 (by decide) ?_
        refine lv_goto (tgt := 24) hx hb dX11_row_20 (by decide) ?_
        have hf := sm_e hf
        subst hf
        exact hKj24_j1 _ _ _ hw hl
theorem hd_X0_found : yX0_found.cls = "DishLift" ∧ yX0_found.cls ≠ "java/lang/invoke/MethodHandle" ∧ yX0_found.cls ≠ "java/lang/invoke/VarHandle" ∧ (parseMethodDescriptor yX0_found.desc).map (fun d => d.parameters.length) = some 1 := by decide +kernel
set_option maxHeartbeats 4000000 in
theorem mX0_found (l : Launch) (D : va_G) (d : Nat → ClassId) (cs : Nat → Nat) (wi : va_W) (ln : Nat → Option Int32) (lf : Nat → Nat → Option Nat) (dk : Nat → Option Nat) (dn : Nat → Int32) (him : ImF d wi ln lf dk dn) (sa : Nat → Nat) (ha : Nat → Nat) (ta : Nat → Nat) (ea : Nat) (gt : Int32) (gf : Int32) (gc : Int32) (tra : Nat) (gs : Int32) (en : Int32)  (res : Int32 × Int32) (hf : fX0_found en = some res) : MetI l yX0_found (ws_ yX0_found cX0_found 2 (some .int)) { frames := 0, cells := 0, slots := 0, locals := 0 } [.ref (sa 0), .ref ea] (XI D cs wi) D d [(ea, .inr (12, [.null, .null, .null, .null, .null, .int 0, .int en])), oS sa ha ta gt gf gc tra gs] (fun r (_ : Unit) => r = res.1) (fun _ => [(ea, .inr (12, [.null, .null, .null, .null, .null, .int 0, .int en])), oS sa ha ta gt gf gc tra res.2]) := by
  have hX := XI.ok (D := D) (cs := cs) (wi := wi)
  refine MetI.of (by decide +kernel) (Nat.le_of_ble_eq_true rfl) ?_
  intro p e s m below meth c A cx hw ls hl
  have cx : Cx p s m _ meth c (XI D cs wi) D d A "DishLift" cX0_found 2 (some .int) "found" := cx
  have cx' := cx
  obtain ⟨hx, hb, hr, hlk, hml, hown, hts, hK, hA, hXs, hnm⟩ := cx'
  have hl : lv_has ls 2 [(0, .ref (sa 0)), (1, .ref ea)] := hl
  generalize hlo : ([] : List Loc) = locs at hw ⊢
  unfold fX0_found at hf
  refine lv_aload_n hx hb dX0_found_0 rfl (lv_at hl 0 rfl) ?_
  refine lv_aload_n hx hb dX0_found_1 rfl (lv_at hl 1 rfl) ?_
  refine va_get (ci := 12) (C := RX10) (T := TX10) (N := 7) hx hb hts in_X10 hown hK hw.1 0 rfl rfl 6 (by decide) (hts _ q403) (fun _ h9 => h9) rfl dX0_found_2 ?_
  refine va_put (ci := 1) (v := .int en) (ty := .int) (C := RX0) (T := TX0) (N := 14) hx hb hts in_X0 tyX0 tyX0_ok nmX0 hown hK hw.1 hw.2.1 hw.2.2 1 rfl rfl 10 (by decide) (hts _ q304) (fun _ h9 => h9) rfl (by decide +kernel) rfl rfl (Nat.le_of_ble_eq_true rfl) dX0_found_5 (fun H locs hP hD hS => ?_)
  have hw : Wd D A s [(ea, .inr (12, [.null, .null, .null, .null, .null, .int 0, .int en])), oS sa ha ta gt gf gc tra en] H locs := ⟨hP, hD, hS⟩
  refine lv_ldc (v := (-1000010)) hx hb hown (hts _ q441) dX0_found_8 ?_
  refine lv_aload_n hx hb dX0_found_10 rfl (lv_at hl 1 rfl) ?_
  refine va_get (ci := 12) (C := RX10) (T := TX10) (N := 7) hx hb hts in_X10 hown hK hw.1 0 rfl rfl 6 (by decide) (hts _ q403) (fun _ h9 => h9) rfl dX0_found_11 ?_
  refine lv_isub hx hb dX0_found_14 ?_
  have hf := sm_e hf
  subst hf
  exact x_retI cx hw rfl () rfl [0, 1] rfl rfl (Nat.le_of_ble_eq_true rfl) (Nat.le_of_ble_eq_true rfl) dX0_found_15
