/-! A LIST THAT IS BEING FILLED; A NEW DISH -/
set_option maxRecDepth 100000
section XT44
variable {p : Program} {l : Launch} {e : Env} {R : Room} {s : State} {m : MethodId} {args : Array Value} {below : List Frame} {meth : Method} {c : Code} {H : Heap} {locs : List Loc} {cells slots : Nat} {Q : State → Prop}
variable {cc : ByteArray} {pc : Nat} {ls : Array Slot} {rest : List Value} {X : XT} {D : va_G} {d : Nat → ClassId} {A : Nat → Prop} {a : Nat} {ws : va_W} {own nm : String} {nL : Nat} {ret : Option FieldType}
/-- a call through an interface with a world: an int -/
theorem x_FIW {S : Type} {post : Int32 → S → Prop} {w1 : S → va_W} {wc wr : va_W} {x y : MethodName} {bytes : ByteArray} {maxL idx cnt n : Nat} {rt : Option FieldType} {rm : Room} {b : Nat} {C : String} {cC : ClassId} {st0 : List Value} (As : List Value) (hX : XOK X) (cx : Cx p s m args meth c X D d A own cc nL ret nm) (hw : Wd D A s ws H locs) (hl : ls.size = nL) (hat : ClassAt s C cC)
    (hM : MetI l y (ws_ y bytes maxL rt) rm (.ref b :: As) X D d wc post w1) (hg : GoodIn lw_all (va_wsF own idx C x y (ws_ y bytes maxL rt))) (hF : va_Fw C x y s) (hd : x.cls ≠ "java/lang/invoke/MethodHandle" ∧ x.cls ≠ "java/lang/invoke/VarHandle" ∧ (parseMethodDescriptor x.desc).map (fun d => d.parameters.length) = some n) (hR : rm.frames + 1 ≤ R.frames ∧ 8 + (maxL + 11) + rm.locals ≤ R.locals)
    (hrecv : ∃ cell : Cell, H[b]? = some cell ∧ cell.vm.isStatics = false ∧ s.vm.findClass C = some cell.cls) (hlen : As.length = n) (hst : st0 = As.reverse ++ .ref b :: rest) (hWr : (rest.map fun v => v.category).sum ≤ 8) (hdg : decode cc pc = .ok (.invokeinterface idx cnt, 5)) (isC isR : List Nat) (hnC : va_nd isC = true) (hC : isC.map (fun i => ws[i]?) = wc.map some) (hRr : isR.map (fun i => ws[i]?) = wr.map some) (hnR : va_nd isR = true) (hdis : ∀ i ∈ isR, i ∉ isC) (hf : cells + rm.cells ≤ R.cells ∧ slots + rm.slots ≤ R.slots)
    (kk : ∀ (r : Int32) (u : S) (H1 : Heap) (locs1 : List Loc), post r u → Wd D A s (wr ++ w1 u) H1 locs1 → W p l e R s m args below meth c H1 locs1 (cells + rm.cells) (slots + rm.slots) Q (F0 m (pc + 5) ls (.int r :: rest))) : W p l e R s m args below meth c H locs cells slots Q (F0 m pc ls st0) := by
  obtain ⟨hFc, hpre⟩ := hw.give hX cx isC hnC hC
  have cx' := cx
  obtain ⟨hx, hb, hr, hlk, hml, hown, hts, hK, hA, hXs, -⟩ := cx'
  exact va_callFi (va_runF hat (As := As) (rest := rest) ⟨hx, hb, hml, hown, hts⟩ (hM H.size) (va_cwF n hts hg rfl rfl rfl hF hd hR) ⟨preW.blind hX, hrecv, fun U hU hW => ⟨rfl, hpre U hU hW⟩⟩ rfl hlen hl hst (lv_room hWr) hdg hf) hw.2.2 (fun q _ h => hFc q h) hFc (fun r u t H1 locs1 ht hvm hp hB hz hk hS1 => kk r u H1 locs1 hp (hw.back isC isR hC hRr hnR hdis hFc ht hk hB hS1))
end XT44
/-- the shared empty array stands among the immutable cells -/
def EmpF (_d : Nat → ClassId) (_cs : Nat → Nat) (_wi : va_W) : Prop := True
theorem dish_any {D : va_G} {d : Nat → ClassId} {s : State} {ws : va_W} {H : Heap} {a q0 k : Nat} {fs : List Value} (hT : Tb s) (hK : va_K D vwCl (tyA d) s) (hP : va_P D vwCl ws H) (he : ws[q0]? = some (a, .inr (5 + k, fs))) (hk : k < 5) : va_Any "java/lang/Object" s H a := by
  have key : ∀ (C : String) (w : Cond.castable C "java/lang/Object" ∈ lw_tbl), ∀ comp c0 : ClassId, s.vm.findClass "java/lang/Object" = some comp → s.vm.findClass C = some c0 → s.vm.assignable c0 comp = true := by
    intro C w comp c0 h1 h2
    obtain ⟨c1, t1, f1, f2, f3⟩ := Cond.castable_spec (va_Nw.use (A := #[]) rfl (Tb.cast w hT))
    cases h2.symm.trans f1
    cases h1.symm.trans f2
    exact f3
  match k, hk, he with
  | 0, _, he => exact va_rAny hK hP he rfl (key _ q1706)
  | 1, _, he => exact va_rAny hK hP he rfl (key _ q1707)
  | 2, _, he => exact va_rAny hK hP he rfl (key _ q1708)
  | 3, _, he => exact va_rAny hK hP he rfl (key _ q1709)
  | 4, _, he => exact va_rAny hK hP he rfl (key _ q1710)

set_option maxHeartbeats 4000000 in
theorem mJ2_size_w (l : Launch) (D : va_G) (d : Nat → ClassId) (cs : Nat → Nat) (wi : va_W) (la ea : Nat) (mc N : Int32) : MetI l yJ2_size (ws_ yJ2_size cJ2_size 1 (some .int)) { frames := 0, cells := 0, slots := 0, locals := 0 } [.ref la] (XI D cs wi) D d [(la, .inr (3, [.int mc, .ref ea, .int N]))] (fun r (_ : Unit) => r = N) (fun _ => [(la, .inr (3, [.int mc, .ref ea, .int N]))]) := by
  have hX := XI.ok (D := D) (cs := cs) (wi := wi)
  refine MetI.of (by decide +kernel) (Nat.le_of_ble_eq_true rfl) ?_
  intro p e s m below meth c A cx hw ls hl
  have cx : Cx p s m _ meth c (XI D cs wi) D d A "java/util/ArrayList" cJ2_size 1 (some .int) "size" := cx
  have cx' := cx
  obtain ⟨hx, hb, hr, hlk, hml, hown, hts, hK, hA, hXs, hnm⟩ := cx'
  have hl : lv_has ls 1 [(0, .ref la)] := hl
  generalize hlo : ([] : List Loc) = locs at hw ⊢
  refine lv_aload_n hx hb dJ2_size_0 rfl (lv_at hl 0 rfl) ?_
  refine va_get (ci := 3) (C := RJ2) (T := TJ2) (N := 3) hx hb hts in_J2 hown hK hw.1 0 rfl rfl 2 (by decide) (hts _ q146) (fun _ h9 => h9) rfl dJ2_size_1 ?_
  exact x_retI cx hw rfl () rfl [0] rfl rfl (Nat.le_of_ble_eq_true rfl) (Nat.le_of_ble_eq_true rfl) dJ2_size_4
set_option maxHeartbeats 4000000 in
theorem mJ2_grow_2_w (l : Launch) (D : va_G) (d : Nat → ClassId) (cs : Nat → Nat) (wi : va_W) (hE : EmpF d cs wi) (la : Nat) (mc : Int32) : MetR l yJ2_grow_2 (ws_ yJ2_grow_2 cJ2_grow_2 4 (some (.array (.object "java/lang/Object")))) { frames := 1, cells := 1, slots := 10, locals := 40 } [.ref la, .int 1] (XI D cs wi) D d [(la, .inr (3, [.int mc, .ref (cs 0), .int 0]))] (fun (_ : Unit) => True) (fun _ ra9 => [(la, .inr (3, [.int mc, .ref ra9, .int 0])), (ra9, .inl (d 6, 10, .inr (.inr (.inr (.inr (fun _ => none))))))]) := by
  have hX := XI.ok (D := D) (cs := cs) (wi := wi)
  refine MetR.of (by decide +kernel) (Nat.le_of_ble_eq_true rfl) ?_
  intro p e s m below meth c A cx hw ls hl
  have cx : Cx p s m _ meth c (XI D cs wi) D d A "java/util/ArrayList" cJ2_grow_2 4 (some (.array (.object "java/lang/Object"))) "grow" := cx
  have cx' := cx
  obtain ⟨hx, hb, hr, hlk, hml, hown, hts, hK, hA, hXs, hnm⟩ := cx'
  have hl : lv_has ls 4 [(0, .ref la), (1, .int 1)] := hl
  generalize hlo : ([] : List Loc) = locs at hw ⊢
  have hPi := XI.at hXs hw
  refine lv_aload_n hx hb dJ2_grow_2_0 rfl (lv_at hl 0 rfl) ?_
  refine va_get (ci := 3) (C := RJ2) (T := TJ2) (N := 3) hx hb hts in_J2 hown hK hw.1 0 rfl rfl 1 (by decide) (hts _ q145) (fun _ h9 => h9) rfl dJ2_grow_2_1 ?_
  refine va_tlen (v := 0) hx hb (XI.eT hXs) hw.2.2 rfl dJ2_grow_2_4 ?_
  refine lv_istore_n (lv' := [(2, .int 0), (0, .ref la), (1, .int 1)]) hx hb dJ2_grow_2_5 rfl hl (by decide) rfl (fun ls hl => ?_)
  refine lv_iload_n hx hb dJ2_grow_2_6 rfl (lv_at hl 0 rfl) ?_
  refine lv_if_gt (tgt := 20) hx hb dJ2_grow_2_7 (by decide) (fun c7 => absurd c7 (by decide)) (fun c7 => ?_)
  refine lv_aload_n hx hb dJ2_grow_2_10 rfl (lv_at hl 1 rfl) ?_
  refine va_get (ci := 3) (C := RJ2) (T := TJ2) (N := 3) hx hb hts in_J2 hown hK hw.1 0 rfl rfl 1 (by decide) (hts _ q145) (fun _ h9 => h9) rfl dJ2_grow_2_11 ?_
  refine va_gets hx hb hXs.2.1.1 hw.2.2 hown (hts _ q143) (fun _ h9 => h9) dJ2_grow_2_14 ?_
  refine lv_acmp_eq (rx := some (cs 0)) (ry := some (cs 0)) (tgt := 45) hx hb dJ2_grow_2_17 (by decide) (fun c17 => ?_) (fun c17 => absurd rfl c17)
  refine lv_aload_n hx hb dJ2_grow_2_45 rfl (lv_at hl 1 rfl) ?_
  refine lv_bipush (v := 10) hx hb dJ2_grow_2_46 (by decide) ?_
  refine lv_iload_n hx hb dJ2_grow_2_48 rfl (lv_at hl 2 rfl) ?_
  refine va_mmax hx hb (hml.trans hl.1.symm) hown (hts _ q747) (hts _ q708) (hts _ q110) (hts _ q709) (Nat.le_of_ble_eq_true rfl) (Nat.le_of_ble_eq_true rfl) (Nat.le_of_ble_eq_true rfl) (Nat.le_of_ble_eq_true rfl) dJ2_grow_2_49 ?_
  refine x_newq (N := 10) (k := 6) rfl hXs.1 q741 q748 cx hw (by decide) (by decide) (by decide) (Nat.le_of_ble_eq_true rfl) (Nat.le_of_ble_eq_true rfl) dJ2_grow_2_52 (fun a0 H hw => ?_)
  have hw : Wd D A s [(la, .inr (3, [.int mc, .ref (cs 0), .int 0])), (a0, .inl (d 6, 10, .inr (.inr (.inr (.inr (fun _ => none))))))] H locs := hw
  refine lv_dup_x1 hx hb dJ2_grow_2_55 rfl rfl ?_
  refine va_put (ci := 3) (v := .ref a0) (ty := (.array (.object "java/lang/Object"))) (C := RJ2) (T := TJ2) (N := 3) hx hb hts in_J2 tyJ2 tyJ2_ok nmJ2 hown hK hw.1 hw.2.1 hw.2.2 0 rfl rfl 1 (by decide) (hts _ q145) (fun _ h9 => h9) rfl (by decide +kernel) rfl rfl (Nat.le_of_ble_eq_true rfl) dJ2_grow_2_56 (fun H locs hP hD hS => ?_)
  have hw : Wd D A s [(la, .inr (3, [.int mc, .ref a0, .int 0])), (a0, .inl (d 6, 10, .inr (.inr (.inr (.inr (fun _ => none))))))] H locs := ⟨hP, hD, hS⟩
  exact x_retR cx hw (Or.inr ⟨_, rfl⟩) () trivial [0, 1] rfl rfl (Nat.le_of_ble_eq_true rfl) (Nat.le_of_ble_eq_true rfl) dJ2_grow_2_59
theorem hd_J2_grow_2 : yJ2_grow_2.cls = "java/util/ArrayList" ∧ yJ2_grow_2.cls ≠ "java/lang/invoke/MethodHandle" ∧ yJ2_grow_2.cls ≠ "java/lang/invoke/VarHandle" ∧ (parseMethodDescriptor yJ2_grow_2.desc).map (fun d => d.parameters.length) = some 1 := by decide +kernel
set_option maxHeartbeats 4000000 in
theorem mJ2_grow_w (l : Launch) (D : va_G) (d : Nat → ClassId) (cs : Nat → Nat) (wi : va_W) (hE : EmpF d cs wi) (la : Nat) (mc : Int32) : MetR l yJ2_grow (ws_ yJ2_grow cJ2_grow 1 (some (.array (.object "java/lang/Object")))) { frames := 2, cells := 1, slots := 10, locals := 80 } [.ref la] (XI D cs wi) D d [(la, .inr (3, [.int mc, .ref (cs 0), .int 0]))] (fun (_ : Unit) => True) (fun _ ra9 => [(la, .inr (3, [.int mc, .ref ra9, .int 0])), (ra9, .inl (d 6, 10, .inr (.inr (.inr (.inr (fun _ => none))))))]) := by
  have hX := XI.ok (D := D) (cs := cs) (wi := wi)
  refine MetR.of (by decide +kernel) (Nat.le_of_ble_eq_true rfl) ?_
  intro p e s m below meth c A cx hw ls hl
  have cx : Cx p s m _ meth c (XI D cs wi) D d A "java/util/ArrayList" cJ2_grow 1 (some (.array (.object "java/lang/Object"))) "grow" := cx
  have cx' := cx
  obtain ⟨hx, hb, hr, hlk, hml, hown, hts, hK, hA, hXs, hnm⟩ := cx'
  have hl : lv_has ls 1 [(0, .ref la)] := hl
  generalize hlo : ([] : List Loc) = locs at hw ⊢
  refine lv_aload_n hx hb dJ2_grow_0 rfl (lv_at hl 0 rfl) ?_
  refine lv_aload_n hx hb dJ2_grow_1 rfl (lv_at hl 0 rfl) ?_
  refine va_get (ci := 3) (C := RJ2) (T := TJ2) (N := 3) hx hb hts in_J2 hown hK hw.1 0 rfl rfl 2 (by decide) (hts _ q146) (fun _ h9 => h9) rfl dJ2_grow_2 ?_
  refine lv_iconst (v := 1) hx hb dJ2_grow_5 (by decide) ?_
  refine lv_iadd hx hb dJ2_grow_6 ?_
  rw [show ((0 : Int32) + 1) = 1 from by decide]
  refine x_VR (wr := []) (rest := []) [.int 1] hX cx hw hl.1 (mJ2_grow_2_w l D d cs wi hE la mc) (lw_V q700 q702 qs16 q86 q703) hd_J2_grow_2 ⟨(Nat.le_of_ble_eq_true rfl), (Nat.le_of_ble_eq_true rfl)⟩ (va_recv hK hw.1 (ci := 3) (q0 := 0) rfl rfl) rfl rfl (Nat.le_of_ble_eq_true rfl) dJ2_grow_7 [0] [] rfl rfl rfl rfl (by decide) ⟨(Nat.le_of_ble_eq_true rfl), (Nat.le_of_ble_eq_true rfl)⟩ (fun u a0 H locs hp hw => ?_)
  have hw : Wd D A s [(la, .inr (3, [.int mc, .ref a0, .int 0])), (a0, .inl (d 6, 10, .inr (.inr (.inr (.inr (fun _ => none))))))] H locs := hw
  exact x_retR cx hw (Or.inr ⟨_, rfl⟩) () trivial [0, 1] rfl rfl (Nat.le_of_ble_eq_true rfl) (Nat.le_of_ble_eq_true rfl) dJ2_grow_10
theorem hd_J2_grow : yJ2_grow.cls = "java/util/ArrayList" ∧ yJ2_grow.cls ≠ "java/lang/invoke/MethodHandle" ∧ yJ2_grow.cls ≠ "java/lang/invoke/VarHandle" ∧ (parseMethodDescriptor yJ2_grow.desc).map (fun d => d.parameters.length) = some 0 := by decide +kernel
set_option maxHeartbeats 4000000 in
theorem mJ2_add_2_w0 (l : Launch) (D : va_G) (d : Nat → ClassId) (cs : Nat → Nat) (wi : va_W) (hE : EmpF d cs wi) (la da k : Nat) (fs : List Value) (mc : Int32) (hk : k < 5) : MetV l yJ2_add_2 (ws_ yJ2_add_2 cJ2_add_2 4 none) { frames := 3, cells := 1, slots := 10, locals := 120 } [.ref la, .ref da, .ref (cs 0), .int 0] (XI D cs wi) D d [(la, .inr (3, [.int mc, .ref (cs 0), .int 0])), (da, .inr (5 + k, fs))] (fun (_ : Nat) => True) (fun u => [(la, .inr (3, [.int mc, .ref u, .int 1])), (u, .inl (d 6, 10, .inr (.inr (.inr (.inr (va_up (fun _ => none) 0 (some da))))))), (da, .inr (5 + k, fs))]) := by
  have hX := XI.ok (D := D) (cs := cs) (wi := wi)
  refine MetV.of (by decide +kernel) (Nat.le_of_ble_eq_true rfl) ?_
  intro p e s m below meth c A cx hw ls hl
  have cx : Cx p s m _ meth c (XI D cs wi) D d A "java/util/ArrayList" cJ2_add_2 4 none "add" := cx
  have cx' := cx
  obtain ⟨hx, hb, hr, hlk, hml, hown, hts, hK, hA, hXs, hnm⟩ := cx'
  have hl : lv_has ls 4 [(0, .ref la), (1, .ref da), (2, .ref (cs 0)), (3, .int 0)] := hl
  generalize hlo : ([] : List Loc) = locs at hw ⊢
  have hE0 := hE
  have hPi := XI.at hXs hw
  refine lv_iload_n hx hb dJ2_add_2_0 rfl (lv_at hl 3 rfl) ?_
  refine lv_aload_n hx hb dJ2_add_2_1 rfl (lv_at hl 2 rfl) ?_
  refine va_tlen (v := 0) hx hb (XI.eT hXs) hw.2.2 rfl dJ2_add_2_2 ?_
  refine lv_icmp_ne (tgt := 11) hx hb dJ2_add_2_3 (by decide) (fun c3 => absurd rfl c3) (fun c3 => ?_)
  refine lv_aload_n hx hb dJ2_add_2_6 rfl (lv_at hl 0 rfl) ?_
  refine x_VR (wr := [(da, .inr (5 + k, fs))]) (rest := []) [] hX cx hw hl.1 (mJ2_grow_w l D d cs wi hE0 la mc) (lw_V q696 q698 qs15 q86 q699) hd_J2_grow ⟨(Nat.le_of_ble_eq_true rfl), (Nat.le_of_ble_eq_true rfl)⟩ (va_recv hK hw.1 (ci := 3) (q0 := 0) rfl rfl) rfl rfl (Nat.le_of_ble_eq_true rfl) dJ2_add_2_7 [0] [1] rfl rfl rfl rfl (by decide) ⟨(Nat.le_of_ble_eq_true rfl), (Nat.le_of_ble_eq_true rfl)⟩ (fun u a0 H locs hp hw => ?_)
  have hw : Wd D A s [(da, .inr (5 + k, fs)), (la, .inr (3, [.int mc, .ref a0, .int 0])), (a0, .inl (d 6, 10, .inr (.inr (.inr (.inr (fun _ => none))))))] H locs := hw
  refine W.widen (k := 1) (n := 10) (Nat.le_of_ble_eq_true rfl) (Nat.le_of_ble_eq_true rfl) ?_
  refine lv_astore_n (lv' := [(2, .ref a0), (0, .ref la), (1, .ref da), (3, .int 0)]) hx hb dJ2_add_2_10 rfl hl (by decide) rfl (fun ls hl => ?_)
  refine lv_aload_n hx hb dJ2_add_2_11 rfl (lv_at hl 0 rfl) ?_
  refine lv_iload_n hx hb dJ2_add_2_12 rfl (lv_at hl 3 rfl) ?_
  refine lv_aload_n hx hb dJ2_add_2_13 rfl (lv_at hl 2 rfl) ?_
  refine va_astqM hx hb hK hw.1 hw.2.1 hw.2.2 2 6 rfl rfl (dish_any hXs.1 hK hw.1 (q0 := 0) rfl hk) (i := 0) (by unfold vp_in; decide) dJ2_add_2_14 (fun H locs hP hD hS => ?_)
  have hw : Wd D A s [(da, .inr (5 + k, fs)), (la, .inr (3, [.int mc, .ref a0, .int 0])), (a0, .inl (d 6, 10, .inr (.inr (.inr (.inr (va_up (fun _ => none) 0 (some da)))))))] H locs := ⟨hP, hD, hS⟩
  refine lv_aload_n hx hb dJ2_add_2_15 rfl (lv_at hl 1 rfl) ?_
  refine lv_iload_n hx hb dJ2_add_2_16 rfl (lv_at hl 3 rfl) ?_
  refine lv_iconst (v := 1) hx hb dJ2_add_2_17 (by decide) ?_
  refine lv_iadd hx hb dJ2_add_2_18 ?_
  rw [show ((0 : Int32) + 1) = 1 from by decide]
  refine va_put (ci := 3) (v := .int 1) (ty := .int) (C := RJ2) (T := TJ2) (N := 3) hx hb hts in_J2 tyJ2 tyJ2_ok nmJ2 hown hK hw.1 hw.2.1 hw.2.2 1 rfl rfl 2 (by decide) (hts _ q146) (fun _ h9 => h9) rfl (by decide +kernel) rfl rfl (Nat.le_of_ble_eq_true rfl) dJ2_add_2_19 (fun H locs hP hD hS => ?_)
  have hw : Wd D A s [(da, .inr (5 + k, fs)), (la, .inr (3, [.int mc, .ref a0, .int 1])), (a0, .inl (d 6, 10, .inr (.inr (.inr (.inr (va_up (fun _ => none) 0 (some da)))))))] H locs := ⟨hP, hD, hS⟩
  exact x_retV cx hw a0 trivial [1, 2, 0] rfl rfl (Nat.le_of_ble_eq_true rfl) (Nat.le_of_ble_eq_true rfl) dJ2_add_2_22
set_option maxHeartbeats 4000000 in
theorem mJ2_add_2_w1 (l : Launch) (D : va_G) (d : Nat → ClassId) (cs : Nat → Nat) (wi : va_W) (la ea da k : Nat) (fs : List Value) (mc N : Int32) (LF : Nat → Option Nat) (hk : k < 5) (hN : vp_in N 10) : MetV l yJ2_add_2 (ws_ yJ2_add_2 cJ2_add_2 4 none) { frames := 3, cells := 1, slots := 10, locals := 120 } [.ref la, .ref da, .ref ea, .int N] (XI D cs wi) D d [(la, .inr (3, [.int mc, .ref ea, .int N])), (ea, .inl (d 6, 10, .inr (.inr (.inr (.inr LF))))), (da, .inr (5 + k, fs))] (fun (_ : Unit) => True) (fun _ => [(la, .inr (3, [.int mc, .ref ea, .int (N + 1)])), (ea, .inl (d 6, 10, .inr (.inr (.inr (.inr (va_up LF N.toNatClampNeg (some da))))))), (da, .inr (5 + k, fs))]) := by
  have hX := XI.ok (D := D) (cs := cs) (wi := wi)
  refine MetV.of (by decide +kernel) (Nat.le_of_ble_eq_true rfl) ?_
  intro p e s m below meth c A cx hw ls hl
  have cx : Cx p s m _ meth c (XI D cs wi) D d A "java/util/ArrayList" cJ2_add_2 4 none "add" := cx
  have cx' := cx
  obtain ⟨hx, hb, hr, hlk, hml, hown, hts, hK, hA, hXs, hnm⟩ := cx'
  have hl : lv_has ls 4 [(0, .ref la), (1, .ref da), (2, .ref ea), (3, .int N)] := hl
  generalize hlo : ([] : List Loc) = locs at hw ⊢
  refine lv_iload_n hx hb dJ2_add_2_0 rfl (lv_at hl 3 rfl) ?_
  refine lv_aload_n hx hb dJ2_add_2_1 rfl (lv_at hl 2 rfl) ?_
  refine va_alen (v := 10) hx hb hK hw.1 1 6 rfl rfl rfl dJ2_add_2_2 ?_
  refine lv_icmp_ne (tgt := 11) hx hb dJ2_add_2_3 (by decide) (fun c3 => ?_) (fun c3 => absurd (Or.inr (by rw [c3]; decide)) hN)
  refine lv_aload_n hx hb dJ2_add_2_11 rfl (lv_at hl 2 rfl) ?_
  refine lv_iload_n hx hb dJ2_add_2_12 rfl (lv_at hl 3 rfl) ?_
  refine lv_aload_n hx hb dJ2_add_2_13 rfl (lv_at hl 1 rfl) ?_
  refine va_astqM hx hb hK hw.1 hw.2.1 hw.2.2 1 6 rfl rfl (dish_any hXs.1 hK hw.1 (q0 := 2) rfl hk) hN dJ2_add_2_14 (fun H locs hP hD hS => ?_)
  have hw : Wd D A s [(la, .inr (3, [.int mc, .ref ea, .int N])), (ea, .inl (d 6, 10, .inr (.inr (.inr (.inr (va_up LF N.toNatClampNeg (some da))))))), (da, .inr (5 + k, fs))] H locs := ⟨hP, hD, hS⟩
  refine lv_aload_n hx hb dJ2_add_2_15 rfl (lv_at hl 0 rfl) ?_
  refine lv_iload_n hx hb dJ2_add_2_16 rfl (lv_at hl 3 rfl) ?_
  refine lv_iconst (v := 1) hx hb dJ2_add_2_17 (by decide) ?_
  refine lv_iadd hx hb dJ2_add_2_18 ?_
  refine va_put (ci := 3) (v := .int (N + 1)) (ty := .int) (C := RJ2) (T := TJ2) (N := 3) hx hb hts in_J2 tyJ2 tyJ2_ok nmJ2 hown hK hw.1 hw.2.1 hw.2.2 0 rfl rfl 2 (by decide) (hts _ q146) (fun _ h9 => h9) rfl (by decide +kernel) rfl rfl (Nat.le_of_ble_eq_true rfl) dJ2_add_2_19 (fun H locs hP hD hS => ?_)
  have hw : Wd D A s [(la, .inr (3, [.int mc, .ref ea, .int (N + 1)])), (ea, .inl (d 6, 10, .inr (.inr (.inr (.inr (va_up LF N.toNatClampNeg (some da))))))), (da, .inr (5 + k, fs))] H locs := ⟨hP, hD, hS⟩
  exact x_retV cx hw () trivial [0, 1, 2] rfl rfl (Nat.le_of_ble_eq_true rfl) (Nat.le_of_ble_eq_true rfl) dJ2_add_2_22
theorem hd_J2_add_2 : yJ2_add_2.cls = "java/util/ArrayList" ∧ yJ2_add_2.cls ≠ "java/lang/invoke/MethodHandle" ∧ yJ2_add_2.cls ≠ "java/lang/invoke/VarHandle" ∧ (parseMethodDescriptor yJ2_add_2.desc).map (fun d => d.parameters.length) = some 3 := by decide +kernel
set_option maxHeartbeats 4000000 in
theorem mJ2_add_w0 (l : Launch) (D : va_G) (d : Nat → ClassId) (cs : Nat → Nat) (wi : va_W) (hE : EmpF d cs wi) (la da k : Nat) (fs : List Value) (mc : Int32) (hk : k < 5) : MetI l yJ2_add (ws_ yJ2_add cJ2_add 2 (some .boolean)) { frames := 4, cells := 1, slots := 10, locals := 160 } [.ref la, .ref da] (XI D cs wi) D d [(la, .inr (3, [.int mc, .ref (cs 0), .int 0])), (da, .inr (5 + k, fs))] (fun r (_ : Nat) => r = 1) (fun u => [(la, .inr (3, [.int (mc + 1), .ref u, .int 1])), (u, .inl (d 6, 10, .inr (.inr (.inr (.inr (va_up (fun _ => none) 0 (some da))))))), (da, .inr (5 + k, fs))]) := by
  have hX := XI.ok (D := D) (cs := cs) (wi := wi)
  refine MetI.of (by decide +kernel) (Nat.le_of_ble_eq_true rfl) ?_
  intro p e s m below meth c A cx hw ls hl
  have cx : Cx p s m _ meth c (XI D cs wi) D d A "java/util/ArrayList" cJ2_add 2 (some .boolean) "add" := cx
  have cx' := cx
  obtain ⟨hx, hb, hr, hlk, hml, hown, hts, hK, hA, hXs, hnm⟩ := cx'
  have hl : lv_has ls 2 [(0, .ref la), (1, .ref da)] := hl
  generalize hlo : ([] : List Loc) = locs at hw ⊢
  refine lv_aload_n hx hb dJ2_add_0 rfl (lv_at hl 0 rfl) ?_
  refine lv_dup hx hb dJ2_add_1 rfl ?_
  refine va_get (ci := 3) (C := RJ2) (T := TJ2) (N := 3) hx hb hts in_J2 hown hK hw.1 0 rfl rfl 0 (by decide) (hts _ q148) (u_same (hts _ q149)) rfl dJ2_add_2 ?_
  refine lv_iconst (v := 1) hx hb dJ2_add_5 (by decide) ?_
  refine lv_iadd hx hb dJ2_add_6 ?_
  refine va_put (ci := 3) (v := .int (mc + 1)) (ty := .int) (C := RJ2) (T := TJ2) (N := 3) hx hb hts in_J2 tyJ2 tyJ2_ok nmJ2 hown hK hw.1 hw.2.1 hw.2.2 0 rfl rfl 0 (by decide) (hts _ q148) (u_same (hts _ q149)) rfl (by decide +kernel) rfl rfl (Nat.le_of_ble_eq_true rfl) dJ2_add_7 (fun H locs hP hD hS => ?_)
  have hw : Wd D A s [(la, .inr (3, [.int (mc + 1), .ref (cs 0), .int 0])), (da, .inr (5 + k, fs))] H locs := ⟨hP, hD, hS⟩
  refine lv_aload_n hx hb dJ2_add_10 rfl (lv_at hl 0 rfl) ?_
  refine lv_aload_n hx hb dJ2_add_11 rfl (lv_at hl 1 rfl) ?_
  refine lv_aload_n hx hb dJ2_add_12 rfl (lv_at hl 0 rfl) ?_
  refine va_get (ci := 3) (C := RJ2) (T := TJ2) (N := 3) hx hb hts in_J2 hown hK hw.1 0 rfl rfl 1 (by decide) (hts _ q145) (fun _ h9 => h9) rfl dJ2_add_13 ?_
  refine lv_aload_n hx hb dJ2_add_16 rfl (lv_at hl 0 rfl) ?_
  refine va_get (ci := 3) (C := RJ2) (T := TJ2) (N := 3) hx hb hts in_J2 hown hK hw.1 0 rfl rfl 2 (by decide) (hts _ q146) (fun _ h9 => h9) rfl dJ2_add_17 ?_
  refine x_VV (wr := []) (rest := []) [.ref da, .ref (cs 0), .int 0] hX cx hw hl.1 (mJ2_add_2_w0 l D d cs wi hE la da k fs (mc + 1) hk) (lw_V q692 q694 qs14 q86 q695) hd_J2_add_2 ⟨(Nat.le_of_ble_eq_true rfl), (Nat.le_of_ble_eq_true rfl)⟩ (va_recv hK hw.1 (ci := 3) (q0 := 0) rfl rfl) rfl rfl (Nat.le_of_ble_eq_true rfl) dJ2_add_20 [0, 1] [] rfl rfl rfl rfl (by decide) ⟨(Nat.le_of_ble_eq_true rfl), (Nat.le_of_ble_eq_true rfl)⟩ (fun u H locs hp hw => ?_)
  have hw : Wd D A s [(la, .inr (3, [.int (mc + 1), .ref u, .int 1])), (u, .inl (d 6, 10, .inr (.inr (.inr (.inr (va_up (fun _ => none) 0 (some da))))))), (da, .inr (5 + k, fs))] H locs := hw
  refine lv_iconst (v := 1) hx hb dJ2_add_23 (by decide) ?_
  exact x_retI cx hw (gb_spec (v := 1) (u := ()) rfl) u rfl [0, 1, 2] rfl rfl (Nat.le_of_ble_eq_true rfl) (Nat.le_of_ble_eq_true rfl) dJ2_add_24
set_option maxHeartbeats 4000000 in
theorem mJ2_add_w1 (l : Launch) (D : va_G) (d : Nat → ClassId) (cs : Nat → Nat) (wi : va_W) (la ea da k : Nat) (fs : List Value) (mc N : Int32) (LF : Nat → Option Nat) (hk : k < 5) (hN : vp_in N 10) : MetI l yJ2_add (ws_ yJ2_add cJ2_add 2 (some .boolean)) { frames := 4, cells := 1, slots := 10, locals := 160 } [.ref la, .ref da] (XI D cs wi) D d [(la, .inr (3, [.int mc, .ref ea, .int N])), (ea, .inl (d 6, 10, .inr (.inr (.inr (.inr LF))))), (da, .inr (5 + k, fs))] (fun r (_ : Unit) => r = 1) (fun _ => [(la, .inr (3, [.int (mc + 1), .ref ea, .int (N + 1)])), (ea, .inl (d 6, 10, .inr (.inr (.inr (.inr (va_up LF N.toNatClampNeg (some da))))))), (da, .inr (5 + k, fs))]) := by
  have hX := XI.ok (D := D) (cs := cs) (wi := wi)
  refine MetI.of (by decide +kernel) (Nat.le_of_ble_eq_true rfl) ?_
  intro p e s m below meth c A cx hw ls hl
  have cx : Cx p s m _ meth c (XI D cs wi) D d A "java/util/ArrayList" cJ2_add 2 (some .boolean) "add" := cx
  have cx' := cx
  obtain ⟨hx, hb, hr, hlk, hml, hown, hts, hK, hA, hXs, hnm⟩ := cx'
  have hl : lv_has ls 2 [(0, .ref la), (1, .ref da)] := hl
  generalize hlo : ([] : List Loc) = locs at hw ⊢
  refine lv_aload_n hx hb dJ2_add_0 rfl (lv_at hl 0 rfl) ?_
  refine lv_dup hx hb dJ2_add_1 rfl ?_
  refine va_get (ci := 3) (C := RJ2) (T := TJ2) (N := 3) hx hb hts in_J2 hown hK hw.1 0 rfl rfl 0 (by decide) (hts _ q148) (u_same (hts _ q149)) rfl dJ2_add_2 ?_
  refine lv_iconst (v := 1) hx hb dJ2_add_5 (by decide) ?_
  refine lv_iadd hx hb dJ2_add_6 ?_
  refine va_put (ci := 3) (v := .int (mc + 1)) (ty := .int) (C := RJ2) (T := TJ2) (N := 3) hx hb hts in_J2 tyJ2 tyJ2_ok nmJ2 hown hK hw.1 hw.2.1 hw.2.2 0 rfl rfl 0 (by decide) (hts _ q148) (u_same (hts _ q149)) rfl (by decide +kernel) rfl rfl (Nat.le_of_ble_eq_true rfl) dJ2_add_7 (fun H locs hP hD hS => ?_)
  have hw : Wd D A s [(la, .inr (3, [.int (mc + 1), .ref ea, .int N])), (ea, .inl (d 6, 10, .inr (.inr (.inr (.inr LF))))), (da, .inr (5 + k, fs))] H locs := ⟨hP, hD, hS⟩
  refine lv_aload_n hx hb dJ2_add_10 rfl (lv_at hl 0 rfl) ?_
  refine lv_aload_n hx hb dJ2_add_11 rfl (lv_at hl 1 rfl) ?_
  refine lv_aload_n hx hb dJ2_add_12 rfl (lv_at hl 0 rfl) ?_
  refine va_get (ci := 3) (C := RJ2) (T := TJ2) (N := 3) hx hb hts in_J2 hown hK hw.1 0 rfl rfl 1 (by decide) (hts _ q145) (fun _ h9 => h9) rfl dJ2_add_13 ?_
  refine lv_aload_n hx hb dJ2_add_16 rfl (lv_at hl 0 rfl) ?_
  refine va_get (ci := 3) (C := RJ2) (T := TJ2) (N := 3) hx hb hts in_J2 hown hK hw.1 0 rfl rfl 2 (by decide) (hts _ q146) (fun _ h9 => h9) rfl dJ2_add_17 ?_
  refine x_VV (wr := []) (rest := []) [.ref da, .ref ea, .int N] hX cx hw hl.1 (mJ2_add_2_w1 l D d cs wi la ea da k fs (mc + 1) N LF hk hN) (lw_V q692 q694 qs14 q86 q695) hd_J2_add_2 ⟨(Nat.le_of_ble_eq_true rfl), (Nat.le_of_ble_eq_true rfl)⟩ (va_recv hK hw.1 (ci := 3) (q0 := 0) rfl rfl) rfl rfl (Nat.le_of_ble_eq_true rfl) dJ2_add_20 [0, 1, 2] [] rfl rfl rfl rfl (by decide) ⟨(Nat.le_of_ble_eq_true rfl), (Nat.le_of_ble_eq_true rfl)⟩ (fun u H locs hp hw => ?_)
  have hw : Wd D A s [(la, .inr (3, [.int (mc + 1), .ref ea, .int (N + 1)])), (ea, .inl (d 6, 10, .inr (.inr (.inr (.inr (va_up LF N.toNatClampNeg (some da))))))), (da, .inr (5 + k, fs))] H locs := hw
  refine lv_iconst (v := 1) hx hb dJ2_add_23 (by decide) ?_
  exact x_retI cx hw (gb_spec (v := 1) (u := ()) rfl) () rfl [0, 1, 2] rfl rfl (Nat.le_of_ble_eq_true rfl) (Nat.le_of_ble_eq_true rfl) dJ2_add_24
theorem hd_J2_add : yJ2_add.cls = "java/util/ArrayList" ∧ yJ2_add.cls ≠ "java/lang/invoke/MethodHandle" ∧ yJ2_add.cls ≠ "java/lang/invoke/VarHandle" ∧ (parseMethodDescriptor yJ2_add.desc).map (fun d => d.parameters.length) = some 1 := by decide +kernel
