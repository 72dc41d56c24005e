/-! CASTS OF DISHES -/
set_option maxRecDepth 100000
def dnmK (k : Nat) : String := if k = 0 then "DishLift$Hot" else if k = 1 then "DishLift$Soup" else if k = 2 then "DishLift$Roast" else if k = 3 then "DishLift$Cold" else "DishLift$Ice"
def castK (t k : Nat) : Bool := t == k || (t == 0 && (k == 1 || k == 2)) || (t == 3 && k == 4)
theorem Tb.nc {U : State} (hT : Tb U) : ∀ t k : Nat, t < 5 → k < 5 → castK t k = false → va_Nc (dnmK k) (dnmK t) U := by
  obtain ⟨s0, b0, hW, -, hn, -⟩ := hT
  have hn : narrow_1.before #[Value.ref b0] s0 = true := bR hn
  have move : ∀ {C T : String}, (Cond.not (.castable C T)).before #[Value.ref b0] s0 = true → va_Nc C T U := fun h => va_Nc.moved hW.alike (va_Nc.of h)
  intro t k ht hk h
  match t, k, ht, hk, h with
  | 0, 0, _, _, h => exact absurd h (by decide)
  | 0, 1, _, _, h => exact absurd h (by decide)
  | 0, 2, _, _, h => exact absurd h (by decide)
  | 0, 3, _, _, _ => exact move (bR (bL (bL (bR (bR (bL (bR (bL hn))))))))
  | 0, 4, _, _, _ => exact move (bL (bR (bL (bR (bR (bL (bR (bL hn))))))))
  | 1, 0, _, _, _ => exact move (bL (bR (bR (bL (bL (bR (bR (bL hn))))))))
  | 1, 1, _, _, h => exact absurd h (by decide)
  | 1, 2, _, _, _ => exact move (bR (bR (bR (bL (bL (bR (bR (bL hn))))))))
  | 1, 3, _, _, _ => exact move (bL (bL (bL (bR (bL (bR (bR (bL hn))))))))
  | 1, 4, _, _, _ => exact move (bR (bL (bL (bR (bL (bR (bR (bL hn))))))))
  | 2, 0, _, _, _ => exact move (bR (bL (bR (bL (bR (bR (bR (bL hn))))))))
  | 2, 1, _, _, _ => exact move (bL (bR (bR (bL (bR (bR (bR (bL hn))))))))
  | 2, 2, _, _, h => exact absurd h (by decide)
  | 2, 3, _, _, _ => exact move (bR (bR (bR (bL (bR (bR (bR (bL hn))))))))
  | 2, 4, _, _, _ => exact move (bL (bL (bL (bR (bR (bR (bR (bL hn))))))))
  | 3, 0, _, _, _ => exact move (bR (bR (bL (bL (bL (bL (bL (bR hn))))))))
  | 3, 1, _, _, _ => exact move (bL (bL (bR (bL (bL (bL (bL (bR hn))))))))
  | 3, 2, _, _, _ => exact move (bR (bL (bR (bL (bL (bL (bL (bR hn))))))))
  | 3, 3, _, _, h => exact absurd h (by decide)
  | 3, 4, _, _, h => exact absurd h (by decide)
  | 4, 0, _, _, _ => exact move (bR (bL (bL (bL (bR (bL (bL (bR hn))))))))
  | 4, 1, _, _, _ => exact move (bL (bR (bL (bL (bR (bL (bL (bR hn))))))))
  | 4, 2, _, _, _ => exact move (bR (bR (bL (bL (bR (bL (bL (bR hn))))))))
  | 4, 3, _, _, _ => exact move (bL (bL (bR (bL (bR (bL (bL (bR hn))))))))
  | 4, 4, _, _, h => exact absurd h (by decide)
  | t + 5, k, ht, _, _ => omega
  | t, k + 5, _, hk, _ => omega
def cceN : String := "java/lang/ClassCastException"
def cceU : List String := ["java/lang/RuntimeException", "java/lang/Exception"]
theorem cce_in : (vx_atM cceN cceU).all inL = true := by decide +kernel
theorem cce_ot : ∀ w ∈ vx_atM cceN cceU, vx_ot w = true := by decide +kernel
/-- a class of the claim's own: the bootstrap loader's, not hidden, of the unnamed package -/
def OwnK (k : Class) : Prop := k.hidden = none ∧ k.loader = none ∧ (dotted k.name).toList.length ≤ 15 ∧ packageOf k.name = ""
theorem OwnK.of {vm : Vm} {C : String} {c : ClassId} {k : Class} (h : vm.findClass C = some c) (hk : vm.classes[c]? = some k) (hC : (dotted C).toList.length ≤ 15 ∧ packageOf C = "") : OwnK k := by
  obtain ⟨hlt, hp, _⟩ := Array.findIdx?_eq_some_iff_getElem.mp h
  have e : vm.classes[c] = k := by
    have := Array.getElem?_eq_getElem hlt
    rw [hk] at this
    exact (Option.some.inj this).symm
  rw [e] at hp
  simp only [Bool.and_eq_true, beq_iff_eq, Option.isNone_iff_eq_none] at hp
  refine ⟨hp.1.1.2, hp.2, ?_, ?_⟩
  · rw [hp.1.1.1]; exact hC.1
  · rw [hp.1.1.1]; exact hC.2
def MR1 (vm : Vm) : Prop := (vm.modules.all fun m => m.loader.isSome || m.name == "java.base" || !(castPackages_1.any fun p => m.packages.contains p)) = true
theorem shown_len {k : Class} (h : OwnK k) : k.shown.toList.length ≤ 15 := by
  unfold Class.shown
  rw [h.1]
  exact h.2.2.1
theorem home_len {vm : Vm} {k : Class} (hm : MR1 vm) (h : OwnK k) : (vm.home k).toList.length ≤ 42 := by
  have a1 : ("'bootstrap'" : String).toList.length = 11 := by decide
  have a2 : (" of loader " : String).toList.length = 11 := by decide
  have a3 : ("unnamed module" : String).toList.length = 14 := by decide
  have a4 : ("module " : String).toList.length = 7 := by decide
  have a5 : ("java.base" : String).toList.length = 9 := by decide
  unfold Vm.home Vm.loaderName
  rw [h.2.1]
  simp only [String.toList_append, List.length_append]
  cases hmo : vm.moduleOf k with
  | none => simp only; omega
  | some m =>
    have hnm : m.name = "java.base" := by
      unfold Vm.moduleOf at hmo
      split at hmo
      · have := List.find?_some hmo
        simpa using this
      · have h1 := List.find?_some hmo
        have h2 := List.mem_of_find?_eq_some hmo
        have h3 := List.all_eq_true.mp hm m h2
        simp only [Bool.and_eq_true, beq_iff_eq] at h1
        rw [h.2.1] at h1
        rw [h.2.2.2] at h1
        simp only [h1.1, Option.isSome_none, Bool.false_or, Bool.or_eq_true, beq_iff_eq, Bool.not_eq_true'] at h3
        rcases h3 with h3 | h3
        · exact h3
        · exfalso
          have h4 : (castPackages_1.any fun p => m.packages.contains p) = true := List.any_eq_true.mpr ⟨"", by decide, h1.2⟩
          rw [h4] at h3
          cases h3
    simp only [String.toList_append, List.length_append, hnm]
    omega
theorem cce_text {vm : Vm} {ks kt : Class} (hm : MR1 vm) (h1 : OwnK ks) (h2 : OwnK kt) : (Op.checkcast.message vm ks kt == notModelled) = false ∧ (stringBytes (stringToUtf16 (Op.checkcast.message vm ks kt))).size ≤ 900 := by
  have e : Op.checkcast.message vm ks kt = "class " ++ ks.shown ++ " cannot be cast to class " ++ kt.shown ++ " (" ++ vm.homes ks kt ++ ")" := rfl
  have l1 := shown_len h1
  have l2 := shown_len h2
  have l3 := home_len hm h1
  have l4 := home_len hm h2
  have a1 : ("class " : String).toList.length = 6 := by decide
  have a2 : (" cannot be cast to class " : String).toList.length = 25 := by decide
  have a3 : (" (" : String).toList.length = 2 := by decide
  have a4 : (")" : String).toList.length = 1 := by decide
  have lh : (vm.homes ks kt).toList.length ≤ 140 := by
    have b1 : (" and " : String).toList.length = 5 := by decide
    have b2 : (" are in " : String).toList.length = 8 := by decide
    have b3 : (" is in " : String).toList.length = 7 := by decide
    have b4 : ("; " : String).toList.length = 2 := by decide
    unfold Vm.homes
    split
    · show (ks.shown ++ " and " ++ kt.shown ++ " are in " ++ vm.home ks : String).toList.length ≤ 140
      simp only [String.toList_append, List.length_append, String.toList_empty, List.length_nil]
      omega
    · show (ks.shown ++ " is in " ++ vm.home ks ++ "; " ++ kt.shown ++ " is in " ++ vm.home kt : String).toList.length ≤ 140
      simp only [String.toList_append, List.length_append, String.toList_empty, List.length_nil]
      omega
  refine ⟨?_, ?_⟩
  · rw [beq_eq_false_iff_ne]
    intro hh
    have h2 := congrArg String.toList hh
    rw [e] at h2
    simp only [String.toList_append, List.append_assoc] at h2
    have h4 : notModelled.toList = '\u0000' :: " a message that is not modelled".toList := by decide
    have h5 : ("class " : String).toList = 'c' :: "lass ".toList := by decide
    rw [h4, h5] at h2
    simp at h2
  · have c1 := stringBytes_size_le (stringToUtf16 (Op.checkcast.message vm ks kt))
    have c2 := utf16_size_le (Op.checkcast.message vm ks kt)
    have c3 : (Op.checkcast.message vm ks kt).toList.length ≤ 220 := by
      rw [e]
      simp only [String.toList_append, List.length_append]
      omega
    omega
theorem Tb.mr {U : State} (hT : Tb U) : MR1 U.vm := by
  obtain ⟨s0, b0, hW, -, -, h⟩ := hT
  have e : U.vm.modules = s0.vm.modules := by rw [hW.alike.1]
  unfold MR1
  rw [e]
  exact h
section XCC
variable {p : Program} {l : Launch} {e : Env} {R : Room} {s : State} {m : MethodId} {args : Array Value} {below : List Frame} {meth : Method} {c : Code} {H : Heap} {locs : List Loc} {cells slots : Nat} {Q : State → Prop}
variable {cc : ByteArray} {pc : Nat} {ls : Array Slot} {rest : List Value} {D : va_G} {d : Nat → ClassId} {A : Nat → Prop} {cs : Nat → Nat} {wi ws : va_W} {own nm : String} {nL a : Nat} {ret : Option FieldType}
set_option maxHeartbeats 1000000 in
theorem x_ccx (hfl : l.stackTraces = false) (hE : XL A s s.heap) (cx : Cx p s m args meth c (XI D cs wi) D d A own cc nL ret nm) (hw : Wd D A s ws H locs) (hl : ls.size = nL) {C T : String} {idx : Nat} (hlink : Cond.classLink own idx T ∈ lw_all) (hc : va_Nc C T s) (hrecv : ∃ cell : Cell, H[a]? = some cell ∧ cell.vm.isStatics = false ∧ s.vm.findClass C = some cell.cls)
    (hC : (dotted C).toList.length ≤ 15 ∧ packageOf C = "") (hTn : (dotted T).toList.length ≤ 15 ∧ packageOf T = "") (hRf : 7 ≤ R.frames) (hRl : ((Value.ref a :: rest).map fun v => v.category).sum + 10240 ≤ R.locals) (hRc : cells + 3 ≤ R.cells) (hRs : slots + 910 ≤ R.slots) (hdg : decode cc pc = .ok (.checkcast idx, 3))
    (k : ∀ (H1 : Heap) (q9 : Addr) (ce : Cell), Wd D A s ws H1 locs → H1[q9]? = some ce → ce.vm = .none → s.vm.findClass cceN = some ce.cls → vx_W p l e R s m args below meth c H1 locs (cells + 3) (slots + 910) Q (F0 m pc ls (.ref a :: rest)) q9) :
    W p l e R s m args below meth c H locs cells slots Q (F0 m pc ls (.ref a :: rest)) := by
  have cx' := cx
  obtain ⟨hx, hb, hr, hlk, hml, hown, hts, hK, hA, hXs, hnm⟩ := cx'
  obtain ⟨cell, hcell, hobj, hfC⟩ := hrecv
  obtain ⟨c0, cT, f1, f2, f3⟩ := hc
  cases hfC.symm.trans f1
  obtain ⟨ks, hks, -⟩ := Vm.findClass_spec hfC
  intro T0 hT X
  have hpl : e.platform.magicAccessors = ({} : Platform).magicAccessors := by rw [X.admits.platform]
  obtain ⟨c', hc', hcl⟩ := Cond.classLink_spec hown (hts _ hlink) e.platform hpl
  cases f2.symm.trans hc'
  obtain ⟨dk, _, _, kt, hd, _, _, _, _, hkt, _, hopen⟩ := hcl.here
  have hcl₀ := X.warmed.classLinks hcl
  have hW' : s.WarmedH (T0.vm.noted m.cls idx (.cls cT)) := X.warmed.noted hd hopen (State.rightAt_cls hcl)
  obtain ⟨ks', hks', es⟩ := hW'.alike.2.2 _ _ hks
  obtain ⟨kt', hkt', et⟩ := hW'.alike.2.2 _ _ hkt
  have X' := X.noted hW'
  have hm1 : MR1 (T0.vm.noted m.cls idx (.cls cT)) := by
    have h0 := Tb.mr hXs.1
    unfold MR1 at h0 ⊢
    rw [show (T0.vm.noted m.cls idx (.cls cT)).modules = s.vm.modules by rw [hW'.alike.1]]
    exact h0
  have o1 : OwnK ks' := OwnK.of (by rw [hW'.alike.findClass]; exact hfC) hks' hC
  have o2 : OwnK kt' := OwnK.of (by rw [hW'.alike.findClass]; exact f2) hkt' hTn
  obtain ⟨htext, hnb⟩ := cce_text hm1 o1 o2
  have hN := vx_vm (l := l) (e := e) (R := R) (below := below) (meth := meth) (c := c) (m := m) (cells := cells) (slots := slots) (pc := pc) (ls := ls) (rest := .ref a :: rest) (Q := Q) hx hfl (cls := cceN) (text := Op.checkcast.message (T0.vm.noted m.cls idx (.cls cT)) ks' kt') (names := cceU) (nb := 900) (A := A) (by decide +kernel) (by decide +kernel) (by decide +kernel) (by decide +kernel) (vx_hats cce_in hts hXs.1) cce_ot ⟨hXs.2.1.2.1, hE.1⟩ ⟨hXs.2.1.2.2.1, hE.2⟩ hw.2.2 (by rw [hml]; exact hl) htext hnb (by decide) (show 2 + 4 < R.frames by omega) hRl (by decide) hRc hRs hlk
    (fun H1 q9 ce g1 g2 g3 g4 g5 g6 => k H1 q9 ce ⟨hw.1.kept (fun j q hq => g2 q.1 (hw.1 j q hq).lt), hw.2.1, g3⟩ g4 g5 g6)
  obtain ⟨t, st, hQ⟩ := hN (T0.setVm (T0.vm.noted m.cls idx (.cls cT))) hT X'
  refine ⟨t, ?_, hQ⟩
  have hdg' : decode c.code (F0 m pc ls (.ref a :: rest)).pc = .ok (.checkcast idx, 3) := by rw [hb]; exact hdg
  have hst : (F0 m pc ls (.ref a :: rest)).stack = .ref a :: rest := rfl
  have hmm : (F0 m pc ls (.ref a :: rest)).method = m := rfl
  jvm_step X.here [hx, hdg', checkcast.wp_cold (e := e) (s := T0) (f := F0 m pc ls (.ref a :: rest)) X.here.top hst (resolveClass_links e.toSetting hcl₀) hcl₀.ready,
    checkcast.wp_ready (e := e) (s := T0.setVm (T0.vm.noted m.cls idx (.cls cT))) (f := F0 m pc ls (.ref a :: rest)) X.here.top hcl₀.ready hst]
  refine ⟨cell, by show T0.heap[a]? = _; rw [hT]; exact hcell, VmData.noStatics_of hobj, ks', hks', kt', hkt', ?_⟩
  have h1 : (T0.vm.noted m.cls idx (Resolved.cls cT)).assignable cell.cls cT = false := by rw [hW'.alike.assignable]; exact f3
  simp only [h1]
  exact st
end XCC
section XCK
variable {p : Program} {l : Launch} {e : Env} {R : Room} {s : State} {m : MethodId} {args : Array Value} {below : List Frame} {meth : Method} {c : Code} {H : Heap} {locs : List Loc} {cells slots : Nat} {Q : State → Prop}
variable {cc : ByteArray} {pc : Nat} {ls : Array Slot} {rest : List Value} {D : va_G} {d : Nat → ClassId} {A : Nat → Prop} {cs : Nat → Nat} {wi ws : va_W} {own nm : String} {nL a : Nat} {ret : Option FieldType} {ln : Nat → Option Int32} {lf : Nat → Nat → Option Nat} {dk : Nat → Option Nat} {dn : Nat → Int32}
theorem dish_recvK {k : Nat} (him : ImF d wi ln lf dk dn) (hX : XI D cs wi A s s.heap) (hK : va_K D vwCl (tyA d) s) (hw : Wd D A s ws H locs) (hkd : dk a = some k) : k < 5 ∧ ∃ cell : Cell, H[a]? = some cell ∧ cell.vm.isStatics = false ∧ s.vm.findClass (dnmK k) = some cell.cls := by
  obtain ⟨hk, hm⟩ := him.2 a k hkd
  refine ⟨hk, ?_⟩
  match k, hk, hm with
  | 0, _, hm => exact dish_recv hX hK hw hm rfl
  | 1, _, hm => exact dish_recv hX hK hw hm rfl
  | 2, _, hm => exact dish_recv hX hK hw hm rfl
  | 3, _, hm => exact dish_recv hX hK hw hm rfl
  | 4, _, hm => exact dish_recv hX hK hw hm rfl
theorem x_castOK {t k idx : Nat} (him : ImF d wi ln lf dk dn) (hkd : dk a = some k) (ht : t < 5) (hok : castK t k = true) (cx : Cx p s m args meth c (XI D cs wi) D d A own cc nL ret nm) (hw : Wd D A s ws H locs) (hlink : (Cond.classLink own idx (dnmK t)).before args s = true) (hdg : decode cc pc = .ok (.checkcast idx, 3))
    (kk : W p l e R s m args below meth c H locs cells slots Q (F0 m (pc + 3) ls (.ref a :: rest))) : W p l e R s m args below meth c H locs cells slots Q (F0 m pc ls (.ref a :: rest)) := by
  have cx' := cx
  obtain ⟨hx, hb, hr, hlk, hml, hown, hts, hK, hA, hXs, hnm⟩ := cx'
  obtain ⟨hk, hrecv⟩ := dish_recvK him hXs hK hw hkd
  match t, k, ht, hk, hok, hlink, hrecv with
  | 0, 0, _, _, _, hlink, hrecv => exact va_castS hx hb hown hlink (hK.1 5 _ rfl).2 hrecv hdg kk
  | 0, 1, _, _, _, hlink, hrecv => exact va_castY hx hb hown hlink (Tb.cast q1698 hXs.1) hrecv hdg kk
  | 0, 2, _, _, _, hlink, hrecv => exact va_castY hx hb hown hlink (Tb.cast q1697 hXs.1) hrecv hdg kk
  | 0, 3, _, _, hok, _, _ => exact absurd hok (by decide)
  | 0, 4, _, _, hok, _, _ => exact absurd hok (by decide)
  | 1, 0, _, _, hok, _, _ => exact absurd hok (by decide)
  | 1, 1, _, _, _, hlink, hrecv => exact va_castS hx hb hown hlink (hK.1 6 _ rfl).2 hrecv hdg kk
  | 1, 2, _, _, hok, _, _ => exact absurd hok (by decide)
  | 1, 3, _, _, hok, _, _ => exact absurd hok (by decide)
  | 1, 4, _, _, hok, _, _ => exact absurd hok (by decide)
  | 2, 0, _, _, hok, _, _ => exact absurd hok (by decide)
  | 2, 1, _, _, hok, _, _ => exact absurd hok (by decide)
  | 2, 2, _, _, _, hlink, hrecv => exact va_castS hx hb hown hlink (hK.1 7 _ rfl).2 hrecv hdg kk
  | 2, 3, _, _, hok, _, _ => exact absurd hok (by decide)
  | 2, 4, _, _, hok, _, _ => exact absurd hok (by decide)
  | 3, 0, _, _, hok, _, _ => exact absurd hok (by decide)
  | 3, 1, _, _, hok, _, _ => exact absurd hok (by decide)
  | 3, 2, _, _, hok, _, _ => exact absurd hok (by decide)
  | 3, 3, _, _, _, hlink, hrecv => exact va_castS hx hb hown hlink (hK.1 8 _ rfl).2 hrecv hdg kk
  | 3, 4, _, _, _, hlink, hrecv => exact va_castY hx hb hown hlink (Tb.cast q1699 hXs.1) hrecv hdg kk
  | 4, 0, _, _, hok, _, _ => exact absurd hok (by decide)
  | 4, 1, _, _, hok, _, _ => exact absurd hok (by decide)
  | 4, 2, _, _, hok, _, _ => exact absurd hok (by decide)
  | 4, 3, _, _, hok, _, _ => exact absurd hok (by decide)
  | 4, 4, _, _, _, hlink, hrecv => exact va_castS hx hb hown hlink (hK.1 9 _ rfl).2 hrecv hdg kk
  | t + 5, k, ht, _, _, _, _ => omega
  | t, k + 5, _, hk, _, _, _ => omega
theorem dnm_ok : ∀ k : Nat, k < 5 → (dotted (dnmK k)).toList.length ≤ 15 ∧ packageOf (dnmK k) = "" := by
  intro k hk
  match k, hk with
  | 0, _ => exact ⟨by decide +kernel, by decide +kernel⟩
  | 1, _ => exact ⟨by decide +kernel, by decide +kernel⟩
  | 2, _ => exact ⟨by decide +kernel, by decide +kernel⟩
  | 3, _ => exact ⟨by decide +kernel, by decide +kernel⟩
  | 4, _ => exact ⟨by decide +kernel, by decide +kernel⟩
theorem x_castNo {t k idx : Nat} (hfl : l.stackTraces = false) (hE : XL A s s.heap) (him : ImF d wi ln lf dk dn) (hkd : dk a = some k) (ht : t < 5) (hno : ¬ castK t k = true) (cx : Cx p s m args meth c (XI D cs wi) D d A own cc nL ret nm) (hw : Wd D A s ws H locs) (hl : ls.size = nL) (hlink : Cond.classLink own idx (dnmK t) ∈ lw_all) (hRf : 7 ≤ R.frames) (hRl : ((Value.ref a :: rest).map fun v => v.category).sum + 10240 ≤ R.locals) (hRc : cells + 3 ≤ R.cells) (hRs : slots + 910 ≤ R.slots) (hdg : decode cc pc = .ok (.checkcast idx, 3))
    (kk : ∀ (H1 : Heap) (q9 : Addr) (ce : Cell), Wd D A s ws H1 locs → H1[q9]? = some ce → ce.vm = .none → s.vm.findClass cceN = some ce.cls → vx_W p l e R s m args below meth c H1 locs (cells + 3) (slots + 910) Q (F0 m pc ls (.ref a :: rest)) q9) :
    W p l e R s m args below meth c H locs cells slots Q (F0 m pc ls (.ref a :: rest)) := by
  have cx' := cx
  obtain ⟨hx, hb, hr, hlk, hml, hown, hts, hK, hA, hXs, hnm⟩ := cx'
  obtain ⟨hk, hrecv⟩ := dish_recvK him hXs hK hw hkd
  exact x_ccx hfl hE cx hw hl hlink (Tb.nc hXs.1 t k ht hk (by simpa using hno)) hrecv (dnm_ok k hk) (dnm_ok t ht) hRf hRl hRc hRs hdg kk
end XCK
